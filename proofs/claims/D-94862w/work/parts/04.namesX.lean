/-! SnailPost -/
set_option maxRecDepth 100000
def RX0 : String := "SnailPost"
def TX0 : u_T := fun k => match k with
  | 0 => ("SnailPost", "status", "I", false)
  | 1 => ("SnailPost", "refused", "[I", true)
  | 2 => ("SnailPost", "state", "LSnailPost$State;", true)
  | 3 => ("SnailPost", "images", "[LSnailPost$State;", true)
  | 4 => ("SnailPost", "tape", "[B", true)
  | 5 => ("SnailPost", "taped", "I", false)
  | 6 => ("SnailPost", "fault", "I", false)
  | 7 => ("SnailPost", "spilt", "I", false)
  | 8 => ("SnailPost", "version", "I", false)
  | 9 => ("SnailPost", "setting", "LSnailPost$Setting;", true)
  | 10 => ("SnailPost", "around", "[I", true)
  | 11 => ("SnailPost", "today", "LSnailPost$Walk;", true)
  | 12 => ("SnailPost", "log", "[I", true)
  | 13 => ("SnailPost", "dayMade", "I", false)
  | 14 => ("SnailPost", "lantern", "LSnailPost$Lantern;", true)
  | 15 => ("SnailPost", "dueling", "LSnailPost$Lantern;", true)
  | 16 => ("SnailPost", "duelMade", "I", false)
  | 17 => ("SnailPost", "duelHours", "I", false)
  | 18 => ("SnailPost", "duelSnail", "I", false)
  | 19 => ("SnailPost", "duelEnd", "I", false)
  | 20 => ("SnailPost", "duelFirst", "I", false)
  | 21 => ("SnailPost", "span", "LSnailPost$Span;", true)
  | 22 => ("SnailPost", "shells", "LSnailPost$Shells;", true)
  | 23 => ("SnailPost", "orders", "LSnailPost$Orders;", true)
  | 24 => ("SnailPost", "hunted", "LSnailPost$Walk;", true)
  | 25 => ("SnailPost", "eatenIn", "[I", true)
  | 26 => ("SnailPost", "huntedMany", "I", false)
  | _ => ("SnailPost", "drawn", "I", false)
def tyX0 : Nat → FieldType := fun k => match k with
  | 0 => .int
  | 1 => .array .int
  | 2 => .object "SnailPost$State"
  | 3 => .array (.object "SnailPost$State")
  | 4 => .array .byte
  | 5 => .int
  | 6 => .int
  | 7 => .int
  | 8 => .int
  | 9 => .object "SnailPost$Setting"
  | 10 => .array .int
  | 11 => .object "SnailPost$Walk"
  | 12 => .array .int
  | 13 => .int
  | 14 => .object "SnailPost$Lantern"
  | 15 => .object "SnailPost$Lantern"
  | 16 => .int
  | 17 => .int
  | 18 => .int
  | 19 => .int
  | 20 => .int
  | 21 => .object "SnailPost$Span"
  | 22 => .object "SnailPost$Shells"
  | 23 => .object "SnailPost$Orders"
  | 24 => .object "SnailPost$Walk"
  | 25 => .array .int
  | 26 => .int
  | _ => .int
abbrev wsX00 : List Cond := u_ws RX0 TX0 28
set_option maxRecDepth 100000 in
theorem nmX0 : ∀ a, a < 28 → ∀ b, b < 28 → a ≠ b → (TX0 a).2.1 ≠ (TX0 b).2.1 := by decide +kernel
set_option maxRecDepth 100000 in
theorem tyX0_ok : ∀ k, k < 28 → parseFieldDescriptor (TX0 k).2.2.1 = some (tyX0 k) := by decide +kernel
abbrev cX0_init : ByteArray := prog_1_method_1_code
def yX0_init : MethodName := ⟨RX0, "<init>", "()V"⟩
def dkwX0_init_7 : List UInt8 := [181, 0, 91, 42, 16, 6, 188, 10, 181, 0, 94, 177]
abbrev dktX0_init_7 : List UInt8 := dkwX0_init_7 ++ []
def dkwX0_init_6 : List UInt8 := [181, 0, 80, 42, 187, 0, 84, 89, 42, 183, 0, 86, 181, 0, 87, 42, 187, 0, 42, 89, 42, 183, 0, 44]
abbrev dktX0_init_6 : List UInt8 := dkwX0_init_6 ++ dktX0_init_7
def dkwX0_init_5 : List UInt8 := [181, 0, 67, 42, 187, 0, 70, 89, 183, 0, 72, 181, 0, 73, 42, 187, 0, 77, 89, 42, 183, 0, 79]
abbrev dktX0_init_5 : List UInt8 := dkwX0_init_5 ++ dktX0_init_6
def dkwX0_init_4 : List UInt8 := [89, 42, 183, 0, 59, 181, 0, 60, 42, 187, 0, 57, 89, 42, 183, 0, 59, 181, 0, 64, 42, 2]
abbrev dktX0_init_4 : List UInt8 := dkwX0_init_4 ++ dktX0_init_5
def dkwX0_init_3 : List UInt8 := [183, 0, 44, 181, 0, 47, 42, 17, 1, 104, 188, 10, 181, 0, 51, 42, 2, 181, 0, 54, 42, 187, 0, 57]
abbrev dktX0_init_3 : List UInt8 := dkwX0_init_3 ++ dktX0_init_4
def dkwX0_init_2 : List UInt8 := [187, 0, 32, 89, 183, 0, 34, 181, 0, 35, 42, 8, 188, 10, 181, 0, 39, 42, 187, 0, 42, 89, 42]
abbrev dktX0_init_2 : List UInt8 := dkwX0_init_2 ++ dktX0_init_3
def dkwX0_init_1 : List UInt8 := [5, 189, 0, 13, 181, 0, 20, 42, 17, 1, 144, 188, 8, 181, 0, 24, 42, 2, 181, 0, 28, 42]
abbrev dktX0_init_1 : List UInt8 := dkwX0_init_1 ++ dktX0_init_2
def dkwX0_init_0 : List UInt8 := [42, 183, 0, 1, 42, 16, 7, 188, 10, 181, 0, 7, 42, 187, 0, 13, 89, 183, 0, 15, 181, 0, 16, 42]
abbrev dktX0_init_0 : List UInt8 := dkwX0_init_0 ++ dktX0_init_1
theorem dksX0_init_0 : cX0_init.data.toList.drop 0 = dktX0_init_0 := by decide +kernel
theorem dksX0_init_1 : cX0_init.data.toList.drop 24 = dktX0_init_1 := dk_seg dksX0_init_0 24 rfl rfl
theorem dksX0_init_2 : cX0_init.data.toList.drop 46 = dktX0_init_2 := dk_seg dksX0_init_1 22 rfl rfl
theorem dksX0_init_3 : cX0_init.data.toList.drop 69 = dktX0_init_3 := dk_seg dksX0_init_2 23 rfl rfl
theorem dksX0_init_4 : cX0_init.data.toList.drop 93 = dktX0_init_4 := dk_seg dksX0_init_3 24 rfl rfl
theorem dksX0_init_5 : cX0_init.data.toList.drop 115 = dktX0_init_5 := dk_seg dksX0_init_4 22 rfl rfl
theorem dksX0_init_6 : cX0_init.data.toList.drop 138 = dktX0_init_6 := dk_seg dksX0_init_5 23 rfl rfl
theorem dksX0_init_7 : cX0_init.data.toList.drop 162 = dktX0_init_7 := dk_seg dksX0_init_6 24 rfl rfl
theorem dX0_init_0 : decode cX0_init 0 = .ok (.aload_n 0, 1) := dk_42 (dk_at dksX0_init_0 0 rfl rfl)
theorem dX0_init_1 : decode cX0_init 1 = .ok (.invokespecial 1, 3) := dk_183 0 1 (dk_at dksX0_init_0 1 rfl rfl)
theorem dX0_init_4 : decode cX0_init 4 = .ok (.aload_n 0, 1) := dk_42 (dk_at dksX0_init_0 4 rfl rfl)
theorem dX0_init_5 : decode cX0_init 5 = .ok (.bipush 7, 2) := dk_16 7 (dk_at dksX0_init_0 5 rfl rfl)
theorem dX0_init_7 : decode cX0_init 7 = .ok (.newarray .int, 2) := dk_188_10 (dk_at dksX0_init_0 7 rfl rfl)
theorem dX0_init_9 : decode cX0_init 9 = .ok (.putfield 7, 3) := dk_181 0 7 (dk_at dksX0_init_0 9 rfl rfl)
theorem dX0_init_12 : decode cX0_init 12 = .ok (.aload_n 0, 1) := dk_42 (dk_at dksX0_init_0 12 rfl rfl)
theorem dX0_init_13 : decode cX0_init 13 = .ok (.new 13, 3) := dk_187 0 13 (dk_at dksX0_init_0 13 rfl rfl)
theorem dX0_init_16 : decode cX0_init 16 = .ok (.dup, 1) := dk_89 (dk_at dksX0_init_0 16 rfl rfl)
theorem dX0_init_17 : decode cX0_init 17 = .ok (.invokespecial 15, 3) := dk_183 0 15 (dk_at dksX0_init_0 17 rfl rfl)
theorem dX0_init_20 : decode cX0_init 20 = .ok (.putfield 16, 3) := dk_181 0 16 (dk_at dksX0_init_0 20 rfl rfl)
theorem dX0_init_23 : decode cX0_init 23 = .ok (.aload_n 0, 1) := dk_42 (dk_at dksX0_init_0 23 rfl rfl)
theorem dX0_init_24 : decode cX0_init 24 = .ok (.iconst 2, 1) := dk_5 (dk_at dksX0_init_1 0 rfl rfl)
theorem dX0_init_25 : decode cX0_init 25 = .ok (.anewarray 13, 3) := dk_189 0 13 (dk_at dksX0_init_1 1 rfl rfl)
theorem dX0_init_28 : decode cX0_init 28 = .ok (.putfield 20, 3) := dk_181 0 20 (dk_at dksX0_init_1 4 rfl rfl)
theorem dX0_init_31 : decode cX0_init 31 = .ok (.aload_n 0, 1) := dk_42 (dk_at dksX0_init_1 7 rfl rfl)
theorem dX0_init_32 : decode cX0_init 32 = .ok (.sipush 400, 3) := dk_17 1 144 (dk_at dksX0_init_1 8 rfl rfl)
theorem dX0_init_35 : decode cX0_init 35 = .ok (.newarray .byte, 2) := dk_188_8 (dk_at dksX0_init_1 11 rfl rfl)
theorem dX0_init_37 : decode cX0_init 37 = .ok (.putfield 24, 3) := dk_181 0 24 (dk_at dksX0_init_1 13 rfl rfl)
theorem dX0_init_40 : decode cX0_init 40 = .ok (.aload_n 0, 1) := dk_42 (dk_at dksX0_init_1 16 rfl rfl)
theorem dX0_init_41 : decode cX0_init 41 = .ok (.iconst (-1), 1) := dk_2 (dk_at dksX0_init_1 17 rfl rfl)
theorem dX0_init_42 : decode cX0_init 42 = .ok (.putfield 28, 3) := dk_181 0 28 (dk_at dksX0_init_1 18 rfl rfl)
theorem dX0_init_45 : decode cX0_init 45 = .ok (.aload_n 0, 1) := dk_42 (dk_at dksX0_init_1 21 rfl rfl)
theorem dX0_init_46 : decode cX0_init 46 = .ok (.new 32, 3) := dk_187 0 32 (dk_at dksX0_init_2 0 rfl rfl)
theorem dX0_init_49 : decode cX0_init 49 = .ok (.dup, 1) := dk_89 (dk_at dksX0_init_2 3 rfl rfl)
theorem dX0_init_50 : decode cX0_init 50 = .ok (.invokespecial 34, 3) := dk_183 0 34 (dk_at dksX0_init_2 4 rfl rfl)
theorem dX0_init_53 : decode cX0_init 53 = .ok (.putfield 35, 3) := dk_181 0 35 (dk_at dksX0_init_2 7 rfl rfl)
theorem dX0_init_56 : decode cX0_init 56 = .ok (.aload_n 0, 1) := dk_42 (dk_at dksX0_init_2 10 rfl rfl)
theorem dX0_init_57 : decode cX0_init 57 = .ok (.iconst 5, 1) := dk_8 (dk_at dksX0_init_2 11 rfl rfl)
theorem dX0_init_58 : decode cX0_init 58 = .ok (.newarray .int, 2) := dk_188_10 (dk_at dksX0_init_2 12 rfl rfl)
theorem dX0_init_60 : decode cX0_init 60 = .ok (.putfield 39, 3) := dk_181 0 39 (dk_at dksX0_init_2 14 rfl rfl)
theorem dX0_init_63 : decode cX0_init 63 = .ok (.aload_n 0, 1) := dk_42 (dk_at dksX0_init_2 17 rfl rfl)
theorem dX0_init_64 : decode cX0_init 64 = .ok (.new 42, 3) := dk_187 0 42 (dk_at dksX0_init_2 18 rfl rfl)
theorem dX0_init_67 : decode cX0_init 67 = .ok (.dup, 1) := dk_89 (dk_at dksX0_init_2 21 rfl rfl)
theorem dX0_init_68 : decode cX0_init 68 = .ok (.aload_n 0, 1) := dk_42 (dk_at dksX0_init_2 22 rfl rfl)
theorem dX0_init_69 : decode cX0_init 69 = .ok (.invokespecial 44, 3) := dk_183 0 44 (dk_at dksX0_init_3 0 rfl rfl)
theorem dX0_init_72 : decode cX0_init 72 = .ok (.putfield 47, 3) := dk_181 0 47 (dk_at dksX0_init_3 3 rfl rfl)
theorem dX0_init_75 : decode cX0_init 75 = .ok (.aload_n 0, 1) := dk_42 (dk_at dksX0_init_3 6 rfl rfl)
theorem dX0_init_76 : decode cX0_init 76 = .ok (.sipush 360, 3) := dk_17 1 104 (dk_at dksX0_init_3 7 rfl rfl)
theorem dX0_init_79 : decode cX0_init 79 = .ok (.newarray .int, 2) := dk_188_10 (dk_at dksX0_init_3 10 rfl rfl)
theorem dX0_init_81 : decode cX0_init 81 = .ok (.putfield 51, 3) := dk_181 0 51 (dk_at dksX0_init_3 12 rfl rfl)
theorem dX0_init_84 : decode cX0_init 84 = .ok (.aload_n 0, 1) := dk_42 (dk_at dksX0_init_3 15 rfl rfl)
theorem dX0_init_85 : decode cX0_init 85 = .ok (.iconst (-1), 1) := dk_2 (dk_at dksX0_init_3 16 rfl rfl)
theorem dX0_init_86 : decode cX0_init 86 = .ok (.putfield 54, 3) := dk_181 0 54 (dk_at dksX0_init_3 17 rfl rfl)
theorem dX0_init_89 : decode cX0_init 89 = .ok (.aload_n 0, 1) := dk_42 (dk_at dksX0_init_3 20 rfl rfl)
theorem dX0_init_90 : decode cX0_init 90 = .ok (.new 57, 3) := dk_187 0 57 (dk_at dksX0_init_3 21 rfl rfl)
theorem dX0_init_93 : decode cX0_init 93 = .ok (.dup, 1) := dk_89 (dk_at dksX0_init_4 0 rfl rfl)
theorem dX0_init_94 : decode cX0_init 94 = .ok (.aload_n 0, 1) := dk_42 (dk_at dksX0_init_4 1 rfl rfl)
theorem dX0_init_95 : decode cX0_init 95 = .ok (.invokespecial 59, 3) := dk_183 0 59 (dk_at dksX0_init_4 2 rfl rfl)
theorem dX0_init_98 : decode cX0_init 98 = .ok (.putfield 60, 3) := dk_181 0 60 (dk_at dksX0_init_4 5 rfl rfl)
theorem dX0_init_101 : decode cX0_init 101 = .ok (.aload_n 0, 1) := dk_42 (dk_at dksX0_init_4 8 rfl rfl)
theorem dX0_init_102 : decode cX0_init 102 = .ok (.new 57, 3) := dk_187 0 57 (dk_at dksX0_init_4 9 rfl rfl)
theorem dX0_init_105 : decode cX0_init 105 = .ok (.dup, 1) := dk_89 (dk_at dksX0_init_4 12 rfl rfl)
theorem dX0_init_106 : decode cX0_init 106 = .ok (.aload_n 0, 1) := dk_42 (dk_at dksX0_init_4 13 rfl rfl)
theorem dX0_init_107 : decode cX0_init 107 = .ok (.invokespecial 59, 3) := dk_183 0 59 (dk_at dksX0_init_4 14 rfl rfl)
theorem dX0_init_110 : decode cX0_init 110 = .ok (.putfield 64, 3) := dk_181 0 64 (dk_at dksX0_init_4 17 rfl rfl)
theorem dX0_init_113 : decode cX0_init 113 = .ok (.aload_n 0, 1) := dk_42 (dk_at dksX0_init_4 20 rfl rfl)
theorem dX0_init_114 : decode cX0_init 114 = .ok (.iconst (-1), 1) := dk_2 (dk_at dksX0_init_4 21 rfl rfl)
theorem dX0_init_115 : decode cX0_init 115 = .ok (.putfield 67, 3) := dk_181 0 67 (dk_at dksX0_init_5 0 rfl rfl)
theorem dX0_init_118 : decode cX0_init 118 = .ok (.aload_n 0, 1) := dk_42 (dk_at dksX0_init_5 3 rfl rfl)
theorem dX0_init_119 : decode cX0_init 119 = .ok (.new 70, 3) := dk_187 0 70 (dk_at dksX0_init_5 4 rfl rfl)
theorem dX0_init_122 : decode cX0_init 122 = .ok (.dup, 1) := dk_89 (dk_at dksX0_init_5 7 rfl rfl)
theorem dX0_init_123 : decode cX0_init 123 = .ok (.invokespecial 72, 3) := dk_183 0 72 (dk_at dksX0_init_5 8 rfl rfl)
theorem dX0_init_126 : decode cX0_init 126 = .ok (.putfield 73, 3) := dk_181 0 73 (dk_at dksX0_init_5 11 rfl rfl)
theorem dX0_init_129 : decode cX0_init 129 = .ok (.aload_n 0, 1) := dk_42 (dk_at dksX0_init_5 14 rfl rfl)
theorem dX0_init_130 : decode cX0_init 130 = .ok (.new 77, 3) := dk_187 0 77 (dk_at dksX0_init_5 15 rfl rfl)
theorem dX0_init_133 : decode cX0_init 133 = .ok (.dup, 1) := dk_89 (dk_at dksX0_init_5 18 rfl rfl)
theorem dX0_init_134 : decode cX0_init 134 = .ok (.aload_n 0, 1) := dk_42 (dk_at dksX0_init_5 19 rfl rfl)
theorem dX0_init_135 : decode cX0_init 135 = .ok (.invokespecial 79, 3) := dk_183 0 79 (dk_at dksX0_init_5 20 rfl rfl)
theorem dX0_init_138 : decode cX0_init 138 = .ok (.putfield 80, 3) := dk_181 0 80 (dk_at dksX0_init_6 0 rfl rfl)
theorem dX0_init_141 : decode cX0_init 141 = .ok (.aload_n 0, 1) := dk_42 (dk_at dksX0_init_6 3 rfl rfl)
theorem dX0_init_142 : decode cX0_init 142 = .ok (.new 84, 3) := dk_187 0 84 (dk_at dksX0_init_6 4 rfl rfl)
theorem dX0_init_145 : decode cX0_init 145 = .ok (.dup, 1) := dk_89 (dk_at dksX0_init_6 7 rfl rfl)
theorem dX0_init_146 : decode cX0_init 146 = .ok (.aload_n 0, 1) := dk_42 (dk_at dksX0_init_6 8 rfl rfl)
theorem dX0_init_147 : decode cX0_init 147 = .ok (.invokespecial 86, 3) := dk_183 0 86 (dk_at dksX0_init_6 9 rfl rfl)
theorem dX0_init_150 : decode cX0_init 150 = .ok (.putfield 87, 3) := dk_181 0 87 (dk_at dksX0_init_6 12 rfl rfl)
theorem dX0_init_153 : decode cX0_init 153 = .ok (.aload_n 0, 1) := dk_42 (dk_at dksX0_init_6 15 rfl rfl)
theorem dX0_init_154 : decode cX0_init 154 = .ok (.new 42, 3) := dk_187 0 42 (dk_at dksX0_init_6 16 rfl rfl)
theorem dX0_init_157 : decode cX0_init 157 = .ok (.dup, 1) := dk_89 (dk_at dksX0_init_6 19 rfl rfl)
theorem dX0_init_158 : decode cX0_init 158 = .ok (.aload_n 0, 1) := dk_42 (dk_at dksX0_init_6 20 rfl rfl)
theorem dX0_init_159 : decode cX0_init 159 = .ok (.invokespecial 44, 3) := dk_183 0 44 (dk_at dksX0_init_6 21 rfl rfl)
theorem dX0_init_162 : decode cX0_init 162 = .ok (.putfield 91, 3) := dk_181 0 91 (dk_at dksX0_init_7 0 rfl rfl)
theorem dX0_init_165 : decode cX0_init 165 = .ok (.aload_n 0, 1) := dk_42 (dk_at dksX0_init_7 3 rfl rfl)
theorem dX0_init_166 : decode cX0_init 166 = .ok (.bipush 6, 2) := dk_16 6 (dk_at dksX0_init_7 4 rfl rfl)
theorem dX0_init_168 : decode cX0_init 168 = .ok (.newarray .int, 2) := dk_188_10 (dk_at dksX0_init_7 6 rfl rfl)
theorem dX0_init_170 : decode cX0_init 170 = .ok (.putfield 94, 3) := dk_181 0 94 (dk_at dksX0_init_7 8 rfl rfl)
theorem dX0_init_173 : decode cX0_init 173 = .ok (.return_, 1) := dk_177 (dk_at dksX0_init_7 11 rfl rfl)
abbrev cX0_image : ByteArray := prog_1_method_13_code
def yX0_image : MethodName := ⟨RX0, "image", "(I)I"⟩
def dkwX0_image_2 : List UInt8 := [182, 0, 125, 42, 3, 182, 0, 109, 172]
abbrev dktX0_image_2 : List UInt8 := dkwX0_image_2 ++ []
def dkwX0_image_1 : List UInt8 := [42, 180, 0, 20, 27, 187, 0, 13, 89, 183, 0, 15, 83, 42, 180, 0, 20, 27, 50, 42, 180, 0, 16]
abbrev dktX0_image_1 : List UInt8 := dkwX0_image_1 ++ dktX0_image_2
def dkwX0_image_0 : List UInt8 := [27, 3, 4, 184, 0, 112, 154, 0, 9, 42, 2, 182, 0, 122, 172, 42, 180, 0, 20, 27, 50, 199, 0, 16]
abbrev dktX0_image_0 : List UInt8 := dkwX0_image_0 ++ dktX0_image_1
theorem dksX0_image_0 : cX0_image.data.toList.drop 0 = dktX0_image_0 := by decide +kernel
theorem dksX0_image_1 : cX0_image.data.toList.drop 24 = dktX0_image_1 := dk_seg dksX0_image_0 24 rfl rfl
theorem dksX0_image_2 : cX0_image.data.toList.drop 47 = dktX0_image_2 := dk_seg dksX0_image_1 23 rfl rfl
theorem dX0_image_0 : decode cX0_image 0 = .ok (.iload_n 1, 1) := dk_27 (dk_at dksX0_image_0 0 rfl rfl)
theorem dX0_image_1 : decode cX0_image 1 = .ok (.iconst 0, 1) := dk_3 (dk_at dksX0_image_0 1 rfl rfl)
theorem dX0_image_2 : decode cX0_image 2 = .ok (.iconst 1, 1) := dk_4 (dk_at dksX0_image_0 2 rfl rfl)
theorem dX0_image_3 : decode cX0_image 3 = .ok (.invokestatic 112, 3) := dk_184 0 112 (dk_at dksX0_image_0 3 rfl rfl)
theorem dX0_image_6 : decode cX0_image 6 = .ok (.ifCond .ne 9, 3) := dk_154 0 9 (dk_at dksX0_image_0 6 rfl rfl)
theorem dX0_image_9 : decode cX0_image 9 = .ok (.aload_n 0, 1) := dk_42 (dk_at dksX0_image_0 9 rfl rfl)
theorem dX0_image_10 : decode cX0_image 10 = .ok (.iconst (-1), 1) := dk_2 (dk_at dksX0_image_0 10 rfl rfl)
theorem dX0_image_11 : decode cX0_image 11 = .ok (.invokevirtual 122, 3) := dk_182 0 122 (dk_at dksX0_image_0 11 rfl rfl)
theorem dX0_image_14 : decode cX0_image 14 = .ok (.ireturn, 1) := dk_172 (dk_at dksX0_image_0 14 rfl rfl)
theorem dX0_image_15 : decode cX0_image 15 = .ok (.aload_n 0, 1) := dk_42 (dk_at dksX0_image_0 15 rfl rfl)
theorem dX0_image_16 : decode cX0_image 16 = .ok (.getfield 20, 3) := dk_180 0 20 (dk_at dksX0_image_0 16 rfl rfl)
theorem dX0_image_19 : decode cX0_image 19 = .ok (.iload_n 1, 1) := dk_27 (dk_at dksX0_image_0 19 rfl rfl)
theorem dX0_image_20 : decode cX0_image 20 = .ok (.aaload, 1) := dk_50 (dk_at dksX0_image_0 20 rfl rfl)
theorem dX0_image_21 : decode cX0_image 21 = .ok (.ifnonnull 16, 3) := dk_199 0 16 (dk_at dksX0_image_0 21 rfl rfl)
theorem dX0_image_24 : decode cX0_image 24 = .ok (.aload_n 0, 1) := dk_42 (dk_at dksX0_image_1 0 rfl rfl)
theorem dX0_image_25 : decode cX0_image 25 = .ok (.getfield 20, 3) := dk_180 0 20 (dk_at dksX0_image_1 1 rfl rfl)
theorem dX0_image_28 : decode cX0_image 28 = .ok (.iload_n 1, 1) := dk_27 (dk_at dksX0_image_1 4 rfl rfl)
theorem dX0_image_29 : decode cX0_image 29 = .ok (.new 13, 3) := dk_187 0 13 (dk_at dksX0_image_1 5 rfl rfl)
theorem dX0_image_32 : decode cX0_image 32 = .ok (.dup, 1) := dk_89 (dk_at dksX0_image_1 8 rfl rfl)
theorem dX0_image_33 : decode cX0_image 33 = .ok (.invokespecial 15, 3) := dk_183 0 15 (dk_at dksX0_image_1 9 rfl rfl)
theorem dX0_image_36 : decode cX0_image 36 = .ok (.aastore, 1) := dk_83 (dk_at dksX0_image_1 12 rfl rfl)
theorem dX0_image_37 : decode cX0_image 37 = .ok (.aload_n 0, 1) := dk_42 (dk_at dksX0_image_1 13 rfl rfl)
theorem dX0_image_38 : decode cX0_image 38 = .ok (.getfield 20, 3) := dk_180 0 20 (dk_at dksX0_image_1 14 rfl rfl)
theorem dX0_image_41 : decode cX0_image 41 = .ok (.iload_n 1, 1) := dk_27 (dk_at dksX0_image_1 17 rfl rfl)
theorem dX0_image_42 : decode cX0_image 42 = .ok (.aaload, 1) := dk_50 (dk_at dksX0_image_1 18 rfl rfl)
theorem dX0_image_43 : decode cX0_image 43 = .ok (.aload_n 0, 1) := dk_42 (dk_at dksX0_image_1 19 rfl rfl)
theorem dX0_image_44 : decode cX0_image 44 = .ok (.getfield 16, 3) := dk_180 0 16 (dk_at dksX0_image_1 20 rfl rfl)
theorem dX0_image_47 : decode cX0_image 47 = .ok (.invokevirtual 125, 3) := dk_182 0 125 (dk_at dksX0_image_2 0 rfl rfl)
theorem dX0_image_50 : decode cX0_image 50 = .ok (.aload_n 0, 1) := dk_42 (dk_at dksX0_image_2 3 rfl rfl)
theorem dX0_image_51 : decode cX0_image 51 = .ok (.iconst 0, 1) := dk_3 (dk_at dksX0_image_2 4 rfl rfl)
theorem dX0_image_52 : decode cX0_image 52 = .ok (.invokevirtual 109, 3) := dk_182 0 109 (dk_at dksX0_image_2 5 rfl rfl)
theorem dX0_image_55 : decode cX0_image 55 = .ok (.ireturn, 1) := dk_172 (dk_at dksX0_image_2 8 rfl rfl)
abbrev cX0_in : ByteArray := prog_1_method_4_code
def yX0_in : MethodName := ⟨RX0, "in", "(III)Z"⟩
def dkwX0_in_0 : List UInt8 := [26, 27, 161, 0, 12, 26, 28, 163, 0, 7, 4, 167, 0, 4, 3, 172]
abbrev dktX0_in_0 : List UInt8 := dkwX0_in_0 ++ []
theorem dksX0_in_0 : cX0_in.data.toList.drop 0 = dktX0_in_0 := by decide +kernel
theorem dX0_in_0 : decode cX0_in 0 = .ok (.iload_n 0, 1) := dk_26 (dk_at dksX0_in_0 0 rfl rfl)
theorem dX0_in_1 : decode cX0_in 1 = .ok (.iload_n 1, 1) := dk_27 (dk_at dksX0_in_0 1 rfl rfl)
theorem dX0_in_2 : decode cX0_in 2 = .ok (.if_icmp .lt 12, 3) := dk_161 0 12 (dk_at dksX0_in_0 2 rfl rfl)
theorem dX0_in_5 : decode cX0_in 5 = .ok (.iload_n 0, 1) := dk_26 (dk_at dksX0_in_0 5 rfl rfl)
theorem dX0_in_6 : decode cX0_in 6 = .ok (.iload_n 2, 1) := dk_28 (dk_at dksX0_in_0 6 rfl rfl)
theorem dX0_in_7 : decode cX0_in 7 = .ok (.if_icmp .gt 7, 3) := dk_163 0 7 (dk_at dksX0_in_0 7 rfl rfl)
theorem dX0_in_10 : decode cX0_in 10 = .ok (.iconst 1, 1) := dk_4 (dk_at dksX0_in_0 10 rfl rfl)
theorem dX0_in_11 : decode cX0_in 11 = .ok (.goto 4, 3) := dk_167 0 4 (dk_at dksX0_in_0 11 rfl rfl)
theorem dX0_in_14 : decode cX0_in 14 = .ok (.iconst 0, 1) := dk_3 (dk_at dksX0_in_0 14 rfl rfl)
theorem dX0_in_15 : decode cX0_in 15 = .ok (.ireturn, 1) := dk_172 (dk_at dksX0_in_0 15 rfl rfl)
abbrev cX0_refuse : ByteArray := prog_1_method_2_code
def yX0_refuse : MethodName := ⟨RX0, "refuse", "(I)I"⟩
def dkwX0_refuse_0 : List UInt8 := [42, 27, 181, 0, 97, 42, 180, 0, 7, 27, 116, 92, 46, 4, 96, 79, 27, 172]
abbrev dktX0_refuse_0 : List UInt8 := dkwX0_refuse_0 ++ []
theorem dksX0_refuse_0 : cX0_refuse.data.toList.drop 0 = dktX0_refuse_0 := by decide +kernel
theorem dX0_refuse_0 : decode cX0_refuse 0 = .ok (.aload_n 0, 1) := dk_42 (dk_at dksX0_refuse_0 0 rfl rfl)
theorem dX0_refuse_1 : decode cX0_refuse 1 = .ok (.iload_n 1, 1) := dk_27 (dk_at dksX0_refuse_0 1 rfl rfl)
theorem dX0_refuse_2 : decode cX0_refuse 2 = .ok (.putfield 97, 3) := dk_181 0 97 (dk_at dksX0_refuse_0 2 rfl rfl)
theorem dX0_refuse_5 : decode cX0_refuse 5 = .ok (.aload_n 0, 1) := dk_42 (dk_at dksX0_refuse_0 5 rfl rfl)
theorem dX0_refuse_6 : decode cX0_refuse 6 = .ok (.getfield 7, 3) := dk_180 0 7 (dk_at dksX0_refuse_0 6 rfl rfl)
theorem dX0_refuse_9 : decode cX0_refuse 9 = .ok (.iload_n 1, 1) := dk_27 (dk_at dksX0_refuse_0 9 rfl rfl)
theorem dX0_refuse_10 : decode cX0_refuse 10 = .ok (.ineg, 1) := dk_116 (dk_at dksX0_refuse_0 10 rfl rfl)
theorem dX0_refuse_11 : decode cX0_refuse 11 = .ok (.dup2, 1) := dk_92 (dk_at dksX0_refuse_0 11 rfl rfl)
theorem dX0_refuse_12 : decode cX0_refuse 12 = .ok (.iaload, 1) := dk_46 (dk_at dksX0_refuse_0 12 rfl rfl)
theorem dX0_refuse_13 : decode cX0_refuse 13 = .ok (.iconst 1, 1) := dk_4 (dk_at dksX0_refuse_0 13 rfl rfl)
theorem dX0_refuse_14 : decode cX0_refuse 14 = .ok (.iadd, 1) := dk_96 (dk_at dksX0_refuse_0 14 rfl rfl)
theorem dX0_refuse_15 : decode cX0_refuse 15 = .ok (.iastore, 1) := dk_79 (dk_at dksX0_refuse_0 15 rfl rfl)
theorem dX0_refuse_16 : decode cX0_refuse 16 = .ok (.iload_n 1, 1) := dk_27 (dk_at dksX0_refuse_0 16 rfl rfl)
theorem dX0_refuse_17 : decode cX0_refuse 17 = .ok (.ireturn, 1) := dk_172 (dk_at dksX0_refuse_0 17 rfl rfl)
abbrev cX0_done : ByteArray := prog_1_method_3_code
def yX0_done : MethodName := ⟨RX0, "done", "(I)I"⟩
def dkwX0_done_0 : List UInt8 := [42, 3, 181, 0, 97, 27, 172]
abbrev dktX0_done_0 : List UInt8 := dkwX0_done_0 ++ []
theorem dksX0_done_0 : cX0_done.data.toList.drop 0 = dktX0_done_0 := by decide +kernel
theorem dX0_done_0 : decode cX0_done 0 = .ok (.aload_n 0, 1) := dk_42 (dk_at dksX0_done_0 0 rfl rfl)
theorem dX0_done_1 : decode cX0_done 1 = .ok (.iconst 0, 1) := dk_3 (dk_at dksX0_done_0 1 rfl rfl)
theorem dX0_done_2 : decode cX0_done 2 = .ok (.putfield 97, 3) := dk_181 0 97 (dk_at dksX0_done_0 2 rfl rfl)
theorem dX0_done_5 : decode cX0_done 5 = .ok (.iload_n 1, 1) := dk_27 (dk_at dksX0_done_0 5 rfl rfl)
theorem dX0_done_6 : decode cX0_done 6 = .ok (.ireturn, 1) := dk_172 (dk_at dksX0_done_0 6 rfl rfl)
abbrev cX0_back : ByteArray := prog_1_method_14_code
def yX0_back : MethodName := ⟨RX0, "back", "(I)I"⟩
def dkwX0_back_2 : List UInt8 := [182, 0, 129, 172]
abbrev dktX0_back_2 : List UInt8 := dkwX0_back_2 ++ []
def dkwX0_back_1 : List UInt8 := [42, 16, 254, 182, 0, 122, 172, 42, 180, 0, 16, 42, 180, 0, 20, 27, 50, 182, 0, 125, 42, 3]
abbrev dktX0_back_1 : List UInt8 := dkwX0_back_1 ++ dktX0_back_2
def dkwX0_back_0 : List UInt8 := [27, 3, 4, 184, 0, 112, 154, 0, 9, 42, 2, 182, 0, 122, 172, 42, 180, 0, 20, 27, 50, 199, 0, 10]
abbrev dktX0_back_0 : List UInt8 := dkwX0_back_0 ++ dktX0_back_1
theorem dksX0_back_0 : cX0_back.data.toList.drop 0 = dktX0_back_0 := by decide +kernel
theorem dksX0_back_1 : cX0_back.data.toList.drop 24 = dktX0_back_1 := dk_seg dksX0_back_0 24 rfl rfl
theorem dksX0_back_2 : cX0_back.data.toList.drop 46 = dktX0_back_2 := dk_seg dksX0_back_1 22 rfl rfl
theorem dX0_back_0 : decode cX0_back 0 = .ok (.iload_n 1, 1) := dk_27 (dk_at dksX0_back_0 0 rfl rfl)
theorem dX0_back_1 : decode cX0_back 1 = .ok (.iconst 0, 1) := dk_3 (dk_at dksX0_back_0 1 rfl rfl)
theorem dX0_back_2 : decode cX0_back 2 = .ok (.iconst 1, 1) := dk_4 (dk_at dksX0_back_0 2 rfl rfl)
theorem dX0_back_3 : decode cX0_back 3 = .ok (.invokestatic 112, 3) := dk_184 0 112 (dk_at dksX0_back_0 3 rfl rfl)
theorem dX0_back_6 : decode cX0_back 6 = .ok (.ifCond .ne 9, 3) := dk_154 0 9 (dk_at dksX0_back_0 6 rfl rfl)
theorem dX0_back_9 : decode cX0_back 9 = .ok (.aload_n 0, 1) := dk_42 (dk_at dksX0_back_0 9 rfl rfl)
theorem dX0_back_10 : decode cX0_back 10 = .ok (.iconst (-1), 1) := dk_2 (dk_at dksX0_back_0 10 rfl rfl)
theorem dX0_back_11 : decode cX0_back 11 = .ok (.invokevirtual 122, 3) := dk_182 0 122 (dk_at dksX0_back_0 11 rfl rfl)
theorem dX0_back_14 : decode cX0_back 14 = .ok (.ireturn, 1) := dk_172 (dk_at dksX0_back_0 14 rfl rfl)
theorem dX0_back_15 : decode cX0_back 15 = .ok (.aload_n 0, 1) := dk_42 (dk_at dksX0_back_0 15 rfl rfl)
theorem dX0_back_16 : decode cX0_back 16 = .ok (.getfield 20, 3) := dk_180 0 20 (dk_at dksX0_back_0 16 rfl rfl)
theorem dX0_back_19 : decode cX0_back 19 = .ok (.iload_n 1, 1) := dk_27 (dk_at dksX0_back_0 19 rfl rfl)
theorem dX0_back_20 : decode cX0_back 20 = .ok (.aaload, 1) := dk_50 (dk_at dksX0_back_0 20 rfl rfl)
theorem dX0_back_21 : decode cX0_back 21 = .ok (.ifnonnull 10, 3) := dk_199 0 10 (dk_at dksX0_back_0 21 rfl rfl)
theorem dX0_back_24 : decode cX0_back 24 = .ok (.aload_n 0, 1) := dk_42 (dk_at dksX0_back_1 0 rfl rfl)
theorem dX0_back_25 : decode cX0_back 25 = .ok (.bipush (-2), 2) := dk_16 254 (dk_at dksX0_back_1 1 rfl rfl)
theorem dX0_back_27 : decode cX0_back 27 = .ok (.invokevirtual 122, 3) := dk_182 0 122 (dk_at dksX0_back_1 3 rfl rfl)
theorem dX0_back_30 : decode cX0_back 30 = .ok (.ireturn, 1) := dk_172 (dk_at dksX0_back_1 6 rfl rfl)
theorem dX0_back_31 : decode cX0_back 31 = .ok (.aload_n 0, 1) := dk_42 (dk_at dksX0_back_1 7 rfl rfl)
theorem dX0_back_32 : decode cX0_back 32 = .ok (.getfield 16, 3) := dk_180 0 16 (dk_at dksX0_back_1 8 rfl rfl)
theorem dX0_back_35 : decode cX0_back 35 = .ok (.aload_n 0, 1) := dk_42 (dk_at dksX0_back_1 11 rfl rfl)
theorem dX0_back_36 : decode cX0_back 36 = .ok (.getfield 20, 3) := dk_180 0 20 (dk_at dksX0_back_1 12 rfl rfl)
theorem dX0_back_39 : decode cX0_back 39 = .ok (.iload_n 1, 1) := dk_27 (dk_at dksX0_back_1 15 rfl rfl)
theorem dX0_back_40 : decode cX0_back 40 = .ok (.aaload, 1) := dk_50 (dk_at dksX0_back_1 16 rfl rfl)
theorem dX0_back_41 : decode cX0_back 41 = .ok (.invokevirtual 125, 3) := dk_182 0 125 (dk_at dksX0_back_1 17 rfl rfl)
theorem dX0_back_44 : decode cX0_back 44 = .ok (.aload_n 0, 1) := dk_42 (dk_at dksX0_back_1 20 rfl rfl)
theorem dX0_back_45 : decode cX0_back 45 = .ok (.iconst 0, 1) := dk_3 (dk_at dksX0_back_1 21 rfl rfl)
theorem dX0_back_46 : decode cX0_back 46 = .ok (.invokevirtual 129, 3) := dk_182 0 129 (dk_at dksX0_back_2 0 rfl rfl)
theorem dX0_back_49 : decode cX0_back 49 = .ok (.ireturn, 1) := dk_172 (dk_at dksX0_back_2 3 rfl rfl)
abbrev cX0_told : ByteArray := prog_1_method_7_code
def yX0_told : MethodName := ⟨RX0, "told", "(I)I"⟩
def dkwX0_told_0 : List UInt8 := [42, 89, 180, 0, 106, 4, 96, 181, 0, 106, 42, 27, 182, 0, 109, 172]
abbrev dktX0_told_0 : List UInt8 := dkwX0_told_0 ++ []
theorem dksX0_told_0 : cX0_told.data.toList.drop 0 = dktX0_told_0 := by decide +kernel
theorem dX0_told_0 : decode cX0_told 0 = .ok (.aload_n 0, 1) := dk_42 (dk_at dksX0_told_0 0 rfl rfl)
theorem dX0_told_1 : decode cX0_told 1 = .ok (.dup, 1) := dk_89 (dk_at dksX0_told_0 1 rfl rfl)
theorem dX0_told_2 : decode cX0_told 2 = .ok (.getfield 106, 3) := dk_180 0 106 (dk_at dksX0_told_0 2 rfl rfl)
theorem dX0_told_5 : decode cX0_told 5 = .ok (.iconst 1, 1) := dk_4 (dk_at dksX0_told_0 5 rfl rfl)
theorem dX0_told_6 : decode cX0_told 6 = .ok (.iadd, 1) := dk_96 (dk_at dksX0_told_0 6 rfl rfl)
theorem dX0_told_7 : decode cX0_told 7 = .ok (.putfield 106, 3) := dk_181 0 106 (dk_at dksX0_told_0 7 rfl rfl)
theorem dX0_told_10 : decode cX0_told 10 = .ok (.aload_n 0, 1) := dk_42 (dk_at dksX0_told_0 10 rfl rfl)
theorem dX0_told_11 : decode cX0_told 11 = .ok (.iload_n 1, 1) := dk_27 (dk_at dksX0_told_0 11 rfl rfl)
theorem dX0_told_12 : decode cX0_told 12 = .ok (.invokevirtual 109, 3) := dk_182 0 109 (dk_at dksX0_told_0 12 rfl rfl)
theorem dX0_told_15 : decode cX0_told 15 = .ok (.ireturn, 1) := dk_172 (dk_at dksX0_told_0 15 rfl rfl)
abbrev cX0_damp : ByteArray := prog_1_method_16_code
def yX0_damp : MethodName := ⟨RX0, "damp", "(II)I"⟩
def dkwX0_damp_1 : List UInt8 := [180, 0, 136, 27, 28, 182, 0, 139, 167, 0, 8, 42, 2, 182, 0, 122, 172]
abbrev dktX0_damp_1 : List UInt8 := dkwX0_damp_1 ++ []
def dkwX0_damp_0 : List UInt8 := [27, 184, 0, 132, 153, 0, 29, 28, 3, 16, 9, 184, 0, 112, 153, 0, 19, 42, 42, 180, 0, 16]
abbrev dktX0_damp_0 : List UInt8 := dkwX0_damp_0 ++ dktX0_damp_1
theorem dksX0_damp_0 : cX0_damp.data.toList.drop 0 = dktX0_damp_0 := by decide +kernel
theorem dksX0_damp_1 : cX0_damp.data.toList.drop 22 = dktX0_damp_1 := dk_seg dksX0_damp_0 22 rfl rfl
theorem dX0_damp_0 : decode cX0_damp 0 = .ok (.iload_n 1, 1) := dk_27 (dk_at dksX0_damp_0 0 rfl rfl)
theorem dX0_damp_1 : decode cX0_damp 1 = .ok (.invokestatic 132, 3) := dk_184 0 132 (dk_at dksX0_damp_0 1 rfl rfl)
theorem dX0_damp_4 : decode cX0_damp 4 = .ok (.ifCond .eq 29, 3) := dk_153 0 29 (dk_at dksX0_damp_0 4 rfl rfl)
theorem dX0_damp_7 : decode cX0_damp 7 = .ok (.iload_n 2, 1) := dk_28 (dk_at dksX0_damp_0 7 rfl rfl)
theorem dX0_damp_8 : decode cX0_damp 8 = .ok (.iconst 0, 1) := dk_3 (dk_at dksX0_damp_0 8 rfl rfl)
theorem dX0_damp_9 : decode cX0_damp 9 = .ok (.bipush 9, 2) := dk_16 9 (dk_at dksX0_damp_0 9 rfl rfl)
theorem dX0_damp_11 : decode cX0_damp 11 = .ok (.invokestatic 112, 3) := dk_184 0 112 (dk_at dksX0_damp_0 11 rfl rfl)
theorem dX0_damp_14 : decode cX0_damp 14 = .ok (.ifCond .eq 19, 3) := dk_153 0 19 (dk_at dksX0_damp_0 14 rfl rfl)
theorem dX0_damp_17 : decode cX0_damp 17 = .ok (.aload_n 0, 1) := dk_42 (dk_at dksX0_damp_0 17 rfl rfl)
theorem dX0_damp_18 : decode cX0_damp 18 = .ok (.aload_n 0, 1) := dk_42 (dk_at dksX0_damp_0 18 rfl rfl)
theorem dX0_damp_19 : decode cX0_damp 19 = .ok (.getfield 16, 3) := dk_180 0 16 (dk_at dksX0_damp_0 19 rfl rfl)
theorem dX0_damp_22 : decode cX0_damp 22 = .ok (.getfield 136, 3) := dk_180 0 136 (dk_at dksX0_damp_1 0 rfl rfl)
theorem dX0_damp_25 : decode cX0_damp 25 = .ok (.iload_n 1, 1) := dk_27 (dk_at dksX0_damp_1 3 rfl rfl)
theorem dX0_damp_26 : decode cX0_damp 26 = .ok (.iload_n 2, 1) := dk_28 (dk_at dksX0_damp_1 4 rfl rfl)
theorem dX0_damp_27 : decode cX0_damp 27 = .ok (.invokevirtual 139, 3) := dk_182 0 139 (dk_at dksX0_damp_1 5 rfl rfl)
theorem dX0_damp_30 : decode cX0_damp 30 = .ok (.goto 8, 3) := dk_167 0 8 (dk_at dksX0_damp_1 8 rfl rfl)
theorem dX0_damp_33 : decode cX0_damp 33 = .ok (.aload_n 0, 1) := dk_42 (dk_at dksX0_damp_1 11 rfl rfl)
theorem dX0_damp_34 : decode cX0_damp 34 = .ok (.iconst (-1), 1) := dk_2 (dk_at dksX0_damp_1 12 rfl rfl)
theorem dX0_damp_35 : decode cX0_damp 35 = .ok (.invokevirtual 122, 3) := dk_182 0 122 (dk_at dksX0_damp_1 13 rfl rfl)
theorem dX0_damp_38 : decode cX0_damp 38 = .ok (.ireturn, 1) := dk_172 (dk_at dksX0_damp_1 16 rfl rfl)
abbrev cX0_isCell : ByteArray := prog_1_method_8_code
def yX0_isCell : MethodName := ⟨RX0, "isCell", "(I)Z"⟩
def dkwX0_isCell_0 : List UInt8 := [26, 3, 16, 95, 184, 0, 112, 172]
abbrev dktX0_isCell_0 : List UInt8 := dkwX0_isCell_0 ++ []
theorem dksX0_isCell_0 : cX0_isCell.data.toList.drop 0 = dktX0_isCell_0 := by decide +kernel
theorem dX0_isCell_0 : decode cX0_isCell 0 = .ok (.iload_n 0, 1) := dk_26 (dk_at dksX0_isCell_0 0 rfl rfl)
theorem dX0_isCell_1 : decode cX0_isCell 1 = .ok (.iconst 0, 1) := dk_3 (dk_at dksX0_isCell_0 1 rfl rfl)
theorem dX0_isCell_2 : decode cX0_isCell 2 = .ok (.bipush 95, 2) := dk_16 95 (dk_at dksX0_isCell_0 2 rfl rfl)
theorem dX0_isCell_4 : decode cX0_isCell 4 = .ok (.invokestatic 112, 3) := dk_184 0 112 (dk_at dksX0_isCell_0 4 rfl rfl)
theorem dX0_isCell_7 : decode cX0_isCell 7 = .ok (.ireturn, 1) := dk_172 (dk_at dksX0_isCell_0 7 rfl rfl)
abbrev cX0_replaces : ByteArray := prog_1_method_15_code
def yX0_replaces : MethodName := ⟨RX0, "replaces", "([III)I"⟩
def dkwX0_replaces_0 : List UInt8 := [43, 28, 46, 54, 4, 43, 28, 29, 79, 42, 21, 4, 182, 0, 129, 172]
abbrev dktX0_replaces_0 : List UInt8 := dkwX0_replaces_0 ++ []
theorem dksX0_replaces_0 : cX0_replaces.data.toList.drop 0 = dktX0_replaces_0 := by decide +kernel
theorem dX0_replaces_0 : decode cX0_replaces 0 = .ok (.aload_n 1, 1) := dk_43 (dk_at dksX0_replaces_0 0 rfl rfl)
theorem dX0_replaces_1 : decode cX0_replaces 1 = .ok (.iload_n 2, 1) := dk_28 (dk_at dksX0_replaces_0 1 rfl rfl)
theorem dX0_replaces_2 : decode cX0_replaces 2 = .ok (.iaload, 1) := dk_46 (dk_at dksX0_replaces_0 2 rfl rfl)
theorem dX0_replaces_3 : decode cX0_replaces 3 = .ok (.istore 4, 2) := dk_54 4 (dk_at dksX0_replaces_0 3 rfl rfl)
theorem dX0_replaces_5 : decode cX0_replaces 5 = .ok (.aload_n 1, 1) := dk_43 (dk_at dksX0_replaces_0 5 rfl rfl)
theorem dX0_replaces_6 : decode cX0_replaces 6 = .ok (.iload_n 2, 1) := dk_28 (dk_at dksX0_replaces_0 6 rfl rfl)
theorem dX0_replaces_7 : decode cX0_replaces 7 = .ok (.iload_n 3, 1) := dk_29 (dk_at dksX0_replaces_0 7 rfl rfl)
theorem dX0_replaces_8 : decode cX0_replaces 8 = .ok (.iastore, 1) := dk_79 (dk_at dksX0_replaces_0 8 rfl rfl)
theorem dX0_replaces_9 : decode cX0_replaces 9 = .ok (.aload_n 0, 1) := dk_42 (dk_at dksX0_replaces_0 9 rfl rfl)
theorem dX0_replaces_10 : decode cX0_replaces 10 = .ok (.iload 4, 2) := dk_21 4 (dk_at dksX0_replaces_0 10 rfl rfl)
theorem dX0_replaces_12 : decode cX0_replaces 12 = .ok (.invokevirtual 129, 3) := dk_182 0 129 (dk_at dksX0_replaces_0 12 rfl rfl)
theorem dX0_replaces_15 : decode cX0_replaces 15 = .ok (.ireturn, 1) := dk_172 (dk_at dksX0_replaces_0 15 rfl rfl)
abbrev cX0_salt : ByteArray := prog_1_method_18_code
def yX0_salt : MethodName := ⟨RX0, "salt", "(II)I"⟩
def dkwX0_salt_3 : List UInt8 := [160, 0, 7, 4, 167, 0, 4, 3, 84, 42, 29, 182, 0, 129, 172]
abbrev dktX0_salt_3 : List UInt8 := dkwX0_salt_3 ++ []
def dkwX0_salt_2 : List UInt8 := [180, 0, 150, 27, 51, 153, 0, 7, 4, 167, 0, 4, 3, 62, 42, 180, 0, 16, 180, 0, 150, 27, 28, 4]
abbrev dktX0_salt_2 : List UInt8 := dkwX0_salt_2 ++ dktX0_salt_3
def dkwX0_salt_1 : List UInt8 := [160, 0, 18, 42, 27, 182, 0, 147, 153, 0, 10, 42, 16, 253, 182, 0, 122, 172, 42, 180, 0, 16]
abbrev dktX0_salt_1 : List UInt8 := dkwX0_salt_1 ++ dktX0_salt_2
def dkwX0_salt_0 : List UInt8 := [27, 184, 0, 132, 153, 0, 12, 28, 3, 4, 184, 0, 112, 154, 0, 9, 42, 2, 182, 0, 122, 172, 28, 4]
abbrev dktX0_salt_0 : List UInt8 := dkwX0_salt_0 ++ dktX0_salt_1
theorem dksX0_salt_0 : cX0_salt.data.toList.drop 0 = dktX0_salt_0 := by decide +kernel
theorem dksX0_salt_1 : cX0_salt.data.toList.drop 24 = dktX0_salt_1 := dk_seg dksX0_salt_0 24 rfl rfl
theorem dksX0_salt_2 : cX0_salt.data.toList.drop 46 = dktX0_salt_2 := dk_seg dksX0_salt_1 22 rfl rfl
theorem dksX0_salt_3 : cX0_salt.data.toList.drop 70 = dktX0_salt_3 := dk_seg dksX0_salt_2 24 rfl rfl
theorem dX0_salt_0 : decode cX0_salt 0 = .ok (.iload_n 1, 1) := dk_27 (dk_at dksX0_salt_0 0 rfl rfl)
theorem dX0_salt_1 : decode cX0_salt 1 = .ok (.invokestatic 132, 3) := dk_184 0 132 (dk_at dksX0_salt_0 1 rfl rfl)
theorem dX0_salt_4 : decode cX0_salt 4 = .ok (.ifCond .eq 12, 3) := dk_153 0 12 (dk_at dksX0_salt_0 4 rfl rfl)
theorem dX0_salt_7 : decode cX0_salt 7 = .ok (.iload_n 2, 1) := dk_28 (dk_at dksX0_salt_0 7 rfl rfl)
theorem dX0_salt_8 : decode cX0_salt 8 = .ok (.iconst 0, 1) := dk_3 (dk_at dksX0_salt_0 8 rfl rfl)
theorem dX0_salt_9 : decode cX0_salt 9 = .ok (.iconst 1, 1) := dk_4 (dk_at dksX0_salt_0 9 rfl rfl)
theorem dX0_salt_10 : decode cX0_salt 10 = .ok (.invokestatic 112, 3) := dk_184 0 112 (dk_at dksX0_salt_0 10 rfl rfl)
theorem dX0_salt_13 : decode cX0_salt 13 = .ok (.ifCond .ne 9, 3) := dk_154 0 9 (dk_at dksX0_salt_0 13 rfl rfl)
theorem dX0_salt_16 : decode cX0_salt 16 = .ok (.aload_n 0, 1) := dk_42 (dk_at dksX0_salt_0 16 rfl rfl)
theorem dX0_salt_17 : decode cX0_salt 17 = .ok (.iconst (-1), 1) := dk_2 (dk_at dksX0_salt_0 17 rfl rfl)
theorem dX0_salt_18 : decode cX0_salt 18 = .ok (.invokevirtual 122, 3) := dk_182 0 122 (dk_at dksX0_salt_0 18 rfl rfl)
theorem dX0_salt_21 : decode cX0_salt 21 = .ok (.ireturn, 1) := dk_172 (dk_at dksX0_salt_0 21 rfl rfl)
theorem dX0_salt_22 : decode cX0_salt 22 = .ok (.iload_n 2, 1) := dk_28 (dk_at dksX0_salt_0 22 rfl rfl)
theorem dX0_salt_23 : decode cX0_salt 23 = .ok (.iconst 1, 1) := dk_4 (dk_at dksX0_salt_0 23 rfl rfl)
theorem dX0_salt_24 : decode cX0_salt 24 = .ok (.if_icmp .ne 18, 3) := dk_160 0 18 (dk_at dksX0_salt_1 0 rfl rfl)
theorem dX0_salt_27 : decode cX0_salt 27 = .ok (.aload_n 0, 1) := dk_42 (dk_at dksX0_salt_1 3 rfl rfl)
theorem dX0_salt_28 : decode cX0_salt 28 = .ok (.iload_n 1, 1) := dk_27 (dk_at dksX0_salt_1 4 rfl rfl)
theorem dX0_salt_29 : decode cX0_salt 29 = .ok (.invokevirtual 147, 3) := dk_182 0 147 (dk_at dksX0_salt_1 5 rfl rfl)
theorem dX0_salt_32 : decode cX0_salt 32 = .ok (.ifCond .eq 10, 3) := dk_153 0 10 (dk_at dksX0_salt_1 8 rfl rfl)
theorem dX0_salt_35 : decode cX0_salt 35 = .ok (.aload_n 0, 1) := dk_42 (dk_at dksX0_salt_1 11 rfl rfl)
theorem dX0_salt_36 : decode cX0_salt 36 = .ok (.bipush (-3), 2) := dk_16 253 (dk_at dksX0_salt_1 12 rfl rfl)
theorem dX0_salt_38 : decode cX0_salt 38 = .ok (.invokevirtual 122, 3) := dk_182 0 122 (dk_at dksX0_salt_1 14 rfl rfl)
theorem dX0_salt_41 : decode cX0_salt 41 = .ok (.ireturn, 1) := dk_172 (dk_at dksX0_salt_1 17 rfl rfl)
theorem dX0_salt_42 : decode cX0_salt 42 = .ok (.aload_n 0, 1) := dk_42 (dk_at dksX0_salt_1 18 rfl rfl)
theorem dX0_salt_43 : decode cX0_salt 43 = .ok (.getfield 16, 3) := dk_180 0 16 (dk_at dksX0_salt_1 19 rfl rfl)
theorem dX0_salt_46 : decode cX0_salt 46 = .ok (.getfield 150, 3) := dk_180 0 150 (dk_at dksX0_salt_2 0 rfl rfl)
theorem dX0_salt_49 : decode cX0_salt 49 = .ok (.iload_n 1, 1) := dk_27 (dk_at dksX0_salt_2 3 rfl rfl)
theorem dX0_salt_50 : decode cX0_salt 50 = .ok (.baload, 1) := dk_51 (dk_at dksX0_salt_2 4 rfl rfl)
theorem dX0_salt_51 : decode cX0_salt 51 = .ok (.ifCond .eq 7, 3) := dk_153 0 7 (dk_at dksX0_salt_2 5 rfl rfl)
theorem dX0_salt_54 : decode cX0_salt 54 = .ok (.iconst 1, 1) := dk_4 (dk_at dksX0_salt_2 8 rfl rfl)
theorem dX0_salt_55 : decode cX0_salt 55 = .ok (.goto 4, 3) := dk_167 0 4 (dk_at dksX0_salt_2 9 rfl rfl)
theorem dX0_salt_58 : decode cX0_salt 58 = .ok (.iconst 0, 1) := dk_3 (dk_at dksX0_salt_2 12 rfl rfl)
theorem dX0_salt_59 : decode cX0_salt 59 = .ok (.istore_n 3, 1) := dk_62 (dk_at dksX0_salt_2 13 rfl rfl)
theorem dX0_salt_60 : decode cX0_salt 60 = .ok (.aload_n 0, 1) := dk_42 (dk_at dksX0_salt_2 14 rfl rfl)
theorem dX0_salt_61 : decode cX0_salt 61 = .ok (.getfield 16, 3) := dk_180 0 16 (dk_at dksX0_salt_2 15 rfl rfl)
theorem dX0_salt_64 : decode cX0_salt 64 = .ok (.getfield 150, 3) := dk_180 0 150 (dk_at dksX0_salt_2 18 rfl rfl)
theorem dX0_salt_67 : decode cX0_salt 67 = .ok (.iload_n 1, 1) := dk_27 (dk_at dksX0_salt_2 21 rfl rfl)
theorem dX0_salt_68 : decode cX0_salt 68 = .ok (.iload_n 2, 1) := dk_28 (dk_at dksX0_salt_2 22 rfl rfl)
theorem dX0_salt_69 : decode cX0_salt 69 = .ok (.iconst 1, 1) := dk_4 (dk_at dksX0_salt_2 23 rfl rfl)
theorem dX0_salt_70 : decode cX0_salt 70 = .ok (.if_icmp .ne 7, 3) := dk_160 0 7 (dk_at dksX0_salt_3 0 rfl rfl)
theorem dX0_salt_73 : decode cX0_salt 73 = .ok (.iconst 1, 1) := dk_4 (dk_at dksX0_salt_3 3 rfl rfl)
theorem dX0_salt_74 : decode cX0_salt 74 = .ok (.goto 4, 3) := dk_167 0 4 (dk_at dksX0_salt_3 4 rfl rfl)
theorem dX0_salt_77 : decode cX0_salt 77 = .ok (.iconst 0, 1) := dk_3 (dk_at dksX0_salt_3 7 rfl rfl)
theorem dX0_salt_78 : decode cX0_salt 78 = .ok (.bastore, 1) := dk_84 (dk_at dksX0_salt_3 8 rfl rfl)
theorem dX0_salt_79 : decode cX0_salt 79 = .ok (.aload_n 0, 1) := dk_42 (dk_at dksX0_salt_3 9 rfl rfl)
theorem dX0_salt_80 : decode cX0_salt 80 = .ok (.iload_n 3, 1) := dk_29 (dk_at dksX0_salt_3 10 rfl rfl)
theorem dX0_salt_81 : decode cX0_salt 81 = .ok (.invokevirtual 129, 3) := dk_182 0 129 (dk_at dksX0_salt_3 11 rfl rfl)
theorem dX0_salt_84 : decode cX0_salt 84 = .ok (.ireturn, 1) := dk_172 (dk_at dksX0_salt_3 14 rfl rfl)
abbrev cX0_isNeeded : ByteArray := prog_1_method_17_code
def yX0_isNeeded : MethodName := ⟨RX0, "isNeeded", "(I)Z"⟩
def dkwX0_isNeeded_1 : List UInt8 := [28, 4, 182, 0, 143, 27, 160, 0, 5, 4, 172, 132, 2, 1, 167, 255, 220, 3, 172]
abbrev dktX0_isNeeded_1 : List UInt8 := dkwX0_isNeeded_1 ++ []
def dkwX0_isNeeded_0 : List UInt8 := [3, 61, 28, 42, 180, 0, 16, 180, 0, 116, 162, 0, 31, 42, 28, 3, 182, 0, 143, 27, 159, 0, 13, 42]
abbrev dktX0_isNeeded_0 : List UInt8 := dkwX0_isNeeded_0 ++ dktX0_isNeeded_1
theorem dksX0_isNeeded_0 : cX0_isNeeded.data.toList.drop 0 = dktX0_isNeeded_0 := by decide +kernel
theorem dksX0_isNeeded_1 : cX0_isNeeded.data.toList.drop 24 = dktX0_isNeeded_1 := dk_seg dksX0_isNeeded_0 24 rfl rfl
theorem dX0_isNeeded_0 : decode cX0_isNeeded 0 = .ok (.iconst 0, 1) := dk_3 (dk_at dksX0_isNeeded_0 0 rfl rfl)
theorem dX0_isNeeded_1 : decode cX0_isNeeded 1 = .ok (.istore_n 2, 1) := dk_61 (dk_at dksX0_isNeeded_0 1 rfl rfl)
theorem dX0_isNeeded_2 : decode cX0_isNeeded 2 = .ok (.iload_n 2, 1) := dk_28 (dk_at dksX0_isNeeded_0 2 rfl rfl)
theorem dX0_isNeeded_3 : decode cX0_isNeeded 3 = .ok (.aload_n 0, 1) := dk_42 (dk_at dksX0_isNeeded_0 3 rfl rfl)
theorem dX0_isNeeded_4 : decode cX0_isNeeded 4 = .ok (.getfield 16, 3) := dk_180 0 16 (dk_at dksX0_isNeeded_0 4 rfl rfl)
theorem dX0_isNeeded_7 : decode cX0_isNeeded 7 = .ok (.getfield 116, 3) := dk_180 0 116 (dk_at dksX0_isNeeded_0 7 rfl rfl)
theorem dX0_isNeeded_10 : decode cX0_isNeeded 10 = .ok (.if_icmp .ge 31, 3) := dk_162 0 31 (dk_at dksX0_isNeeded_0 10 rfl rfl)
theorem dX0_isNeeded_13 : decode cX0_isNeeded 13 = .ok (.aload_n 0, 1) := dk_42 (dk_at dksX0_isNeeded_0 13 rfl rfl)
theorem dX0_isNeeded_14 : decode cX0_isNeeded 14 = .ok (.iload_n 2, 1) := dk_28 (dk_at dksX0_isNeeded_0 14 rfl rfl)
theorem dX0_isNeeded_15 : decode cX0_isNeeded 15 = .ok (.iconst 0, 1) := dk_3 (dk_at dksX0_isNeeded_0 15 rfl rfl)
theorem dX0_isNeeded_16 : decode cX0_isNeeded 16 = .ok (.invokevirtual 143, 3) := dk_182 0 143 (dk_at dksX0_isNeeded_0 16 rfl rfl)
theorem dX0_isNeeded_19 : decode cX0_isNeeded 19 = .ok (.iload_n 1, 1) := dk_27 (dk_at dksX0_isNeeded_0 19 rfl rfl)
theorem dX0_isNeeded_20 : decode cX0_isNeeded 20 = .ok (.if_icmp .eq 13, 3) := dk_159 0 13 (dk_at dksX0_isNeeded_0 20 rfl rfl)
theorem dX0_isNeeded_23 : decode cX0_isNeeded 23 = .ok (.aload_n 0, 1) := dk_42 (dk_at dksX0_isNeeded_0 23 rfl rfl)
theorem dX0_isNeeded_24 : decode cX0_isNeeded 24 = .ok (.iload_n 2, 1) := dk_28 (dk_at dksX0_isNeeded_1 0 rfl rfl)
theorem dX0_isNeeded_25 : decode cX0_isNeeded 25 = .ok (.iconst 1, 1) := dk_4 (dk_at dksX0_isNeeded_1 1 rfl rfl)
theorem dX0_isNeeded_26 : decode cX0_isNeeded 26 = .ok (.invokevirtual 143, 3) := dk_182 0 143 (dk_at dksX0_isNeeded_1 2 rfl rfl)
theorem dX0_isNeeded_29 : decode cX0_isNeeded 29 = .ok (.iload_n 1, 1) := dk_27 (dk_at dksX0_isNeeded_1 5 rfl rfl)
theorem dX0_isNeeded_30 : decode cX0_isNeeded 30 = .ok (.if_icmp .ne 5, 3) := dk_160 0 5 (dk_at dksX0_isNeeded_1 6 rfl rfl)
theorem dX0_isNeeded_33 : decode cX0_isNeeded 33 = .ok (.iconst 1, 1) := dk_4 (dk_at dksX0_isNeeded_1 9 rfl rfl)
theorem dX0_isNeeded_34 : decode cX0_isNeeded 34 = .ok (.ireturn, 1) := dk_172 (dk_at dksX0_isNeeded_1 10 rfl rfl)
theorem dX0_isNeeded_35 : decode cX0_isNeeded 35 = .ok (.iinc 2 1, 3) := dk_132 2 1 (dk_at dksX0_isNeeded_1 11 rfl rfl)
theorem dX0_isNeeded_38 : decode cX0_isNeeded 38 = .ok (.goto (-36), 3) := dk_167 255 220 (dk_at dksX0_isNeeded_1 14 rfl rfl)
theorem dX0_isNeeded_41 : decode cX0_isNeeded 41 = .ok (.iconst 0, 1) := dk_3 (dk_at dksX0_isNeeded_1 17 rfl rfl)
theorem dX0_isNeeded_42 : decode cX0_isNeeded 42 = .ok (.ireturn, 1) := dk_172 (dk_at dksX0_isNeeded_1 18 rfl rfl)
abbrev cX0_of0 : ByteArray := prog_1_method_11_code
def yX0_of0 : MethodName := ⟨RX0, "of0", "(II)I"⟩
def dkwX0_of0_0 : List UInt8 := [42, 180, 0, 16, 180, 0, 119, 16, 6, 27, 104, 28, 96, 46, 172]
abbrev dktX0_of0_0 : List UInt8 := dkwX0_of0_0 ++ []
theorem dksX0_of0_0 : cX0_of0.data.toList.drop 0 = dktX0_of0_0 := by decide +kernel
theorem dX0_of0_0 : decode cX0_of0 0 = .ok (.aload_n 0, 1) := dk_42 (dk_at dksX0_of0_0 0 rfl rfl)
theorem dX0_of0_1 : decode cX0_of0 1 = .ok (.getfield 16, 3) := dk_180 0 16 (dk_at dksX0_of0_0 1 rfl rfl)
theorem dX0_of0_4 : decode cX0_of0 4 = .ok (.getfield 119, 3) := dk_180 0 119 (dk_at dksX0_of0_0 4 rfl rfl)
theorem dX0_of0_7 : decode cX0_of0 7 = .ok (.bipush 6, 2) := dk_16 6 (dk_at dksX0_of0_0 7 rfl rfl)
theorem dX0_of0_9 : decode cX0_of0 9 = .ok (.iload_n 1, 1) := dk_27 (dk_at dksX0_of0_0 9 rfl rfl)
theorem dX0_of0_10 : decode cX0_of0 10 = .ok (.imul, 1) := dk_104 (dk_at dksX0_of0_0 10 rfl rfl)
theorem dX0_of0_11 : decode cX0_of0 11 = .ok (.iload_n 2, 1) := dk_28 (dk_at dksX0_of0_0 11 rfl rfl)
theorem dX0_of0_12 : decode cX0_of0 12 = .ok (.iadd, 1) := dk_96 (dk_at dksX0_of0_0 12 rfl rfl)
theorem dX0_of0_13 : decode cX0_of0 13 = .ok (.iaload, 1) := dk_46 (dk_at dksX0_of0_0 13 rfl rfl)
theorem dX0_of0_14 : decode cX0_of0 14 = .ok (.ireturn, 1) := dk_172 (dk_at dksX0_of0_0 14 rfl rfl)
abbrev cX0_of : ByteArray := prog_1_method_19_code
def yX0_of : MethodName := ⟨RX0, "of", "(II)I"⟩
def dkwX0_of_2 : List UInt8 := [4, 167, 0, 4, 3, 172]
abbrev dktX0_of_2 : List UInt8 := dkwX0_of_2 ++ []
def dkwX0_of_1 : List UInt8 := [42, 180, 0, 16, 180, 0, 136, 27, 46, 167, 0, 20, 42, 180, 0, 16, 180, 0, 150, 27, 51, 153, 0, 7]
abbrev dktX0_of_1 : List UInt8 := dkwX0_of_1 ++ dktX0_of_2
def dkwX0_of_0 : List UInt8 := [27, 184, 0, 132, 153, 0, 12, 28, 3, 4, 184, 0, 112, 154, 0, 7, 2, 167, 0, 36, 28, 154, 0, 15]
abbrev dktX0_of_0 : List UInt8 := dkwX0_of_0 ++ dktX0_of_1
theorem dksX0_of_0 : cX0_of.data.toList.drop 0 = dktX0_of_0 := by decide +kernel
theorem dksX0_of_1 : cX0_of.data.toList.drop 24 = dktX0_of_1 := dk_seg dksX0_of_0 24 rfl rfl
theorem dksX0_of_2 : cX0_of.data.toList.drop 48 = dktX0_of_2 := dk_seg dksX0_of_1 24 rfl rfl
theorem dX0_of_0 : decode cX0_of 0 = .ok (.iload_n 1, 1) := dk_27 (dk_at dksX0_of_0 0 rfl rfl)
theorem dX0_of_1 : decode cX0_of 1 = .ok (.invokestatic 132, 3) := dk_184 0 132 (dk_at dksX0_of_0 1 rfl rfl)
theorem dX0_of_4 : decode cX0_of 4 = .ok (.ifCond .eq 12, 3) := dk_153 0 12 (dk_at dksX0_of_0 4 rfl rfl)
theorem dX0_of_7 : decode cX0_of 7 = .ok (.iload_n 2, 1) := dk_28 (dk_at dksX0_of_0 7 rfl rfl)
theorem dX0_of_8 : decode cX0_of 8 = .ok (.iconst 0, 1) := dk_3 (dk_at dksX0_of_0 8 rfl rfl)
theorem dX0_of_9 : decode cX0_of 9 = .ok (.iconst 1, 1) := dk_4 (dk_at dksX0_of_0 9 rfl rfl)
theorem dX0_of_10 : decode cX0_of 10 = .ok (.invokestatic 112, 3) := dk_184 0 112 (dk_at dksX0_of_0 10 rfl rfl)
theorem dX0_of_13 : decode cX0_of 13 = .ok (.ifCond .ne 7, 3) := dk_154 0 7 (dk_at dksX0_of_0 13 rfl rfl)
theorem dX0_of_16 : decode cX0_of 16 = .ok (.iconst (-1), 1) := dk_2 (dk_at dksX0_of_0 16 rfl rfl)
theorem dX0_of_17 : decode cX0_of 17 = .ok (.goto 36, 3) := dk_167 0 36 (dk_at dksX0_of_0 17 rfl rfl)
theorem dX0_of_20 : decode cX0_of 20 = .ok (.iload_n 2, 1) := dk_28 (dk_at dksX0_of_0 20 rfl rfl)
theorem dX0_of_21 : decode cX0_of 21 = .ok (.ifCond .ne 15, 3) := dk_154 0 15 (dk_at dksX0_of_0 21 rfl rfl)
theorem dX0_of_24 : decode cX0_of 24 = .ok (.aload_n 0, 1) := dk_42 (dk_at dksX0_of_1 0 rfl rfl)
theorem dX0_of_25 : decode cX0_of 25 = .ok (.getfield 16, 3) := dk_180 0 16 (dk_at dksX0_of_1 1 rfl rfl)
theorem dX0_of_28 : decode cX0_of 28 = .ok (.getfield 136, 3) := dk_180 0 136 (dk_at dksX0_of_1 4 rfl rfl)
theorem dX0_of_31 : decode cX0_of 31 = .ok (.iload_n 1, 1) := dk_27 (dk_at dksX0_of_1 7 rfl rfl)
theorem dX0_of_32 : decode cX0_of 32 = .ok (.iaload, 1) := dk_46 (dk_at dksX0_of_1 8 rfl rfl)
theorem dX0_of_33 : decode cX0_of 33 = .ok (.goto 20, 3) := dk_167 0 20 (dk_at dksX0_of_1 9 rfl rfl)
theorem dX0_of_36 : decode cX0_of 36 = .ok (.aload_n 0, 1) := dk_42 (dk_at dksX0_of_1 12 rfl rfl)
theorem dX0_of_37 : decode cX0_of 37 = .ok (.getfield 16, 3) := dk_180 0 16 (dk_at dksX0_of_1 13 rfl rfl)
theorem dX0_of_40 : decode cX0_of 40 = .ok (.getfield 150, 3) := dk_180 0 150 (dk_at dksX0_of_1 16 rfl rfl)
theorem dX0_of_43 : decode cX0_of 43 = .ok (.iload_n 1, 1) := dk_27 (dk_at dksX0_of_1 19 rfl rfl)
theorem dX0_of_44 : decode cX0_of 44 = .ok (.baload, 1) := dk_51 (dk_at dksX0_of_1 20 rfl rfl)
theorem dX0_of_45 : decode cX0_of 45 = .ok (.ifCond .eq 7, 3) := dk_153 0 7 (dk_at dksX0_of_1 21 rfl rfl)
theorem dX0_of_48 : decode cX0_of 48 = .ok (.iconst 1, 1) := dk_4 (dk_at dksX0_of_2 0 rfl rfl)
theorem dX0_of_49 : decode cX0_of 49 = .ok (.goto 4, 3) := dk_167 0 4 (dk_at dksX0_of_2 1 rfl rfl)
theorem dX0_of_52 : decode cX0_of 52 = .ok (.iconst 0, 1) := dk_3 (dk_at dksX0_of_2 4 rfl rfl)
theorem dX0_of_53 : decode cX0_of 53 = .ok (.ireturn, 1) := dk_172 (dk_at dksX0_of_2 5 rfl rfl)
abbrev cX0_snail : ByteArray := prog_1_method_21_code
def yX0_snail : MethodName := ⟨RX0, "snail", "(IIII)I"⟩
def dkwX0_snail_8 : List UInt8 := [96, 181, 0, 116, 42, 42, 180, 0, 16, 180, 0, 116, 4, 100, 182, 0, 129, 172]
abbrev dktX0_snail_8 : List UInt8 := dkwX0_snail_8 ++ []
def dkwX0_snail_7 : List UInt8 := [3, 79, 42, 180, 0, 16, 180, 0, 119, 21, 5, 8, 96, 4, 79, 42, 180, 0, 16, 89, 180, 0, 116, 4]
abbrev dktX0_snail_7 : List UInt8 := dkwX0_snail_7 ++ dktX0_snail_8
def dkwX0_snail_6 : List UInt8 := [180, 0, 16, 180, 0, 119, 21, 5, 6, 96, 21, 4, 79, 42, 180, 0, 16, 180, 0, 119, 21, 5, 7, 96]
abbrev dktX0_snail_6 : List UInt8 := dkwX0_snail_6 ++ dktX0_snail_7
def dkwX0_snail_5 : List UInt8 := [180, 0, 119, 21, 5, 4, 96, 28, 79, 42, 180, 0, 16, 180, 0, 119, 21, 5, 5, 96, 29, 79, 42]
abbrev dktX0_snail_5 : List UInt8 := dkwX0_snail_5 ++ dktX0_snail_6
def dkwX0_snail_4 : List UInt8 := [180, 0, 116, 104, 54, 5, 42, 180, 0, 16, 180, 0, 119, 21, 5, 3, 96, 27, 79, 42, 180, 0, 16]
abbrev dktX0_snail_4 : List UInt8 := dkwX0_snail_4 ++ dktX0_snail_5
def dkwX0_snail_3 : List UInt8 := [180, 0, 16, 180, 0, 116, 16, 6, 160, 0, 10, 42, 16, 251, 182, 0, 122, 172, 16, 6, 42, 180, 0, 16]
abbrev dktX0_snail_3 : List UInt8 := dkwX0_snail_3 ++ dktX0_snail_4
def dkwX0_snail_2 : List UInt8 := [154, 0, 15, 42, 180, 0, 16, 180, 0, 150, 28, 51, 153, 0, 10, 42, 16, 253, 182, 0, 122, 172, 42]
abbrev dktX0_snail_2 : List UInt8 := dkwX0_snail_2 ++ dktX0_snail_3
def dkwX0_snail_1 : List UInt8 := [6, 21, 4, 184, 0, 154, 154, 0, 9, 42, 2, 182, 0, 122, 172, 42, 180, 0, 16, 180, 0, 150, 27, 51]
abbrev dktX0_snail_1 : List UInt8 := dkwX0_snail_1 ++ dktX0_snail_2
def dkwX0_snail_0 : List UInt8 := [3, 27, 184, 0, 154, 153, 0, 28, 4, 28, 184, 0, 154, 153, 0, 20, 5, 29, 184, 0, 154, 153, 0, 12]
abbrev dktX0_snail_0 : List UInt8 := dkwX0_snail_0 ++ dktX0_snail_1
theorem dksX0_snail_0 : cX0_snail.data.toList.drop 0 = dktX0_snail_0 := by decide +kernel
theorem dksX0_snail_1 : cX0_snail.data.toList.drop 24 = dktX0_snail_1 := dk_seg dksX0_snail_0 24 rfl rfl
theorem dksX0_snail_2 : cX0_snail.data.toList.drop 48 = dktX0_snail_2 := dk_seg dksX0_snail_1 24 rfl rfl
theorem dksX0_snail_3 : cX0_snail.data.toList.drop 71 = dktX0_snail_3 := dk_seg dksX0_snail_2 23 rfl rfl
theorem dksX0_snail_4 : cX0_snail.data.toList.drop 95 = dktX0_snail_4 := dk_seg dksX0_snail_3 24 rfl rfl
theorem dksX0_snail_5 : cX0_snail.data.toList.drop 118 = dktX0_snail_5 := dk_seg dksX0_snail_4 23 rfl rfl
theorem dksX0_snail_6 : cX0_snail.data.toList.drop 141 = dktX0_snail_6 := dk_seg dksX0_snail_5 23 rfl rfl
theorem dksX0_snail_7 : cX0_snail.data.toList.drop 165 = dktX0_snail_7 := dk_seg dksX0_snail_6 24 rfl rfl
theorem dksX0_snail_8 : cX0_snail.data.toList.drop 189 = dktX0_snail_8 := dk_seg dksX0_snail_7 24 rfl rfl
theorem dX0_snail_0 : decode cX0_snail 0 = .ok (.iconst 0, 1) := dk_3 (dk_at dksX0_snail_0 0 rfl rfl)
theorem dX0_snail_1 : decode cX0_snail 1 = .ok (.iload_n 1, 1) := dk_27 (dk_at dksX0_snail_0 1 rfl rfl)
theorem dX0_snail_2 : decode cX0_snail 2 = .ok (.invokestatic 154, 3) := dk_184 0 154 (dk_at dksX0_snail_0 2 rfl rfl)
theorem dX0_snail_5 : decode cX0_snail 5 = .ok (.ifCond .eq 28, 3) := dk_153 0 28 (dk_at dksX0_snail_0 5 rfl rfl)
theorem dX0_snail_8 : decode cX0_snail 8 = .ok (.iconst 1, 1) := dk_4 (dk_at dksX0_snail_0 8 rfl rfl)
theorem dX0_snail_9 : decode cX0_snail 9 = .ok (.iload_n 2, 1) := dk_28 (dk_at dksX0_snail_0 9 rfl rfl)
theorem dX0_snail_10 : decode cX0_snail 10 = .ok (.invokestatic 154, 3) := dk_184 0 154 (dk_at dksX0_snail_0 10 rfl rfl)
theorem dX0_snail_13 : decode cX0_snail 13 = .ok (.ifCond .eq 20, 3) := dk_153 0 20 (dk_at dksX0_snail_0 13 rfl rfl)
theorem dX0_snail_16 : decode cX0_snail 16 = .ok (.iconst 2, 1) := dk_5 (dk_at dksX0_snail_0 16 rfl rfl)
theorem dX0_snail_17 : decode cX0_snail 17 = .ok (.iload_n 3, 1) := dk_29 (dk_at dksX0_snail_0 17 rfl rfl)
theorem dX0_snail_18 : decode cX0_snail 18 = .ok (.invokestatic 154, 3) := dk_184 0 154 (dk_at dksX0_snail_0 18 rfl rfl)
theorem dX0_snail_21 : decode cX0_snail 21 = .ok (.ifCond .eq 12, 3) := dk_153 0 12 (dk_at dksX0_snail_0 21 rfl rfl)
theorem dX0_snail_24 : decode cX0_snail 24 = .ok (.iconst 3, 1) := dk_6 (dk_at dksX0_snail_1 0 rfl rfl)
theorem dX0_snail_25 : decode cX0_snail 25 = .ok (.iload 4, 2) := dk_21 4 (dk_at dksX0_snail_1 1 rfl rfl)
theorem dX0_snail_27 : decode cX0_snail 27 = .ok (.invokestatic 154, 3) := dk_184 0 154 (dk_at dksX0_snail_1 3 rfl rfl)
theorem dX0_snail_30 : decode cX0_snail 30 = .ok (.ifCond .ne 9, 3) := dk_154 0 9 (dk_at dksX0_snail_1 6 rfl rfl)
theorem dX0_snail_33 : decode cX0_snail 33 = .ok (.aload_n 0, 1) := dk_42 (dk_at dksX0_snail_1 9 rfl rfl)
theorem dX0_snail_34 : decode cX0_snail 34 = .ok (.iconst (-1), 1) := dk_2 (dk_at dksX0_snail_1 10 rfl rfl)
theorem dX0_snail_35 : decode cX0_snail 35 = .ok (.invokevirtual 122, 3) := dk_182 0 122 (dk_at dksX0_snail_1 11 rfl rfl)
theorem dX0_snail_38 : decode cX0_snail 38 = .ok (.ireturn, 1) := dk_172 (dk_at dksX0_snail_1 14 rfl rfl)
theorem dX0_snail_39 : decode cX0_snail 39 = .ok (.aload_n 0, 1) := dk_42 (dk_at dksX0_snail_1 15 rfl rfl)
theorem dX0_snail_40 : decode cX0_snail 40 = .ok (.getfield 16, 3) := dk_180 0 16 (dk_at dksX0_snail_1 16 rfl rfl)
theorem dX0_snail_43 : decode cX0_snail 43 = .ok (.getfield 150, 3) := dk_180 0 150 (dk_at dksX0_snail_1 19 rfl rfl)
theorem dX0_snail_46 : decode cX0_snail 46 = .ok (.iload_n 1, 1) := dk_27 (dk_at dksX0_snail_1 22 rfl rfl)
theorem dX0_snail_47 : decode cX0_snail 47 = .ok (.baload, 1) := dk_51 (dk_at dksX0_snail_1 23 rfl rfl)
theorem dX0_snail_48 : decode cX0_snail 48 = .ok (.ifCond .ne 15, 3) := dk_154 0 15 (dk_at dksX0_snail_2 0 rfl rfl)
theorem dX0_snail_51 : decode cX0_snail 51 = .ok (.aload_n 0, 1) := dk_42 (dk_at dksX0_snail_2 3 rfl rfl)
theorem dX0_snail_52 : decode cX0_snail 52 = .ok (.getfield 16, 3) := dk_180 0 16 (dk_at dksX0_snail_2 4 rfl rfl)
theorem dX0_snail_55 : decode cX0_snail 55 = .ok (.getfield 150, 3) := dk_180 0 150 (dk_at dksX0_snail_2 7 rfl rfl)
theorem dX0_snail_58 : decode cX0_snail 58 = .ok (.iload_n 2, 1) := dk_28 (dk_at dksX0_snail_2 10 rfl rfl)
theorem dX0_snail_59 : decode cX0_snail 59 = .ok (.baload, 1) := dk_51 (dk_at dksX0_snail_2 11 rfl rfl)
theorem dX0_snail_60 : decode cX0_snail 60 = .ok (.ifCond .eq 10, 3) := dk_153 0 10 (dk_at dksX0_snail_2 12 rfl rfl)
theorem dX0_snail_63 : decode cX0_snail 63 = .ok (.aload_n 0, 1) := dk_42 (dk_at dksX0_snail_2 15 rfl rfl)
theorem dX0_snail_64 : decode cX0_snail 64 = .ok (.bipush (-3), 2) := dk_16 253 (dk_at dksX0_snail_2 16 rfl rfl)
theorem dX0_snail_66 : decode cX0_snail 66 = .ok (.invokevirtual 122, 3) := dk_182 0 122 (dk_at dksX0_snail_2 18 rfl rfl)
theorem dX0_snail_69 : decode cX0_snail 69 = .ok (.ireturn, 1) := dk_172 (dk_at dksX0_snail_2 21 rfl rfl)
theorem dX0_snail_70 : decode cX0_snail 70 = .ok (.aload_n 0, 1) := dk_42 (dk_at dksX0_snail_2 22 rfl rfl)
theorem dX0_snail_71 : decode cX0_snail 71 = .ok (.getfield 16, 3) := dk_180 0 16 (dk_at dksX0_snail_3 0 rfl rfl)
theorem dX0_snail_74 : decode cX0_snail 74 = .ok (.getfield 116, 3) := dk_180 0 116 (dk_at dksX0_snail_3 3 rfl rfl)
theorem dX0_snail_77 : decode cX0_snail 77 = .ok (.bipush 6, 2) := dk_16 6 (dk_at dksX0_snail_3 6 rfl rfl)
theorem dX0_snail_79 : decode cX0_snail 79 = .ok (.if_icmp .ne 10, 3) := dk_160 0 10 (dk_at dksX0_snail_3 8 rfl rfl)
theorem dX0_snail_82 : decode cX0_snail 82 = .ok (.aload_n 0, 1) := dk_42 (dk_at dksX0_snail_3 11 rfl rfl)
theorem dX0_snail_83 : decode cX0_snail 83 = .ok (.bipush (-5), 2) := dk_16 251 (dk_at dksX0_snail_3 12 rfl rfl)
theorem dX0_snail_85 : decode cX0_snail 85 = .ok (.invokevirtual 122, 3) := dk_182 0 122 (dk_at dksX0_snail_3 14 rfl rfl)
theorem dX0_snail_88 : decode cX0_snail 88 = .ok (.ireturn, 1) := dk_172 (dk_at dksX0_snail_3 17 rfl rfl)
theorem dX0_snail_89 : decode cX0_snail 89 = .ok (.bipush 6, 2) := dk_16 6 (dk_at dksX0_snail_3 18 rfl rfl)
theorem dX0_snail_91 : decode cX0_snail 91 = .ok (.aload_n 0, 1) := dk_42 (dk_at dksX0_snail_3 20 rfl rfl)
theorem dX0_snail_92 : decode cX0_snail 92 = .ok (.getfield 16, 3) := dk_180 0 16 (dk_at dksX0_snail_3 21 rfl rfl)
theorem dX0_snail_95 : decode cX0_snail 95 = .ok (.getfield 116, 3) := dk_180 0 116 (dk_at dksX0_snail_4 0 rfl rfl)
theorem dX0_snail_98 : decode cX0_snail 98 = .ok (.imul, 1) := dk_104 (dk_at dksX0_snail_4 3 rfl rfl)
theorem dX0_snail_99 : decode cX0_snail 99 = .ok (.istore 5, 2) := dk_54 5 (dk_at dksX0_snail_4 4 rfl rfl)
theorem dX0_snail_101 : decode cX0_snail 101 = .ok (.aload_n 0, 1) := dk_42 (dk_at dksX0_snail_4 6 rfl rfl)
theorem dX0_snail_102 : decode cX0_snail 102 = .ok (.getfield 16, 3) := dk_180 0 16 (dk_at dksX0_snail_4 7 rfl rfl)
theorem dX0_snail_105 : decode cX0_snail 105 = .ok (.getfield 119, 3) := dk_180 0 119 (dk_at dksX0_snail_4 10 rfl rfl)
theorem dX0_snail_108 : decode cX0_snail 108 = .ok (.iload 5, 2) := dk_21 5 (dk_at dksX0_snail_4 13 rfl rfl)
theorem dX0_snail_110 : decode cX0_snail 110 = .ok (.iconst 0, 1) := dk_3 (dk_at dksX0_snail_4 15 rfl rfl)
theorem dX0_snail_111 : decode cX0_snail 111 = .ok (.iadd, 1) := dk_96 (dk_at dksX0_snail_4 16 rfl rfl)
theorem dX0_snail_112 : decode cX0_snail 112 = .ok (.iload_n 1, 1) := dk_27 (dk_at dksX0_snail_4 17 rfl rfl)
theorem dX0_snail_113 : decode cX0_snail 113 = .ok (.iastore, 1) := dk_79 (dk_at dksX0_snail_4 18 rfl rfl)
theorem dX0_snail_114 : decode cX0_snail 114 = .ok (.aload_n 0, 1) := dk_42 (dk_at dksX0_snail_4 19 rfl rfl)
theorem dX0_snail_115 : decode cX0_snail 115 = .ok (.getfield 16, 3) := dk_180 0 16 (dk_at dksX0_snail_4 20 rfl rfl)
theorem dX0_snail_118 : decode cX0_snail 118 = .ok (.getfield 119, 3) := dk_180 0 119 (dk_at dksX0_snail_5 0 rfl rfl)
theorem dX0_snail_121 : decode cX0_snail 121 = .ok (.iload 5, 2) := dk_21 5 (dk_at dksX0_snail_5 3 rfl rfl)
theorem dX0_snail_123 : decode cX0_snail 123 = .ok (.iconst 1, 1) := dk_4 (dk_at dksX0_snail_5 5 rfl rfl)
theorem dX0_snail_124 : decode cX0_snail 124 = .ok (.iadd, 1) := dk_96 (dk_at dksX0_snail_5 6 rfl rfl)
theorem dX0_snail_125 : decode cX0_snail 125 = .ok (.iload_n 2, 1) := dk_28 (dk_at dksX0_snail_5 7 rfl rfl)
theorem dX0_snail_126 : decode cX0_snail 126 = .ok (.iastore, 1) := dk_79 (dk_at dksX0_snail_5 8 rfl rfl)
theorem dX0_snail_127 : decode cX0_snail 127 = .ok (.aload_n 0, 1) := dk_42 (dk_at dksX0_snail_5 9 rfl rfl)
theorem dX0_snail_128 : decode cX0_snail 128 = .ok (.getfield 16, 3) := dk_180 0 16 (dk_at dksX0_snail_5 10 rfl rfl)
theorem dX0_snail_131 : decode cX0_snail 131 = .ok (.getfield 119, 3) := dk_180 0 119 (dk_at dksX0_snail_5 13 rfl rfl)
theorem dX0_snail_134 : decode cX0_snail 134 = .ok (.iload 5, 2) := dk_21 5 (dk_at dksX0_snail_5 16 rfl rfl)
theorem dX0_snail_136 : decode cX0_snail 136 = .ok (.iconst 2, 1) := dk_5 (dk_at dksX0_snail_5 18 rfl rfl)
theorem dX0_snail_137 : decode cX0_snail 137 = .ok (.iadd, 1) := dk_96 (dk_at dksX0_snail_5 19 rfl rfl)
theorem dX0_snail_138 : decode cX0_snail 138 = .ok (.iload_n 3, 1) := dk_29 (dk_at dksX0_snail_5 20 rfl rfl)
theorem dX0_snail_139 : decode cX0_snail 139 = .ok (.iastore, 1) := dk_79 (dk_at dksX0_snail_5 21 rfl rfl)
theorem dX0_snail_140 : decode cX0_snail 140 = .ok (.aload_n 0, 1) := dk_42 (dk_at dksX0_snail_5 22 rfl rfl)
theorem dX0_snail_141 : decode cX0_snail 141 = .ok (.getfield 16, 3) := dk_180 0 16 (dk_at dksX0_snail_6 0 rfl rfl)
theorem dX0_snail_144 : decode cX0_snail 144 = .ok (.getfield 119, 3) := dk_180 0 119 (dk_at dksX0_snail_6 3 rfl rfl)
theorem dX0_snail_147 : decode cX0_snail 147 = .ok (.iload 5, 2) := dk_21 5 (dk_at dksX0_snail_6 6 rfl rfl)
theorem dX0_snail_149 : decode cX0_snail 149 = .ok (.iconst 3, 1) := dk_6 (dk_at dksX0_snail_6 8 rfl rfl)
theorem dX0_snail_150 : decode cX0_snail 150 = .ok (.iadd, 1) := dk_96 (dk_at dksX0_snail_6 9 rfl rfl)
theorem dX0_snail_151 : decode cX0_snail 151 = .ok (.iload 4, 2) := dk_21 4 (dk_at dksX0_snail_6 10 rfl rfl)
theorem dX0_snail_153 : decode cX0_snail 153 = .ok (.iastore, 1) := dk_79 (dk_at dksX0_snail_6 12 rfl rfl)
theorem dX0_snail_154 : decode cX0_snail 154 = .ok (.aload_n 0, 1) := dk_42 (dk_at dksX0_snail_6 13 rfl rfl)
theorem dX0_snail_155 : decode cX0_snail 155 = .ok (.getfield 16, 3) := dk_180 0 16 (dk_at dksX0_snail_6 14 rfl rfl)
theorem dX0_snail_158 : decode cX0_snail 158 = .ok (.getfield 119, 3) := dk_180 0 119 (dk_at dksX0_snail_6 17 rfl rfl)
theorem dX0_snail_161 : decode cX0_snail 161 = .ok (.iload 5, 2) := dk_21 5 (dk_at dksX0_snail_6 20 rfl rfl)
theorem dX0_snail_163 : decode cX0_snail 163 = .ok (.iconst 4, 1) := dk_7 (dk_at dksX0_snail_6 22 rfl rfl)
theorem dX0_snail_164 : decode cX0_snail 164 = .ok (.iadd, 1) := dk_96 (dk_at dksX0_snail_6 23 rfl rfl)
theorem dX0_snail_165 : decode cX0_snail 165 = .ok (.iconst 0, 1) := dk_3 (dk_at dksX0_snail_7 0 rfl rfl)
theorem dX0_snail_166 : decode cX0_snail 166 = .ok (.iastore, 1) := dk_79 (dk_at dksX0_snail_7 1 rfl rfl)
theorem dX0_snail_167 : decode cX0_snail 167 = .ok (.aload_n 0, 1) := dk_42 (dk_at dksX0_snail_7 2 rfl rfl)
theorem dX0_snail_168 : decode cX0_snail 168 = .ok (.getfield 16, 3) := dk_180 0 16 (dk_at dksX0_snail_7 3 rfl rfl)
theorem dX0_snail_171 : decode cX0_snail 171 = .ok (.getfield 119, 3) := dk_180 0 119 (dk_at dksX0_snail_7 6 rfl rfl)
theorem dX0_snail_174 : decode cX0_snail 174 = .ok (.iload 5, 2) := dk_21 5 (dk_at dksX0_snail_7 9 rfl rfl)
theorem dX0_snail_176 : decode cX0_snail 176 = .ok (.iconst 5, 1) := dk_8 (dk_at dksX0_snail_7 11 rfl rfl)
theorem dX0_snail_177 : decode cX0_snail 177 = .ok (.iadd, 1) := dk_96 (dk_at dksX0_snail_7 12 rfl rfl)
theorem dX0_snail_178 : decode cX0_snail 178 = .ok (.iconst 1, 1) := dk_4 (dk_at dksX0_snail_7 13 rfl rfl)
theorem dX0_snail_179 : decode cX0_snail 179 = .ok (.iastore, 1) := dk_79 (dk_at dksX0_snail_7 14 rfl rfl)
theorem dX0_snail_180 : decode cX0_snail 180 = .ok (.aload_n 0, 1) := dk_42 (dk_at dksX0_snail_7 15 rfl rfl)
theorem dX0_snail_181 : decode cX0_snail 181 = .ok (.getfield 16, 3) := dk_180 0 16 (dk_at dksX0_snail_7 16 rfl rfl)
theorem dX0_snail_184 : decode cX0_snail 184 = .ok (.dup, 1) := dk_89 (dk_at dksX0_snail_7 19 rfl rfl)
theorem dX0_snail_185 : decode cX0_snail 185 = .ok (.getfield 116, 3) := dk_180 0 116 (dk_at dksX0_snail_7 20 rfl rfl)
theorem dX0_snail_188 : decode cX0_snail 188 = .ok (.iconst 1, 1) := dk_4 (dk_at dksX0_snail_7 23 rfl rfl)
theorem dX0_snail_189 : decode cX0_snail 189 = .ok (.iadd, 1) := dk_96 (dk_at dksX0_snail_8 0 rfl rfl)
theorem dX0_snail_190 : decode cX0_snail 190 = .ok (.putfield 116, 3) := dk_181 0 116 (dk_at dksX0_snail_8 1 rfl rfl)
theorem dX0_snail_193 : decode cX0_snail 193 = .ok (.aload_n 0, 1) := dk_42 (dk_at dksX0_snail_8 4 rfl rfl)
theorem dX0_snail_194 : decode cX0_snail 194 = .ok (.aload_n 0, 1) := dk_42 (dk_at dksX0_snail_8 5 rfl rfl)
theorem dX0_snail_195 : decode cX0_snail 195 = .ok (.getfield 16, 3) := dk_180 0 16 (dk_at dksX0_snail_8 6 rfl rfl)
theorem dX0_snail_198 : decode cX0_snail 198 = .ok (.getfield 116, 3) := dk_180 0 116 (dk_at dksX0_snail_8 9 rfl rfl)
theorem dX0_snail_201 : decode cX0_snail 201 = .ok (.iconst 1, 1) := dk_4 (dk_at dksX0_snail_8 12 rfl rfl)
theorem dX0_snail_202 : decode cX0_snail 202 = .ok (.isub, 1) := dk_100 (dk_at dksX0_snail_8 13 rfl rfl)
theorem dX0_snail_203 : decode cX0_snail 203 = .ok (.invokevirtual 129, 3) := dk_182 0 129 (dk_at dksX0_snail_8 14 rfl rfl)
theorem dX0_snail_206 : decode cX0_snail 206 = .ok (.ireturn, 1) := dk_172 (dk_at dksX0_snail_8 17 rfl rfl)
abbrev cX0_isFact : ByteArray := prog_1_method_20_code
def yX0_isFact : MethodName := ⟨RX0, "isFact", "(II)Z"⟩
def dkwX0_isFact_3 : List UInt8 := [184, 0, 112, 172, 27, 4, 16, 63, 184, 0, 112, 172, 3, 172]
abbrev dktX0_isFact_3 : List UInt8 := dkwX0_isFact_3 ++ []
def dkwX0_isFact_2 : List UInt8 := [27, 184, 0, 132, 172, 27, 4, 16, 12, 184, 0, 112, 172, 27, 3, 7, 184, 0, 112, 172, 27, 3, 16, 100]
abbrev dktX0_isFact_2 : List UInt8 := dkwX0_isFact_2 ++ dktX0_isFact_3
def dkwX0_isFact_1 : List UInt8 := [170, 0, 0, 0, 0, 0, 75, 0, 0, 0, 0, 0, 0, 0, 5, 0, 0, 0, 39, 0, 0, 0, 39, 0, 0, 0, 44, 0, 0, 0, 52, 0, 0, 0, 59, 0, 0, 0, 67]
abbrev dktX0_isFact_1 : List UInt8 := dkwX0_isFact_1 ++ dktX0_isFact_2
def dkwX0_isFact_0 : List UInt8 := [26]
abbrev dktX0_isFact_0 : List UInt8 := dkwX0_isFact_0 ++ dktX0_isFact_1
theorem dksX0_isFact_0 : cX0_isFact.data.toList.drop 0 = dktX0_isFact_0 := by decide +kernel
theorem dksX0_isFact_1 : cX0_isFact.data.toList.drop 1 = dktX0_isFact_1 := dk_seg dksX0_isFact_0 1 rfl rfl
theorem dksX0_isFact_2 : cX0_isFact.data.toList.drop 40 = dktX0_isFact_2 := dk_seg dksX0_isFact_1 39 rfl rfl
theorem dksX0_isFact_3 : cX0_isFact.data.toList.drop 64 = dktX0_isFact_3 := dk_seg dksX0_isFact_2 24 rfl rfl
theorem dX0_isFact_0 : decode cX0_isFact 0 = .ok (.iload_n 0, 1) := dk_26 (dk_at dksX0_isFact_0 0 rfl rfl)
theorem dX0_isFact_1 : decode cX0_isFact 1 = .ok (.tableswitch 75 0 5 #[39, 39, 44, 52, 59, 67], 39) := by decide +kernel
theorem dX0_isFact_40 : decode cX0_isFact 40 = .ok (.iload_n 1, 1) := dk_27 (dk_at dksX0_isFact_2 0 rfl rfl)
theorem dX0_isFact_41 : decode cX0_isFact 41 = .ok (.invokestatic 132, 3) := dk_184 0 132 (dk_at dksX0_isFact_2 1 rfl rfl)
theorem dX0_isFact_44 : decode cX0_isFact 44 = .ok (.ireturn, 1) := dk_172 (dk_at dksX0_isFact_2 4 rfl rfl)
theorem dX0_isFact_45 : decode cX0_isFact 45 = .ok (.iload_n 1, 1) := dk_27 (dk_at dksX0_isFact_2 5 rfl rfl)
theorem dX0_isFact_46 : decode cX0_isFact 46 = .ok (.iconst 1, 1) := dk_4 (dk_at dksX0_isFact_2 6 rfl rfl)
theorem dX0_isFact_47 : decode cX0_isFact 47 = .ok (.bipush 12, 2) := dk_16 12 (dk_at dksX0_isFact_2 7 rfl rfl)
theorem dX0_isFact_49 : decode cX0_isFact 49 = .ok (.invokestatic 112, 3) := dk_184 0 112 (dk_at dksX0_isFact_2 9 rfl rfl)
theorem dX0_isFact_52 : decode cX0_isFact 52 = .ok (.ireturn, 1) := dk_172 (dk_at dksX0_isFact_2 12 rfl rfl)
theorem dX0_isFact_53 : decode cX0_isFact 53 = .ok (.iload_n 1, 1) := dk_27 (dk_at dksX0_isFact_2 13 rfl rfl)
theorem dX0_isFact_54 : decode cX0_isFact 54 = .ok (.iconst 0, 1) := dk_3 (dk_at dksX0_isFact_2 14 rfl rfl)
theorem dX0_isFact_55 : decode cX0_isFact 55 = .ok (.iconst 4, 1) := dk_7 (dk_at dksX0_isFact_2 15 rfl rfl)
theorem dX0_isFact_56 : decode cX0_isFact 56 = .ok (.invokestatic 112, 3) := dk_184 0 112 (dk_at dksX0_isFact_2 16 rfl rfl)
theorem dX0_isFact_59 : decode cX0_isFact 59 = .ok (.ireturn, 1) := dk_172 (dk_at dksX0_isFact_2 19 rfl rfl)
theorem dX0_isFact_60 : decode cX0_isFact 60 = .ok (.iload_n 1, 1) := dk_27 (dk_at dksX0_isFact_2 20 rfl rfl)
theorem dX0_isFact_61 : decode cX0_isFact 61 = .ok (.iconst 0, 1) := dk_3 (dk_at dksX0_isFact_2 21 rfl rfl)
theorem dX0_isFact_62 : decode cX0_isFact 62 = .ok (.bipush 100, 2) := dk_16 100 (dk_at dksX0_isFact_2 22 rfl rfl)
theorem dX0_isFact_64 : decode cX0_isFact 64 = .ok (.invokestatic 112, 3) := dk_184 0 112 (dk_at dksX0_isFact_3 0 rfl rfl)
theorem dX0_isFact_67 : decode cX0_isFact 67 = .ok (.ireturn, 1) := dk_172 (dk_at dksX0_isFact_3 3 rfl rfl)
theorem dX0_isFact_68 : decode cX0_isFact 68 = .ok (.iload_n 1, 1) := dk_27 (dk_at dksX0_isFact_3 4 rfl rfl)
theorem dX0_isFact_69 : decode cX0_isFact 69 = .ok (.iconst 1, 1) := dk_4 (dk_at dksX0_isFact_3 5 rfl rfl)
theorem dX0_isFact_70 : decode cX0_isFact 70 = .ok (.bipush 63, 2) := dk_16 63 (dk_at dksX0_isFact_3 6 rfl rfl)
theorem dX0_isFact_72 : decode cX0_isFact 72 = .ok (.invokestatic 112, 3) := dk_184 0 112 (dk_at dksX0_isFact_3 8 rfl rfl)
theorem dX0_isFact_75 : decode cX0_isFact 75 = .ok (.ireturn, 1) := dk_172 (dk_at dksX0_isFact_3 11 rfl rfl)
theorem dX0_isFact_76 : decode cX0_isFact 76 = .ok (.iconst 0, 1) := dk_3 (dk_at dksX0_isFact_3 12 rfl rfl)
theorem dX0_isFact_77 : decode cX0_isFact 77 = .ok (.ireturn, 1) := dk_172 (dk_at dksX0_isFact_3 13 rfl rfl)
abbrev cX0_put : ByteArray := prog_1_method_22_code
def yX0_put : MethodName := ⟨RX0, "put", "(III)I"⟩
def dkwX0_put_3 : List UInt8 := [182, 0, 139, 172]
abbrev dktX0_put_3 : List UInt8 := dkwX0_put_3 ++ []
def dkwX0_put_2 : List UInt8 := [16, 253, 182, 0, 122, 167, 0, 21, 42, 42, 180, 0, 16, 180, 0, 119, 16, 6, 27, 104, 28, 96, 29]
abbrev dktX0_put_2 : List UInt8 := dkwX0_put_2 ++ dktX0_put_3
def dkwX0_put_1 : List UInt8 := [16, 254, 182, 0, 122, 172, 28, 4, 163, 0, 24, 42, 180, 0, 16, 180, 0, 150, 29, 51, 153, 0, 12, 42]
abbrev dktX0_put_1 : List UInt8 := dkwX0_put_1 ++ dktX0_put_2
def dkwX0_put_0 : List UInt8 := [28, 29, 184, 0, 154, 154, 0, 9, 42, 2, 182, 0, 122, 172, 42, 27, 182, 0, 158, 154, 0, 10, 42]
abbrev dktX0_put_0 : List UInt8 := dkwX0_put_0 ++ dktX0_put_1
theorem dksX0_put_0 : cX0_put.data.toList.drop 0 = dktX0_put_0 := by decide +kernel
theorem dksX0_put_1 : cX0_put.data.toList.drop 23 = dktX0_put_1 := dk_seg dksX0_put_0 23 rfl rfl
theorem dksX0_put_2 : cX0_put.data.toList.drop 47 = dktX0_put_2 := dk_seg dksX0_put_1 24 rfl rfl
theorem dksX0_put_3 : cX0_put.data.toList.drop 70 = dktX0_put_3 := dk_seg dksX0_put_2 23 rfl rfl
theorem dX0_put_0 : decode cX0_put 0 = .ok (.iload_n 2, 1) := dk_28 (dk_at dksX0_put_0 0 rfl rfl)
theorem dX0_put_1 : decode cX0_put 1 = .ok (.iload_n 3, 1) := dk_29 (dk_at dksX0_put_0 1 rfl rfl)
theorem dX0_put_2 : decode cX0_put 2 = .ok (.invokestatic 154, 3) := dk_184 0 154 (dk_at dksX0_put_0 2 rfl rfl)
theorem dX0_put_5 : decode cX0_put 5 = .ok (.ifCond .ne 9, 3) := dk_154 0 9 (dk_at dksX0_put_0 5 rfl rfl)
theorem dX0_put_8 : decode cX0_put 8 = .ok (.aload_n 0, 1) := dk_42 (dk_at dksX0_put_0 8 rfl rfl)
theorem dX0_put_9 : decode cX0_put 9 = .ok (.iconst (-1), 1) := dk_2 (dk_at dksX0_put_0 9 rfl rfl)
theorem dX0_put_10 : decode cX0_put 10 = .ok (.invokevirtual 122, 3) := dk_182 0 122 (dk_at dksX0_put_0 10 rfl rfl)
theorem dX0_put_13 : decode cX0_put 13 = .ok (.ireturn, 1) := dk_172 (dk_at dksX0_put_0 13 rfl rfl)
theorem dX0_put_14 : decode cX0_put 14 = .ok (.aload_n 0, 1) := dk_42 (dk_at dksX0_put_0 14 rfl rfl)
theorem dX0_put_15 : decode cX0_put 15 = .ok (.iload_n 1, 1) := dk_27 (dk_at dksX0_put_0 15 rfl rfl)
theorem dX0_put_16 : decode cX0_put 16 = .ok (.invokevirtual 158, 3) := dk_182 0 158 (dk_at dksX0_put_0 16 rfl rfl)
theorem dX0_put_19 : decode cX0_put 19 = .ok (.ifCond .ne 10, 3) := dk_154 0 10 (dk_at dksX0_put_0 19 rfl rfl)
theorem dX0_put_22 : decode cX0_put 22 = .ok (.aload_n 0, 1) := dk_42 (dk_at dksX0_put_0 22 rfl rfl)
theorem dX0_put_23 : decode cX0_put 23 = .ok (.bipush (-2), 2) := dk_16 254 (dk_at dksX0_put_1 0 rfl rfl)
theorem dX0_put_25 : decode cX0_put 25 = .ok (.invokevirtual 122, 3) := dk_182 0 122 (dk_at dksX0_put_1 2 rfl rfl)
theorem dX0_put_28 : decode cX0_put 28 = .ok (.ireturn, 1) := dk_172 (dk_at dksX0_put_1 5 rfl rfl)
theorem dX0_put_29 : decode cX0_put 29 = .ok (.iload_n 2, 1) := dk_28 (dk_at dksX0_put_1 6 rfl rfl)
theorem dX0_put_30 : decode cX0_put 30 = .ok (.iconst 1, 1) := dk_4 (dk_at dksX0_put_1 7 rfl rfl)
theorem dX0_put_31 : decode cX0_put 31 = .ok (.if_icmp .gt 24, 3) := dk_163 0 24 (dk_at dksX0_put_1 8 rfl rfl)
theorem dX0_put_34 : decode cX0_put 34 = .ok (.aload_n 0, 1) := dk_42 (dk_at dksX0_put_1 11 rfl rfl)
theorem dX0_put_35 : decode cX0_put 35 = .ok (.getfield 16, 3) := dk_180 0 16 (dk_at dksX0_put_1 12 rfl rfl)
theorem dX0_put_38 : decode cX0_put 38 = .ok (.getfield 150, 3) := dk_180 0 150 (dk_at dksX0_put_1 15 rfl rfl)
theorem dX0_put_41 : decode cX0_put 41 = .ok (.iload_n 3, 1) := dk_29 (dk_at dksX0_put_1 18 rfl rfl)
theorem dX0_put_42 : decode cX0_put 42 = .ok (.baload, 1) := dk_51 (dk_at dksX0_put_1 19 rfl rfl)
theorem dX0_put_43 : decode cX0_put 43 = .ok (.ifCond .eq 12, 3) := dk_153 0 12 (dk_at dksX0_put_1 20 rfl rfl)
theorem dX0_put_46 : decode cX0_put 46 = .ok (.aload_n 0, 1) := dk_42 (dk_at dksX0_put_1 23 rfl rfl)
theorem dX0_put_47 : decode cX0_put 47 = .ok (.bipush (-3), 2) := dk_16 253 (dk_at dksX0_put_2 0 rfl rfl)
theorem dX0_put_49 : decode cX0_put 49 = .ok (.invokevirtual 122, 3) := dk_182 0 122 (dk_at dksX0_put_2 2 rfl rfl)
theorem dX0_put_52 : decode cX0_put 52 = .ok (.goto 21, 3) := dk_167 0 21 (dk_at dksX0_put_2 5 rfl rfl)
theorem dX0_put_55 : decode cX0_put 55 = .ok (.aload_n 0, 1) := dk_42 (dk_at dksX0_put_2 8 rfl rfl)
theorem dX0_put_56 : decode cX0_put 56 = .ok (.aload_n 0, 1) := dk_42 (dk_at dksX0_put_2 9 rfl rfl)
theorem dX0_put_57 : decode cX0_put 57 = .ok (.getfield 16, 3) := dk_180 0 16 (dk_at dksX0_put_2 10 rfl rfl)
theorem dX0_put_60 : decode cX0_put 60 = .ok (.getfield 119, 3) := dk_180 0 119 (dk_at dksX0_put_2 13 rfl rfl)
theorem dX0_put_63 : decode cX0_put 63 = .ok (.bipush 6, 2) := dk_16 6 (dk_at dksX0_put_2 16 rfl rfl)
theorem dX0_put_65 : decode cX0_put 65 = .ok (.iload_n 1, 1) := dk_27 (dk_at dksX0_put_2 18 rfl rfl)
theorem dX0_put_66 : decode cX0_put 66 = .ok (.imul, 1) := dk_104 (dk_at dksX0_put_2 19 rfl rfl)
theorem dX0_put_67 : decode cX0_put 67 = .ok (.iload_n 2, 1) := dk_28 (dk_at dksX0_put_2 20 rfl rfl)
theorem dX0_put_68 : decode cX0_put 68 = .ok (.iadd, 1) := dk_96 (dk_at dksX0_put_2 21 rfl rfl)
theorem dX0_put_69 : decode cX0_put 69 = .ok (.iload_n 3, 1) := dk_29 (dk_at dksX0_put_2 22 rfl rfl)
theorem dX0_put_70 : decode cX0_put 70 = .ok (.invokevirtual 139, 3) := dk_182 0 139 (dk_at dksX0_put_3 0 rfl rfl)
theorem dX0_put_73 : decode cX0_put 73 = .ok (.ireturn, 1) := dk_172 (dk_at dksX0_put_3 3 rfl rfl)
abbrev cX0_isSnail : ByteArray := prog_1_method_10_code
def yX0_isSnail : MethodName := ⟨RX0, "isSnail", "(I)Z"⟩
def dkwX0_isSnail_0 : List UInt8 := [27, 3, 42, 180, 0, 16, 180, 0, 116, 4, 100, 184, 0, 112, 172]
abbrev dktX0_isSnail_0 : List UInt8 := dkwX0_isSnail_0 ++ []
theorem dksX0_isSnail_0 : cX0_isSnail.data.toList.drop 0 = dktX0_isSnail_0 := by decide +kernel
theorem dX0_isSnail_0 : decode cX0_isSnail 0 = .ok (.iload_n 1, 1) := dk_27 (dk_at dksX0_isSnail_0 0 rfl rfl)
theorem dX0_isSnail_1 : decode cX0_isSnail 1 = .ok (.iconst 0, 1) := dk_3 (dk_at dksX0_isSnail_0 1 rfl rfl)
theorem dX0_isSnail_2 : decode cX0_isSnail 2 = .ok (.aload_n 0, 1) := dk_42 (dk_at dksX0_isSnail_0 2 rfl rfl)
theorem dX0_isSnail_3 : decode cX0_isSnail 3 = .ok (.getfield 16, 3) := dk_180 0 16 (dk_at dksX0_isSnail_0 3 rfl rfl)
theorem dX0_isSnail_6 : decode cX0_isSnail 6 = .ok (.getfield 116, 3) := dk_180 0 116 (dk_at dksX0_isSnail_0 6 rfl rfl)
theorem dX0_isSnail_9 : decode cX0_isSnail 9 = .ok (.iconst 1, 1) := dk_4 (dk_at dksX0_isSnail_0 9 rfl rfl)
theorem dX0_isSnail_10 : decode cX0_isSnail 10 = .ok (.isub, 1) := dk_100 (dk_at dksX0_isSnail_0 10 rfl rfl)
theorem dX0_isSnail_11 : decode cX0_isSnail 11 = .ok (.invokestatic 112, 3) := dk_184 0 112 (dk_at dksX0_isSnail_0 11 rfl rfl)
theorem dX0_isSnail_14 : decode cX0_isSnail 14 = .ok (.ireturn, 1) := dk_172 (dk_at dksX0_isSnail_0 14 rfl rfl)
abbrev cX0_fact : ByteArray := prog_1_method_23_code
def yX0_fact : MethodName := ⟨RX0, "fact", "(II)I"⟩
def dkwX0_fact_1 : List UInt8 := [167, 0, 4, 2, 172]
abbrev dktX0_fact_1 : List UInt8 := dkwX0_fact_1 ++ []
def dkwX0_fact_0 : List UInt8 := [42, 27, 182, 0, 158, 153, 0, 21, 28, 3, 8, 184, 0, 112, 153, 0, 12, 42, 27, 28, 182, 0, 143]
abbrev dktX0_fact_0 : List UInt8 := dkwX0_fact_0 ++ dktX0_fact_1
theorem dksX0_fact_0 : cX0_fact.data.toList.drop 0 = dktX0_fact_0 := by decide +kernel
theorem dksX0_fact_1 : cX0_fact.data.toList.drop 23 = dktX0_fact_1 := dk_seg dksX0_fact_0 23 rfl rfl
theorem dX0_fact_0 : decode cX0_fact 0 = .ok (.aload_n 0, 1) := dk_42 (dk_at dksX0_fact_0 0 rfl rfl)
theorem dX0_fact_1 : decode cX0_fact 1 = .ok (.iload_n 1, 1) := dk_27 (dk_at dksX0_fact_0 1 rfl rfl)
theorem dX0_fact_2 : decode cX0_fact 2 = .ok (.invokevirtual 158, 3) := dk_182 0 158 (dk_at dksX0_fact_0 2 rfl rfl)
theorem dX0_fact_5 : decode cX0_fact 5 = .ok (.ifCond .eq 21, 3) := dk_153 0 21 (dk_at dksX0_fact_0 5 rfl rfl)
theorem dX0_fact_8 : decode cX0_fact 8 = .ok (.iload_n 2, 1) := dk_28 (dk_at dksX0_fact_0 8 rfl rfl)
theorem dX0_fact_9 : decode cX0_fact 9 = .ok (.iconst 0, 1) := dk_3 (dk_at dksX0_fact_0 9 rfl rfl)
theorem dX0_fact_10 : decode cX0_fact 10 = .ok (.iconst 5, 1) := dk_8 (dk_at dksX0_fact_0 10 rfl rfl)
theorem dX0_fact_11 : decode cX0_fact 11 = .ok (.invokestatic 112, 3) := dk_184 0 112 (dk_at dksX0_fact_0 11 rfl rfl)
theorem dX0_fact_14 : decode cX0_fact 14 = .ok (.ifCond .eq 12, 3) := dk_153 0 12 (dk_at dksX0_fact_0 14 rfl rfl)
theorem dX0_fact_17 : decode cX0_fact 17 = .ok (.aload_n 0, 1) := dk_42 (dk_at dksX0_fact_0 17 rfl rfl)
theorem dX0_fact_18 : decode cX0_fact 18 = .ok (.iload_n 1, 1) := dk_27 (dk_at dksX0_fact_0 18 rfl rfl)
theorem dX0_fact_19 : decode cX0_fact 19 = .ok (.iload_n 2, 1) := dk_28 (dk_at dksX0_fact_0 19 rfl rfl)
theorem dX0_fact_20 : decode cX0_fact 20 = .ok (.invokevirtual 143, 3) := dk_182 0 143 (dk_at dksX0_fact_0 20 rfl rfl)
theorem dX0_fact_23 : decode cX0_fact 23 = .ok (.goto 4, 3) := dk_167 0 4 (dk_at dksX0_fact_1 0 rfl rfl)
theorem dX0_fact_26 : decode cX0_fact 26 = .ok (.iconst (-1), 1) := dk_2 (dk_at dksX0_fact_1 3 rfl rfl)
theorem dX0_fact_27 : decode cX0_fact 27 = .ok (.ireturn, 1) := dk_172 (dk_at dksX0_fact_1 4 rfl rfl)
abbrev cX0_spot : ByteArray := prog_1_method_24_code
def yX0_spot : MethodName := ⟨RX0, "spot", "(I)I"⟩
def dkwX0_spot_3 : List UInt8 := [182, 0, 129, 172]
abbrev dktX0_spot_3 : List UInt8 := dkwX0_spot_3 ++ []
def dkwX0_spot_2 : List UInt8 := [180, 0, 16, 89, 180, 0, 161, 4, 96, 181, 0, 161, 42, 42, 180, 0, 16, 180, 0, 161, 4, 100]
abbrev dktX0_spot_2 : List UInt8 := dkwX0_spot_2 ++ dktX0_spot_3
def dkwX0_spot_1 : List UInt8 := [42, 16, 251, 182, 0, 122, 172, 42, 180, 0, 16, 180, 0, 164, 42, 180, 0, 16, 180, 0, 161, 27, 79, 42]
abbrev dktX0_spot_1 : List UInt8 := dkwX0_spot_1 ++ dktX0_spot_2
def dkwX0_spot_0 : List UInt8 := [27, 184, 0, 132, 154, 0, 9, 42, 2, 182, 0, 122, 172, 42, 180, 0, 16, 180, 0, 161, 7, 160, 0, 10]
abbrev dktX0_spot_0 : List UInt8 := dkwX0_spot_0 ++ dktX0_spot_1
theorem dksX0_spot_0 : cX0_spot.data.toList.drop 0 = dktX0_spot_0 := by decide +kernel
theorem dksX0_spot_1 : cX0_spot.data.toList.drop 24 = dktX0_spot_1 := dk_seg dksX0_spot_0 24 rfl rfl
theorem dksX0_spot_2 : cX0_spot.data.toList.drop 48 = dktX0_spot_2 := dk_seg dksX0_spot_1 24 rfl rfl
theorem dksX0_spot_3 : cX0_spot.data.toList.drop 70 = dktX0_spot_3 := dk_seg dksX0_spot_2 22 rfl rfl
theorem dX0_spot_0 : decode cX0_spot 0 = .ok (.iload_n 1, 1) := dk_27 (dk_at dksX0_spot_0 0 rfl rfl)
theorem dX0_spot_1 : decode cX0_spot 1 = .ok (.invokestatic 132, 3) := dk_184 0 132 (dk_at dksX0_spot_0 1 rfl rfl)
theorem dX0_spot_4 : decode cX0_spot 4 = .ok (.ifCond .ne 9, 3) := dk_154 0 9 (dk_at dksX0_spot_0 4 rfl rfl)
theorem dX0_spot_7 : decode cX0_spot 7 = .ok (.aload_n 0, 1) := dk_42 (dk_at dksX0_spot_0 7 rfl rfl)
theorem dX0_spot_8 : decode cX0_spot 8 = .ok (.iconst (-1), 1) := dk_2 (dk_at dksX0_spot_0 8 rfl rfl)
theorem dX0_spot_9 : decode cX0_spot 9 = .ok (.invokevirtual 122, 3) := dk_182 0 122 (dk_at dksX0_spot_0 9 rfl rfl)
theorem dX0_spot_12 : decode cX0_spot 12 = .ok (.ireturn, 1) := dk_172 (dk_at dksX0_spot_0 12 rfl rfl)
theorem dX0_spot_13 : decode cX0_spot 13 = .ok (.aload_n 0, 1) := dk_42 (dk_at dksX0_spot_0 13 rfl rfl)
theorem dX0_spot_14 : decode cX0_spot 14 = .ok (.getfield 16, 3) := dk_180 0 16 (dk_at dksX0_spot_0 14 rfl rfl)
theorem dX0_spot_17 : decode cX0_spot 17 = .ok (.getfield 161, 3) := dk_180 0 161 (dk_at dksX0_spot_0 17 rfl rfl)
theorem dX0_spot_20 : decode cX0_spot 20 = .ok (.iconst 4, 1) := dk_7 (dk_at dksX0_spot_0 20 rfl rfl)
theorem dX0_spot_21 : decode cX0_spot 21 = .ok (.if_icmp .ne 10, 3) := dk_160 0 10 (dk_at dksX0_spot_0 21 rfl rfl)
theorem dX0_spot_24 : decode cX0_spot 24 = .ok (.aload_n 0, 1) := dk_42 (dk_at dksX0_spot_1 0 rfl rfl)
theorem dX0_spot_25 : decode cX0_spot 25 = .ok (.bipush (-5), 2) := dk_16 251 (dk_at dksX0_spot_1 1 rfl rfl)
theorem dX0_spot_27 : decode cX0_spot 27 = .ok (.invokevirtual 122, 3) := dk_182 0 122 (dk_at dksX0_spot_1 3 rfl rfl)
theorem dX0_spot_30 : decode cX0_spot 30 = .ok (.ireturn, 1) := dk_172 (dk_at dksX0_spot_1 6 rfl rfl)
theorem dX0_spot_31 : decode cX0_spot 31 = .ok (.aload_n 0, 1) := dk_42 (dk_at dksX0_spot_1 7 rfl rfl)
theorem dX0_spot_32 : decode cX0_spot 32 = .ok (.getfield 16, 3) := dk_180 0 16 (dk_at dksX0_spot_1 8 rfl rfl)
theorem dX0_spot_35 : decode cX0_spot 35 = .ok (.getfield 164, 3) := dk_180 0 164 (dk_at dksX0_spot_1 11 rfl rfl)
theorem dX0_spot_38 : decode cX0_spot 38 = .ok (.aload_n 0, 1) := dk_42 (dk_at dksX0_spot_1 14 rfl rfl)
theorem dX0_spot_39 : decode cX0_spot 39 = .ok (.getfield 16, 3) := dk_180 0 16 (dk_at dksX0_spot_1 15 rfl rfl)
theorem dX0_spot_42 : decode cX0_spot 42 = .ok (.getfield 161, 3) := dk_180 0 161 (dk_at dksX0_spot_1 18 rfl rfl)
theorem dX0_spot_45 : decode cX0_spot 45 = .ok (.iload_n 1, 1) := dk_27 (dk_at dksX0_spot_1 21 rfl rfl)
theorem dX0_spot_46 : decode cX0_spot 46 = .ok (.iastore, 1) := dk_79 (dk_at dksX0_spot_1 22 rfl rfl)
theorem dX0_spot_47 : decode cX0_spot 47 = .ok (.aload_n 0, 1) := dk_42 (dk_at dksX0_spot_1 23 rfl rfl)
theorem dX0_spot_48 : decode cX0_spot 48 = .ok (.getfield 16, 3) := dk_180 0 16 (dk_at dksX0_spot_2 0 rfl rfl)
theorem dX0_spot_51 : decode cX0_spot 51 = .ok (.dup, 1) := dk_89 (dk_at dksX0_spot_2 3 rfl rfl)
theorem dX0_spot_52 : decode cX0_spot 52 = .ok (.getfield 161, 3) := dk_180 0 161 (dk_at dksX0_spot_2 4 rfl rfl)
theorem dX0_spot_55 : decode cX0_spot 55 = .ok (.iconst 1, 1) := dk_4 (dk_at dksX0_spot_2 7 rfl rfl)
theorem dX0_spot_56 : decode cX0_spot 56 = .ok (.iadd, 1) := dk_96 (dk_at dksX0_spot_2 8 rfl rfl)
theorem dX0_spot_57 : decode cX0_spot 57 = .ok (.putfield 161, 3) := dk_181 0 161 (dk_at dksX0_spot_2 9 rfl rfl)
theorem dX0_spot_60 : decode cX0_spot 60 = .ok (.aload_n 0, 1) := dk_42 (dk_at dksX0_spot_2 12 rfl rfl)
theorem dX0_spot_61 : decode cX0_spot 61 = .ok (.aload_n 0, 1) := dk_42 (dk_at dksX0_spot_2 13 rfl rfl)
theorem dX0_spot_62 : decode cX0_spot 62 = .ok (.getfield 16, 3) := dk_180 0 16 (dk_at dksX0_spot_2 14 rfl rfl)
theorem dX0_spot_65 : decode cX0_spot 65 = .ok (.getfield 161, 3) := dk_180 0 161 (dk_at dksX0_spot_2 17 rfl rfl)
theorem dX0_spot_68 : decode cX0_spot 68 = .ok (.iconst 1, 1) := dk_4 (dk_at dksX0_spot_2 20 rfl rfl)
theorem dX0_spot_69 : decode cX0_spot 69 = .ok (.isub, 1) := dk_100 (dk_at dksX0_spot_2 21 rfl rfl)
theorem dX0_spot_70 : decode cX0_spot 70 = .ok (.invokevirtual 129, 3) := dk_182 0 129 (dk_at dksX0_spot_3 0 rfl rfl)
theorem dX0_spot_73 : decode cX0_spot 73 = .ok (.ireturn, 1) := dk_172 (dk_at dksX0_spot_3 3 rfl rfl)
abbrev cX0_plan : ByteArray := prog_1_method_25_code
def yX0_plan : MethodName := ⟨RX0, "plan", "(II)I"⟩
def dkwX0_plan_2 : List UInt8 := [16, 254, 182, 0, 122, 172]
abbrev dktX0_plan_2 : List UInt8 := dkwX0_plan_2 ++ []
def dkwX0_plan_1 : List UInt8 := [184, 0, 112, 153, 0, 19, 42, 42, 180, 0, 16, 180, 0, 170, 27, 28, 182, 0, 139, 167, 0, 9, 42]
abbrev dktX0_plan_1 : List UInt8 := dkwX0_plan_1 ++ dktX0_plan_2
def dkwX0_plan_0 : List UInt8 := [27, 184, 0, 167, 154, 0, 9, 42, 2, 182, 0, 122, 172, 28, 2, 42, 180, 0, 16, 180, 0, 161, 4, 100]
abbrev dktX0_plan_0 : List UInt8 := dkwX0_plan_0 ++ dktX0_plan_1
theorem dksX0_plan_0 : cX0_plan.data.toList.drop 0 = dktX0_plan_0 := by decide +kernel
theorem dksX0_plan_1 : cX0_plan.data.toList.drop 24 = dktX0_plan_1 := dk_seg dksX0_plan_0 24 rfl rfl
theorem dksX0_plan_2 : cX0_plan.data.toList.drop 47 = dktX0_plan_2 := dk_seg dksX0_plan_1 23 rfl rfl
theorem dX0_plan_0 : decode cX0_plan 0 = .ok (.iload_n 1, 1) := dk_27 (dk_at dksX0_plan_0 0 rfl rfl)
theorem dX0_plan_1 : decode cX0_plan 1 = .ok (.invokestatic 167, 3) := dk_184 0 167 (dk_at dksX0_plan_0 1 rfl rfl)
theorem dX0_plan_4 : decode cX0_plan 4 = .ok (.ifCond .ne 9, 3) := dk_154 0 9 (dk_at dksX0_plan_0 4 rfl rfl)
theorem dX0_plan_7 : decode cX0_plan 7 = .ok (.aload_n 0, 1) := dk_42 (dk_at dksX0_plan_0 7 rfl rfl)
theorem dX0_plan_8 : decode cX0_plan 8 = .ok (.iconst (-1), 1) := dk_2 (dk_at dksX0_plan_0 8 rfl rfl)
theorem dX0_plan_9 : decode cX0_plan 9 = .ok (.invokevirtual 122, 3) := dk_182 0 122 (dk_at dksX0_plan_0 9 rfl rfl)
theorem dX0_plan_12 : decode cX0_plan 12 = .ok (.ireturn, 1) := dk_172 (dk_at dksX0_plan_0 12 rfl rfl)
theorem dX0_plan_13 : decode cX0_plan 13 = .ok (.iload_n 2, 1) := dk_28 (dk_at dksX0_plan_0 13 rfl rfl)
theorem dX0_plan_14 : decode cX0_plan 14 = .ok (.iconst (-1), 1) := dk_2 (dk_at dksX0_plan_0 14 rfl rfl)
theorem dX0_plan_15 : decode cX0_plan 15 = .ok (.aload_n 0, 1) := dk_42 (dk_at dksX0_plan_0 15 rfl rfl)
theorem dX0_plan_16 : decode cX0_plan 16 = .ok (.getfield 16, 3) := dk_180 0 16 (dk_at dksX0_plan_0 16 rfl rfl)
theorem dX0_plan_19 : decode cX0_plan 19 = .ok (.getfield 161, 3) := dk_180 0 161 (dk_at dksX0_plan_0 19 rfl rfl)
theorem dX0_plan_22 : decode cX0_plan 22 = .ok (.iconst 1, 1) := dk_4 (dk_at dksX0_plan_0 22 rfl rfl)
theorem dX0_plan_23 : decode cX0_plan 23 = .ok (.isub, 1) := dk_100 (dk_at dksX0_plan_0 23 rfl rfl)
theorem dX0_plan_24 : decode cX0_plan 24 = .ok (.invokestatic 112, 3) := dk_184 0 112 (dk_at dksX0_plan_1 0 rfl rfl)
theorem dX0_plan_27 : decode cX0_plan 27 = .ok (.ifCond .eq 19, 3) := dk_153 0 19 (dk_at dksX0_plan_1 3 rfl rfl)
theorem dX0_plan_30 : decode cX0_plan 30 = .ok (.aload_n 0, 1) := dk_42 (dk_at dksX0_plan_1 6 rfl rfl)
theorem dX0_plan_31 : decode cX0_plan 31 = .ok (.aload_n 0, 1) := dk_42 (dk_at dksX0_plan_1 7 rfl rfl)
theorem dX0_plan_32 : decode cX0_plan 32 = .ok (.getfield 16, 3) := dk_180 0 16 (dk_at dksX0_plan_1 8 rfl rfl)
theorem dX0_plan_35 : decode cX0_plan 35 = .ok (.getfield 170, 3) := dk_180 0 170 (dk_at dksX0_plan_1 11 rfl rfl)
theorem dX0_plan_38 : decode cX0_plan 38 = .ok (.iload_n 1, 1) := dk_27 (dk_at dksX0_plan_1 14 rfl rfl)
theorem dX0_plan_39 : decode cX0_plan 39 = .ok (.iload_n 2, 1) := dk_28 (dk_at dksX0_plan_1 15 rfl rfl)
theorem dX0_plan_40 : decode cX0_plan 40 = .ok (.invokevirtual 139, 3) := dk_182 0 139 (dk_at dksX0_plan_1 16 rfl rfl)
theorem dX0_plan_43 : decode cX0_plan 43 = .ok (.goto 9, 3) := dk_167 0 9 (dk_at dksX0_plan_1 19 rfl rfl)
theorem dX0_plan_46 : decode cX0_plan 46 = .ok (.aload_n 0, 1) := dk_42 (dk_at dksX0_plan_1 22 rfl rfl)
theorem dX0_plan_47 : decode cX0_plan 47 = .ok (.bipush (-2), 2) := dk_16 254 (dk_at dksX0_plan_2 0 rfl rfl)
theorem dX0_plan_49 : decode cX0_plan 49 = .ok (.invokevirtual 122, 3) := dk_182 0 122 (dk_at dksX0_plan_2 2 rfl rfl)
theorem dX0_plan_52 : decode cX0_plan 52 = .ok (.ireturn, 1) := dk_172 (dk_at dksX0_plan_2 5 rfl rfl)
abbrev cX0_isHour : ByteArray := prog_1_method_9_code
def yX0_isHour : MethodName := ⟨RX0, "isHour", "(I)Z"⟩
def dkwX0_isHour_0 : List UInt8 := [26, 3, 7, 184, 0, 112, 172]
abbrev dktX0_isHour_0 : List UInt8 := dkwX0_isHour_0 ++ []
theorem dksX0_isHour_0 : cX0_isHour.data.toList.drop 0 = dktX0_isHour_0 := by decide +kernel
theorem dX0_isHour_0 : decode cX0_isHour 0 = .ok (.iload_n 0, 1) := dk_26 (dk_at dksX0_isHour_0 0 rfl rfl)
theorem dX0_isHour_1 : decode cX0_isHour 1 = .ok (.iconst 0, 1) := dk_3 (dk_at dksX0_isHour_0 1 rfl rfl)
theorem dX0_isHour_2 : decode cX0_isHour 2 = .ok (.iconst 4, 1) := dk_7 (dk_at dksX0_isHour_0 2 rfl rfl)
theorem dX0_isHour_3 : decode cX0_isHour 3 = .ok (.invokestatic 112, 3) := dk_184 0 112 (dk_at dksX0_isHour_0 3 rfl rfl)
theorem dX0_isHour_6 : decode cX0_isHour 6 = .ok (.ireturn, 1) := dk_172 (dk_at dksX0_isHour_0 6 rfl rfl)
abbrev cX0_terms : ByteArray := prog_1_method_26_code
def yX0_terms : MethodName := ⟨RX0, "terms", "(II)I"⟩
def dkwX0_terms_2 : List UInt8 := [182, 0, 122, 172]
abbrev dktX0_terms_2 : List UInt8 := dkwX0_terms_2 ++ []
def dkwX0_terms_1 : List UInt8 := [184, 0, 112, 153, 0, 19, 42, 42, 180, 0, 16, 180, 0, 173, 27, 28, 182, 0, 139, 167, 0, 8, 42, 2]
abbrev dktX0_terms_1 : List UInt8 := dkwX0_terms_1 ++ dktX0_terms_2
def dkwX0_terms_0 : List UInt8 := [27, 3, 4, 184, 0, 112, 153, 0, 38, 28, 4, 27, 154, 0, 8, 16, 6, 167, 0, 5, 16, 20]
abbrev dktX0_terms_0 : List UInt8 := dkwX0_terms_0 ++ dktX0_terms_1
theorem dksX0_terms_0 : cX0_terms.data.toList.drop 0 = dktX0_terms_0 := by decide +kernel
theorem dksX0_terms_1 : cX0_terms.data.toList.drop 22 = dktX0_terms_1 := dk_seg dksX0_terms_0 22 rfl rfl
theorem dksX0_terms_2 : cX0_terms.data.toList.drop 46 = dktX0_terms_2 := dk_seg dksX0_terms_1 24 rfl rfl
theorem dX0_terms_0 : decode cX0_terms 0 = .ok (.iload_n 1, 1) := dk_27 (dk_at dksX0_terms_0 0 rfl rfl)
theorem dX0_terms_1 : decode cX0_terms 1 = .ok (.iconst 0, 1) := dk_3 (dk_at dksX0_terms_0 1 rfl rfl)
theorem dX0_terms_2 : decode cX0_terms 2 = .ok (.iconst 1, 1) := dk_4 (dk_at dksX0_terms_0 2 rfl rfl)
theorem dX0_terms_3 : decode cX0_terms 3 = .ok (.invokestatic 112, 3) := dk_184 0 112 (dk_at dksX0_terms_0 3 rfl rfl)
theorem dX0_terms_6 : decode cX0_terms 6 = .ok (.ifCond .eq 38, 3) := dk_153 0 38 (dk_at dksX0_terms_0 6 rfl rfl)
theorem dX0_terms_9 : decode cX0_terms 9 = .ok (.iload_n 2, 1) := dk_28 (dk_at dksX0_terms_0 9 rfl rfl)
theorem dX0_terms_10 : decode cX0_terms 10 = .ok (.iconst 1, 1) := dk_4 (dk_at dksX0_terms_0 10 rfl rfl)
theorem dX0_terms_11 : decode cX0_terms 11 = .ok (.iload_n 1, 1) := dk_27 (dk_at dksX0_terms_0 11 rfl rfl)
theorem dX0_terms_12 : decode cX0_terms 12 = .ok (.ifCond .ne 8, 3) := dk_154 0 8 (dk_at dksX0_terms_0 12 rfl rfl)
theorem dX0_terms_15 : decode cX0_terms 15 = .ok (.bipush 6, 2) := dk_16 6 (dk_at dksX0_terms_0 15 rfl rfl)
theorem dX0_terms_17 : decode cX0_terms 17 = .ok (.goto 5, 3) := dk_167 0 5 (dk_at dksX0_terms_0 17 rfl rfl)
theorem dX0_terms_20 : decode cX0_terms 20 = .ok (.bipush 20, 2) := dk_16 20 (dk_at dksX0_terms_0 20 rfl rfl)
theorem dX0_terms_22 : decode cX0_terms 22 = .ok (.invokestatic 112, 3) := dk_184 0 112 (dk_at dksX0_terms_1 0 rfl rfl)
theorem dX0_terms_25 : decode cX0_terms 25 = .ok (.ifCond .eq 19, 3) := dk_153 0 19 (dk_at dksX0_terms_1 3 rfl rfl)
theorem dX0_terms_28 : decode cX0_terms 28 = .ok (.aload_n 0, 1) := dk_42 (dk_at dksX0_terms_1 6 rfl rfl)
theorem dX0_terms_29 : decode cX0_terms 29 = .ok (.aload_n 0, 1) := dk_42 (dk_at dksX0_terms_1 7 rfl rfl)
theorem dX0_terms_30 : decode cX0_terms 30 = .ok (.getfield 16, 3) := dk_180 0 16 (dk_at dksX0_terms_1 8 rfl rfl)
theorem dX0_terms_33 : decode cX0_terms 33 = .ok (.getfield 173, 3) := dk_180 0 173 (dk_at dksX0_terms_1 11 rfl rfl)
theorem dX0_terms_36 : decode cX0_terms 36 = .ok (.iload_n 1, 1) := dk_27 (dk_at dksX0_terms_1 14 rfl rfl)
theorem dX0_terms_37 : decode cX0_terms 37 = .ok (.iload_n 2, 1) := dk_28 (dk_at dksX0_terms_1 15 rfl rfl)
theorem dX0_terms_38 : decode cX0_terms 38 = .ok (.invokevirtual 139, 3) := dk_182 0 139 (dk_at dksX0_terms_1 16 rfl rfl)
theorem dX0_terms_41 : decode cX0_terms 41 = .ok (.goto 8, 3) := dk_167 0 8 (dk_at dksX0_terms_1 19 rfl rfl)
theorem dX0_terms_44 : decode cX0_terms 44 = .ok (.aload_n 0, 1) := dk_42 (dk_at dksX0_terms_1 22 rfl rfl)
theorem dX0_terms_45 : decode cX0_terms 45 = .ok (.iconst (-1), 1) := dk_2 (dk_at dksX0_terms_1 23 rfl rfl)
theorem dX0_terms_46 : decode cX0_terms 46 = .ok (.invokevirtual 122, 3) := dk_182 0 122 (dk_at dksX0_terms_2 0 rfl rfl)
theorem dX0_terms_49 : decode cX0_terms 49 = .ok (.ireturn, 1) := dk_172 (dk_at dksX0_terms_2 3 rfl rfl)
abbrev cX0_feed : ByteArray := prog_1_method_27_code
def yX0_feed : MethodName := ⟨RX0, "feed", "(IIIII)I"⟩
def dkwX0_feed_2 : List UInt8 := [172]
abbrev dktX0_feed_2 : List UInt8 := dkwX0_feed_2 ++ []
def dkwX0_feed_1 : List UInt8 := [182, 0, 179, 42, 29, 182, 0, 179, 42, 21, 4, 182, 0, 179, 42, 21, 5, 182, 0, 179, 42, 180, 0, 176]
abbrev dktX0_feed_1 : List UInt8 := dkwX0_feed_1 ++ dktX0_feed_2
def dkwX0_feed_0 : List UInt8 := [42, 180, 0, 176, 16, 20, 96, 17, 1, 144, 164, 0, 5, 2, 172, 42, 27, 182, 0, 179, 42, 28]
abbrev dktX0_feed_0 : List UInt8 := dkwX0_feed_0 ++ dktX0_feed_1
theorem dksX0_feed_0 : cX0_feed.data.toList.drop 0 = dktX0_feed_0 := by decide +kernel
theorem dksX0_feed_1 : cX0_feed.data.toList.drop 22 = dktX0_feed_1 := dk_seg dksX0_feed_0 22 rfl rfl
theorem dksX0_feed_2 : cX0_feed.data.toList.drop 46 = dktX0_feed_2 := dk_seg dksX0_feed_1 24 rfl rfl
theorem dX0_feed_0 : decode cX0_feed 0 = .ok (.aload_n 0, 1) := dk_42 (dk_at dksX0_feed_0 0 rfl rfl)
theorem dX0_feed_1 : decode cX0_feed 1 = .ok (.getfield 176, 3) := dk_180 0 176 (dk_at dksX0_feed_0 1 rfl rfl)
theorem dX0_feed_4 : decode cX0_feed 4 = .ok (.bipush 20, 2) := dk_16 20 (dk_at dksX0_feed_0 4 rfl rfl)
theorem dX0_feed_6 : decode cX0_feed 6 = .ok (.iadd, 1) := dk_96 (dk_at dksX0_feed_0 6 rfl rfl)
theorem dX0_feed_7 : decode cX0_feed 7 = .ok (.sipush 400, 3) := dk_17 1 144 (dk_at dksX0_feed_0 7 rfl rfl)
theorem dX0_feed_10 : decode cX0_feed 10 = .ok (.if_icmp .le 5, 3) := dk_164 0 5 (dk_at dksX0_feed_0 10 rfl rfl)
theorem dX0_feed_13 : decode cX0_feed 13 = .ok (.iconst (-1), 1) := dk_2 (dk_at dksX0_feed_0 13 rfl rfl)
theorem dX0_feed_14 : decode cX0_feed 14 = .ok (.ireturn, 1) := dk_172 (dk_at dksX0_feed_0 14 rfl rfl)
theorem dX0_feed_15 : decode cX0_feed 15 = .ok (.aload_n 0, 1) := dk_42 (dk_at dksX0_feed_0 15 rfl rfl)
theorem dX0_feed_16 : decode cX0_feed 16 = .ok (.iload_n 1, 1) := dk_27 (dk_at dksX0_feed_0 16 rfl rfl)
theorem dX0_feed_17 : decode cX0_feed 17 = .ok (.invokevirtual 179, 3) := dk_182 0 179 (dk_at dksX0_feed_0 17 rfl rfl)
theorem dX0_feed_20 : decode cX0_feed 20 = .ok (.aload_n 0, 1) := dk_42 (dk_at dksX0_feed_0 20 rfl rfl)
theorem dX0_feed_21 : decode cX0_feed 21 = .ok (.iload_n 2, 1) := dk_28 (dk_at dksX0_feed_0 21 rfl rfl)
theorem dX0_feed_22 : decode cX0_feed 22 = .ok (.invokevirtual 179, 3) := dk_182 0 179 (dk_at dksX0_feed_1 0 rfl rfl)
theorem dX0_feed_25 : decode cX0_feed 25 = .ok (.aload_n 0, 1) := dk_42 (dk_at dksX0_feed_1 3 rfl rfl)
theorem dX0_feed_26 : decode cX0_feed 26 = .ok (.iload_n 3, 1) := dk_29 (dk_at dksX0_feed_1 4 rfl rfl)
theorem dX0_feed_27 : decode cX0_feed 27 = .ok (.invokevirtual 179, 3) := dk_182 0 179 (dk_at dksX0_feed_1 5 rfl rfl)
theorem dX0_feed_30 : decode cX0_feed 30 = .ok (.aload_n 0, 1) := dk_42 (dk_at dksX0_feed_1 8 rfl rfl)
theorem dX0_feed_31 : decode cX0_feed 31 = .ok (.iload 4, 2) := dk_21 4 (dk_at dksX0_feed_1 9 rfl rfl)
theorem dX0_feed_33 : decode cX0_feed 33 = .ok (.invokevirtual 179, 3) := dk_182 0 179 (dk_at dksX0_feed_1 11 rfl rfl)
theorem dX0_feed_36 : decode cX0_feed 36 = .ok (.aload_n 0, 1) := dk_42 (dk_at dksX0_feed_1 14 rfl rfl)
theorem dX0_feed_37 : decode cX0_feed 37 = .ok (.iload 5, 2) := dk_21 5 (dk_at dksX0_feed_1 15 rfl rfl)
theorem dX0_feed_39 : decode cX0_feed 39 = .ok (.invokevirtual 179, 3) := dk_182 0 179 (dk_at dksX0_feed_1 17 rfl rfl)
theorem dX0_feed_42 : decode cX0_feed 42 = .ok (.aload_n 0, 1) := dk_42 (dk_at dksX0_feed_1 20 rfl rfl)
theorem dX0_feed_43 : decode cX0_feed 43 = .ok (.getfield 176, 3) := dk_180 0 176 (dk_at dksX0_feed_1 21 rfl rfl)
theorem dX0_feed_46 : decode cX0_feed 46 = .ok (.ireturn, 1) := dk_172 (dk_at dksX0_feed_2 0 rfl rfl)
abbrev cX0_four : ByteArray := prog_1_method_28_code
def yX0_four : MethodName := ⟨RX0, "four", "(I)V"⟩
def dkwX0_four_1 : List UInt8 := [180, 0, 176, 4, 96, 181, 0, 176, 132, 2, 248, 167, 255, 226, 177]
abbrev dktX0_four_1 : List UInt8 := dkwX0_four_1 ++ []
def dkwX0_four_0 : List UInt8 := [16, 24, 61, 28, 155, 0, 32, 42, 180, 0, 24, 42, 180, 0, 176, 27, 28, 122, 145, 84, 42, 89]
abbrev dktX0_four_0 : List UInt8 := dkwX0_four_0 ++ dktX0_four_1
theorem dksX0_four_0 : cX0_four.data.toList.drop 0 = dktX0_four_0 := by decide +kernel
theorem dksX0_four_1 : cX0_four.data.toList.drop 22 = dktX0_four_1 := dk_seg dksX0_four_0 22 rfl rfl
theorem dX0_four_0 : decode cX0_four 0 = .ok (.bipush 24, 2) := dk_16 24 (dk_at dksX0_four_0 0 rfl rfl)
theorem dX0_four_2 : decode cX0_four 2 = .ok (.istore_n 2, 1) := dk_61 (dk_at dksX0_four_0 2 rfl rfl)
theorem dX0_four_3 : decode cX0_four 3 = .ok (.iload_n 2, 1) := dk_28 (dk_at dksX0_four_0 3 rfl rfl)
theorem dX0_four_4 : decode cX0_four 4 = .ok (.ifCond .lt 32, 3) := dk_155 0 32 (dk_at dksX0_four_0 4 rfl rfl)
theorem dX0_four_7 : decode cX0_four 7 = .ok (.aload_n 0, 1) := dk_42 (dk_at dksX0_four_0 7 rfl rfl)
theorem dX0_four_8 : decode cX0_four 8 = .ok (.getfield 24, 3) := dk_180 0 24 (dk_at dksX0_four_0 8 rfl rfl)
theorem dX0_four_11 : decode cX0_four 11 = .ok (.aload_n 0, 1) := dk_42 (dk_at dksX0_four_0 11 rfl rfl)
theorem dX0_four_12 : decode cX0_four 12 = .ok (.getfield 176, 3) := dk_180 0 176 (dk_at dksX0_four_0 12 rfl rfl)
theorem dX0_four_15 : decode cX0_four 15 = .ok (.iload_n 1, 1) := dk_27 (dk_at dksX0_four_0 15 rfl rfl)
theorem dX0_four_16 : decode cX0_four 16 = .ok (.iload_n 2, 1) := dk_28 (dk_at dksX0_four_0 16 rfl rfl)
theorem dX0_four_17 : decode cX0_four 17 = .ok (.ishr, 1) := dk_122 (dk_at dksX0_four_0 17 rfl rfl)
theorem dX0_four_18 : decode cX0_four 18 = .ok (.i2b, 1) := dk_145 (dk_at dksX0_four_0 18 rfl rfl)
theorem dX0_four_19 : decode cX0_four 19 = .ok (.bastore, 1) := dk_84 (dk_at dksX0_four_0 19 rfl rfl)
theorem dX0_four_20 : decode cX0_four 20 = .ok (.aload_n 0, 1) := dk_42 (dk_at dksX0_four_0 20 rfl rfl)
theorem dX0_four_21 : decode cX0_four 21 = .ok (.dup, 1) := dk_89 (dk_at dksX0_four_0 21 rfl rfl)
theorem dX0_four_22 : decode cX0_four 22 = .ok (.getfield 176, 3) := dk_180 0 176 (dk_at dksX0_four_1 0 rfl rfl)
theorem dX0_four_25 : decode cX0_four 25 = .ok (.iconst 1, 1) := dk_4 (dk_at dksX0_four_1 3 rfl rfl)
theorem dX0_four_26 : decode cX0_four 26 = .ok (.iadd, 1) := dk_96 (dk_at dksX0_four_1 4 rfl rfl)
theorem dX0_four_27 : decode cX0_four 27 = .ok (.putfield 176, 3) := dk_181 0 176 (dk_at dksX0_four_1 5 rfl rfl)
theorem dX0_four_30 : decode cX0_four 30 = .ok (.iinc 2 (-8), 3) := dk_132 2 248 (dk_at dksX0_four_1 8 rfl rfl)
theorem dX0_four_33 : decode cX0_four 33 = .ok (.goto (-30), 3) := dk_167 255 226 (dk_at dksX0_four_1 11 rfl rfl)
theorem dX0_four_36 : decode cX0_four 36 = .ok (.return_, 1) := dk_177 (dk_at dksX0_four_1 14 rfl rfl)
abbrev cX0_end : ByteArray := prog_1_method_29_code
def yX0_end : MethodName := ⟨RX0, "end", "(I)I"⟩
def dkwX0_end_0 : List UInt8 := [27, 155, 0, 11, 27, 42, 180, 0, 176, 164, 0, 5, 2, 172, 42, 27, 181, 0, 176, 27, 172]
abbrev dktX0_end_0 : List UInt8 := dkwX0_end_0 ++ []
theorem dksX0_end_0 : cX0_end.data.toList.drop 0 = dktX0_end_0 := by decide +kernel
theorem dX0_end_0 : decode cX0_end 0 = .ok (.iload_n 1, 1) := dk_27 (dk_at dksX0_end_0 0 rfl rfl)
theorem dX0_end_1 : decode cX0_end 1 = .ok (.ifCond .lt 11, 3) := dk_155 0 11 (dk_at dksX0_end_0 1 rfl rfl)
theorem dX0_end_4 : decode cX0_end 4 = .ok (.iload_n 1, 1) := dk_27 (dk_at dksX0_end_0 4 rfl rfl)
theorem dX0_end_5 : decode cX0_end 5 = .ok (.aload_n 0, 1) := dk_42 (dk_at dksX0_end_0 5 rfl rfl)
theorem dX0_end_6 : decode cX0_end 6 = .ok (.getfield 176, 3) := dk_180 0 176 (dk_at dksX0_end_0 6 rfl rfl)
theorem dX0_end_9 : decode cX0_end 9 = .ok (.if_icmp .le 5, 3) := dk_164 0 5 (dk_at dksX0_end_0 9 rfl rfl)
theorem dX0_end_12 : decode cX0_end 12 = .ok (.iconst (-1), 1) := dk_2 (dk_at dksX0_end_0 12 rfl rfl)
theorem dX0_end_13 : decode cX0_end 13 = .ok (.ireturn, 1) := dk_172 (dk_at dksX0_end_0 13 rfl rfl)
theorem dX0_end_14 : decode cX0_end 14 = .ok (.aload_n 0, 1) := dk_42 (dk_at dksX0_end_0 14 rfl rfl)
theorem dX0_end_15 : decode cX0_end 15 = .ok (.iload_n 1, 1) := dk_27 (dk_at dksX0_end_0 15 rfl rfl)
theorem dX0_end_16 : decode cX0_end 16 = .ok (.putfield 176, 3) := dk_181 0 176 (dk_at dksX0_end_0 16 rfl rfl)
theorem dX0_end_19 : decode cX0_end 19 = .ok (.iload_n 1, 1) := dk_27 (dk_at dksX0_end_0 19 rfl rfl)
theorem dX0_end_20 : decode cX0_end 20 = .ok (.ireturn, 1) := dk_172 (dk_at dksX0_end_0 20 rfl rfl)
abbrev cX0_row : ByteArray := prog_1_method_30_code
def yX0_row : MethodName := ⟨RX0, "row", "()I"⟩
def dkwX0_row_6 : List UInt8 := [172]
abbrev dktX0_row_6 : List UInt8 := dkwX0_row_6 ++ []
def dkwX0_row_5 : List UInt8 := [167, 0, 4, 3, 96, 61, 132, 3, 1, 167, 255, 154, 42, 27, 28, 100, 181, 0, 183, 42, 28, 182, 0, 129]
abbrev dktX0_row_5 : List UInt8 := dkwX0_row_5 ++ dktX0_row_6
def dkwX0_row_4 : List UInt8 := [180, 0, 16, 180, 0, 150, 29, 4, 84, 28, 21, 4, 16, 10, 161, 0, 8, 21, 5, 153, 0, 7, 4]
abbrev dktX0_row_4 : List UInt8 := dkwX0_row_4 ++ dktX0_row_5
def dkwX0_row_3 : List UInt8 := [21, 4, 16, 10, 162, 0, 14, 42, 180, 0, 16, 180, 0, 136, 29, 21, 4, 79, 21, 5, 153, 0, 13, 42]
abbrev dktX0_row_3 : List UInt8 := dkwX0_row_3 ++ dktX0_row_4
def dkwX0_row_2 : List UInt8 := [21, 4, 17, 0, 200, 160, 0, 15, 42, 29, 182, 0, 147, 154, 0, 7, 4, 167, 0, 4, 3, 54, 5]
abbrev dktX0_row_2 : List UInt8 := dkwX0_row_2 ++ dktX0_row_3
def dkwX0_row_1 : List UInt8 := [62, 29, 27, 162, 0, 103, 29, 16, 96, 162, 0, 97, 42, 180, 0, 24, 29, 51, 17, 0, 255, 126, 54, 4]
abbrev dktX0_row_1 : List UInt8 := dkwX0_row_1 ++ dktX0_row_2
def dkwX0_row_0 : List UInt8 := [42, 180, 0, 176, 60, 42, 3, 181, 0, 176, 27, 154, 0, 10, 42, 16, 250, 182, 0, 122, 172, 3, 61, 3]
abbrev dktX0_row_0 : List UInt8 := dkwX0_row_0 ++ dktX0_row_1
theorem dksX0_row_0 : cX0_row.data.toList.drop 0 = dktX0_row_0 := by decide +kernel
theorem dksX0_row_1 : cX0_row.data.toList.drop 24 = dktX0_row_1 := dk_seg dksX0_row_0 24 rfl rfl
theorem dksX0_row_2 : cX0_row.data.toList.drop 48 = dktX0_row_2 := dk_seg dksX0_row_1 24 rfl rfl
theorem dksX0_row_3 : cX0_row.data.toList.drop 71 = dktX0_row_3 := dk_seg dksX0_row_2 23 rfl rfl
theorem dksX0_row_4 : cX0_row.data.toList.drop 95 = dktX0_row_4 := dk_seg dksX0_row_3 24 rfl rfl
theorem dksX0_row_5 : cX0_row.data.toList.drop 118 = dktX0_row_5 := dk_seg dksX0_row_4 23 rfl rfl
theorem dksX0_row_6 : cX0_row.data.toList.drop 142 = dktX0_row_6 := dk_seg dksX0_row_5 24 rfl rfl
theorem dX0_row_0 : decode cX0_row 0 = .ok (.aload_n 0, 1) := dk_42 (dk_at dksX0_row_0 0 rfl rfl)
theorem dX0_row_1 : decode cX0_row 1 = .ok (.getfield 176, 3) := dk_180 0 176 (dk_at dksX0_row_0 1 rfl rfl)
theorem dX0_row_4 : decode cX0_row 4 = .ok (.istore_n 1, 1) := dk_60 (dk_at dksX0_row_0 4 rfl rfl)
theorem dX0_row_5 : decode cX0_row 5 = .ok (.aload_n 0, 1) := dk_42 (dk_at dksX0_row_0 5 rfl rfl)
theorem dX0_row_6 : decode cX0_row 6 = .ok (.iconst 0, 1) := dk_3 (dk_at dksX0_row_0 6 rfl rfl)
theorem dX0_row_7 : decode cX0_row 7 = .ok (.putfield 176, 3) := dk_181 0 176 (dk_at dksX0_row_0 7 rfl rfl)
theorem dX0_row_10 : decode cX0_row 10 = .ok (.iload_n 1, 1) := dk_27 (dk_at dksX0_row_0 10 rfl rfl)
theorem dX0_row_11 : decode cX0_row 11 = .ok (.ifCond .ne 10, 3) := dk_154 0 10 (dk_at dksX0_row_0 11 rfl rfl)
theorem dX0_row_14 : decode cX0_row 14 = .ok (.aload_n 0, 1) := dk_42 (dk_at dksX0_row_0 14 rfl rfl)
theorem dX0_row_15 : decode cX0_row 15 = .ok (.bipush (-6), 2) := dk_16 250 (dk_at dksX0_row_0 15 rfl rfl)
theorem dX0_row_17 : decode cX0_row 17 = .ok (.invokevirtual 122, 3) := dk_182 0 122 (dk_at dksX0_row_0 17 rfl rfl)
theorem dX0_row_20 : decode cX0_row 20 = .ok (.ireturn, 1) := dk_172 (dk_at dksX0_row_0 20 rfl rfl)
theorem dX0_row_21 : decode cX0_row 21 = .ok (.iconst 0, 1) := dk_3 (dk_at dksX0_row_0 21 rfl rfl)
theorem dX0_row_22 : decode cX0_row 22 = .ok (.istore_n 2, 1) := dk_61 (dk_at dksX0_row_0 22 rfl rfl)
theorem dX0_row_23 : decode cX0_row 23 = .ok (.iconst 0, 1) := dk_3 (dk_at dksX0_row_0 23 rfl rfl)
theorem dX0_row_24 : decode cX0_row 24 = .ok (.istore_n 3, 1) := dk_62 (dk_at dksX0_row_1 0 rfl rfl)
theorem dX0_row_25 : decode cX0_row 25 = .ok (.iload_n 3, 1) := dk_29 (dk_at dksX0_row_1 1 rfl rfl)
theorem dX0_row_26 : decode cX0_row 26 = .ok (.iload_n 1, 1) := dk_27 (dk_at dksX0_row_1 2 rfl rfl)
theorem dX0_row_27 : decode cX0_row 27 = .ok (.if_icmp .ge 103, 3) := dk_162 0 103 (dk_at dksX0_row_1 3 rfl rfl)
theorem dX0_row_30 : decode cX0_row 30 = .ok (.iload_n 3, 1) := dk_29 (dk_at dksX0_row_1 6 rfl rfl)
theorem dX0_row_31 : decode cX0_row 31 = .ok (.bipush 96, 2) := dk_16 96 (dk_at dksX0_row_1 7 rfl rfl)
theorem dX0_row_33 : decode cX0_row 33 = .ok (.if_icmp .ge 97, 3) := dk_162 0 97 (dk_at dksX0_row_1 9 rfl rfl)
theorem dX0_row_36 : decode cX0_row 36 = .ok (.aload_n 0, 1) := dk_42 (dk_at dksX0_row_1 12 rfl rfl)
theorem dX0_row_37 : decode cX0_row 37 = .ok (.getfield 24, 3) := dk_180 0 24 (dk_at dksX0_row_1 13 rfl rfl)
theorem dX0_row_40 : decode cX0_row 40 = .ok (.iload_n 3, 1) := dk_29 (dk_at dksX0_row_1 16 rfl rfl)
theorem dX0_row_41 : decode cX0_row 41 = .ok (.baload, 1) := dk_51 (dk_at dksX0_row_1 17 rfl rfl)
theorem dX0_row_42 : decode cX0_row 42 = .ok (.sipush 255, 3) := dk_17 0 255 (dk_at dksX0_row_1 18 rfl rfl)
theorem dX0_row_45 : decode cX0_row 45 = .ok (.iand, 1) := dk_126 (dk_at dksX0_row_1 21 rfl rfl)
theorem dX0_row_46 : decode cX0_row 46 = .ok (.istore 4, 2) := dk_54 4 (dk_at dksX0_row_1 22 rfl rfl)
theorem dX0_row_48 : decode cX0_row 48 = .ok (.iload 4, 2) := dk_21 4 (dk_at dksX0_row_2 0 rfl rfl)
theorem dX0_row_50 : decode cX0_row 50 = .ok (.sipush 200, 3) := dk_17 0 200 (dk_at dksX0_row_2 2 rfl rfl)
theorem dX0_row_53 : decode cX0_row 53 = .ok (.if_icmp .ne 15, 3) := dk_160 0 15 (dk_at dksX0_row_2 5 rfl rfl)
theorem dX0_row_56 : decode cX0_row 56 = .ok (.aload_n 0, 1) := dk_42 (dk_at dksX0_row_2 8 rfl rfl)
theorem dX0_row_57 : decode cX0_row 57 = .ok (.iload_n 3, 1) := dk_29 (dk_at dksX0_row_2 9 rfl rfl)
theorem dX0_row_58 : decode cX0_row 58 = .ok (.invokevirtual 147, 3) := dk_182 0 147 (dk_at dksX0_row_2 10 rfl rfl)
theorem dX0_row_61 : decode cX0_row 61 = .ok (.ifCond .ne 7, 3) := dk_154 0 7 (dk_at dksX0_row_2 13 rfl rfl)
theorem dX0_row_64 : decode cX0_row 64 = .ok (.iconst 1, 1) := dk_4 (dk_at dksX0_row_2 16 rfl rfl)
theorem dX0_row_65 : decode cX0_row 65 = .ok (.goto 4, 3) := dk_167 0 4 (dk_at dksX0_row_2 17 rfl rfl)
theorem dX0_row_68 : decode cX0_row 68 = .ok (.iconst 0, 1) := dk_3 (dk_at dksX0_row_2 20 rfl rfl)
theorem dX0_row_69 : decode cX0_row 69 = .ok (.istore 5, 2) := dk_54 5 (dk_at dksX0_row_2 21 rfl rfl)
theorem dX0_row_71 : decode cX0_row 71 = .ok (.iload 4, 2) := dk_21 4 (dk_at dksX0_row_3 0 rfl rfl)
theorem dX0_row_73 : decode cX0_row 73 = .ok (.bipush 10, 2) := dk_16 10 (dk_at dksX0_row_3 2 rfl rfl)
theorem dX0_row_75 : decode cX0_row 75 = .ok (.if_icmp .ge 14, 3) := dk_162 0 14 (dk_at dksX0_row_3 4 rfl rfl)
theorem dX0_row_78 : decode cX0_row 78 = .ok (.aload_n 0, 1) := dk_42 (dk_at dksX0_row_3 7 rfl rfl)
theorem dX0_row_79 : decode cX0_row 79 = .ok (.getfield 16, 3) := dk_180 0 16 (dk_at dksX0_row_3 8 rfl rfl)
theorem dX0_row_82 : decode cX0_row 82 = .ok (.getfield 136, 3) := dk_180 0 136 (dk_at dksX0_row_3 11 rfl rfl)
theorem dX0_row_85 : decode cX0_row 85 = .ok (.iload_n 3, 1) := dk_29 (dk_at dksX0_row_3 14 rfl rfl)
theorem dX0_row_86 : decode cX0_row 86 = .ok (.iload 4, 2) := dk_21 4 (dk_at dksX0_row_3 15 rfl rfl)
theorem dX0_row_88 : decode cX0_row 88 = .ok (.iastore, 1) := dk_79 (dk_at dksX0_row_3 17 rfl rfl)
theorem dX0_row_89 : decode cX0_row 89 = .ok (.iload 5, 2) := dk_21 5 (dk_at dksX0_row_3 18 rfl rfl)
theorem dX0_row_91 : decode cX0_row 91 = .ok (.ifCond .eq 13, 3) := dk_153 0 13 (dk_at dksX0_row_3 20 rfl rfl)
theorem dX0_row_94 : decode cX0_row 94 = .ok (.aload_n 0, 1) := dk_42 (dk_at dksX0_row_3 23 rfl rfl)
theorem dX0_row_95 : decode cX0_row 95 = .ok (.getfield 16, 3) := dk_180 0 16 (dk_at dksX0_row_4 0 rfl rfl)
theorem dX0_row_98 : decode cX0_row 98 = .ok (.getfield 150, 3) := dk_180 0 150 (dk_at dksX0_row_4 3 rfl rfl)
theorem dX0_row_101 : decode cX0_row 101 = .ok (.iload_n 3, 1) := dk_29 (dk_at dksX0_row_4 6 rfl rfl)
theorem dX0_row_102 : decode cX0_row 102 = .ok (.iconst 1, 1) := dk_4 (dk_at dksX0_row_4 7 rfl rfl)
theorem dX0_row_103 : decode cX0_row 103 = .ok (.bastore, 1) := dk_84 (dk_at dksX0_row_4 8 rfl rfl)
theorem dX0_row_104 : decode cX0_row 104 = .ok (.iload_n 2, 1) := dk_28 (dk_at dksX0_row_4 9 rfl rfl)
theorem dX0_row_105 : decode cX0_row 105 = .ok (.iload 4, 2) := dk_21 4 (dk_at dksX0_row_4 10 rfl rfl)
theorem dX0_row_107 : decode cX0_row 107 = .ok (.bipush 10, 2) := dk_16 10 (dk_at dksX0_row_4 12 rfl rfl)
theorem dX0_row_109 : decode cX0_row 109 = .ok (.if_icmp .lt 8, 3) := dk_161 0 8 (dk_at dksX0_row_4 14 rfl rfl)
theorem dX0_row_112 : decode cX0_row 112 = .ok (.iload 5, 2) := dk_21 5 (dk_at dksX0_row_4 17 rfl rfl)
theorem dX0_row_114 : decode cX0_row 114 = .ok (.ifCond .eq 7, 3) := dk_153 0 7 (dk_at dksX0_row_4 19 rfl rfl)
theorem dX0_row_117 : decode cX0_row 117 = .ok (.iconst 1, 1) := dk_4 (dk_at dksX0_row_4 22 rfl rfl)
theorem dX0_row_118 : decode cX0_row 118 = .ok (.goto 4, 3) := dk_167 0 4 (dk_at dksX0_row_5 0 rfl rfl)
theorem dX0_row_121 : decode cX0_row 121 = .ok (.iconst 0, 1) := dk_3 (dk_at dksX0_row_5 3 rfl rfl)
theorem dX0_row_122 : decode cX0_row 122 = .ok (.iadd, 1) := dk_96 (dk_at dksX0_row_5 4 rfl rfl)
theorem dX0_row_123 : decode cX0_row 123 = .ok (.istore_n 2, 1) := dk_61 (dk_at dksX0_row_5 5 rfl rfl)
theorem dX0_row_124 : decode cX0_row 124 = .ok (.iinc 3 1, 3) := dk_132 3 1 (dk_at dksX0_row_5 6 rfl rfl)
theorem dX0_row_127 : decode cX0_row 127 = .ok (.goto (-102), 3) := dk_167 255 154 (dk_at dksX0_row_5 9 rfl rfl)
theorem dX0_row_130 : decode cX0_row 130 = .ok (.aload_n 0, 1) := dk_42 (dk_at dksX0_row_5 12 rfl rfl)
theorem dX0_row_131 : decode cX0_row 131 = .ok (.iload_n 1, 1) := dk_27 (dk_at dksX0_row_5 13 rfl rfl)
theorem dX0_row_132 : decode cX0_row 132 = .ok (.iload_n 2, 1) := dk_28 (dk_at dksX0_row_5 14 rfl rfl)
theorem dX0_row_133 : decode cX0_row 133 = .ok (.isub, 1) := dk_100 (dk_at dksX0_row_5 15 rfl rfl)
theorem dX0_row_134 : decode cX0_row 134 = .ok (.putfield 183, 3) := dk_181 0 183 (dk_at dksX0_row_5 16 rfl rfl)
theorem dX0_row_137 : decode cX0_row 137 = .ok (.aload_n 0, 1) := dk_42 (dk_at dksX0_row_5 19 rfl rfl)
theorem dX0_row_138 : decode cX0_row 138 = .ok (.iload_n 2, 1) := dk_28 (dk_at dksX0_row_5 20 rfl rfl)
theorem dX0_row_139 : decode cX0_row 139 = .ok (.invokevirtual 129, 3) := dk_182 0 129 (dk_at dksX0_row_5 21 rfl rfl)
theorem dX0_row_142 : decode cX0_row 142 = .ok (.ireturn, 1) := dk_172 (dk_at dksX0_row_6 0 rfl rfl)
abbrev cX0_spilt : ByteArray := prog_1_method_31_code
def yX0_spilt : MethodName := ⟨RX0, "spilt", "()I"⟩
theorem dX0_spilt_0 : decode cX0_spilt 0 = .ok (.aload_n 0, 1) := by decide +kernel
theorem dX0_spilt_1 : decode cX0_spilt 1 = .ok (.getfield 183, 3) := by decide +kernel
theorem dX0_spilt_4 : decode cX0_spilt 4 = .ok (.ireturn, 1) := by decide +kernel
abbrev cX0_law : ByteArray := prog_1_method_32_code
def yX0_law : MethodName := ⟨RX0, "law", "()I"⟩
def dkwX0_law_4 : List UInt8 := [87, 42, 42, 180, 0, 16, 180, 0, 186, 182, 0, 190, 4, 100, 182, 0, 129, 172]
abbrev dktX0_law_4 : List UInt8 := dkwX0_law_4 ++ []
def dkwX0_law_3 : List UInt8 := [181, 0, 28, 42, 180, 0, 16, 180, 0, 186, 187, 0, 209, 89, 44, 180, 0, 211, 183, 0, 214, 182, 0, 217]
abbrev dktX0_law_3 : List UInt8 := dkwX0_law_3 ++ dktX0_law_4
def dkwX0_law_2 : List UInt8 := [182, 0, 201, 167, 0, 19, 78, 42, 45, 180, 0, 206, 181, 0, 28, 42, 16, 250, 182, 0, 122, 172, 42, 2]
abbrev dktX0_law_2 : List UInt8 := dkwX0_law_2 ++ dktX0_law_3
def dkwX0_law_1 : List UInt8 := [160, 0, 10, 42, 16, 251, 182, 0, 122, 172, 187, 0, 196, 89, 42, 180, 0, 24, 27, 183, 0, 198, 77, 44]
abbrev dktX0_law_1 : List UInt8 := dkwX0_law_1 ++ dktX0_law_2
def dkwX0_law_0 : List UInt8 := [42, 180, 0, 176, 60, 42, 3, 181, 0, 176, 42, 180, 0, 16, 180, 0, 186, 182, 0, 190, 16, 6]
abbrev dktX0_law_0 : List UInt8 := dkwX0_law_0 ++ dktX0_law_1
theorem dksX0_law_0 : cX0_law.data.toList.drop 0 = dktX0_law_0 := by decide +kernel
theorem dksX0_law_1 : cX0_law.data.toList.drop 22 = dktX0_law_1 := dk_seg dksX0_law_0 22 rfl rfl
theorem dksX0_law_2 : cX0_law.data.toList.drop 46 = dktX0_law_2 := dk_seg dksX0_law_1 24 rfl rfl
theorem dksX0_law_3 : cX0_law.data.toList.drop 70 = dktX0_law_3 := dk_seg dksX0_law_2 24 rfl rfl
theorem dksX0_law_4 : cX0_law.data.toList.drop 94 = dktX0_law_4 := dk_seg dksX0_law_3 24 rfl rfl
theorem dX0_law_0 : decode cX0_law 0 = .ok (.aload_n 0, 1) := dk_42 (dk_at dksX0_law_0 0 rfl rfl)
theorem dX0_law_1 : decode cX0_law 1 = .ok (.getfield 176, 3) := dk_180 0 176 (dk_at dksX0_law_0 1 rfl rfl)
theorem dX0_law_4 : decode cX0_law 4 = .ok (.istore_n 1, 1) := dk_60 (dk_at dksX0_law_0 4 rfl rfl)
theorem dX0_law_5 : decode cX0_law 5 = .ok (.aload_n 0, 1) := dk_42 (dk_at dksX0_law_0 5 rfl rfl)
theorem dX0_law_6 : decode cX0_law 6 = .ok (.iconst 0, 1) := dk_3 (dk_at dksX0_law_0 6 rfl rfl)
theorem dX0_law_7 : decode cX0_law 7 = .ok (.putfield 176, 3) := dk_181 0 176 (dk_at dksX0_law_0 7 rfl rfl)
theorem dX0_law_10 : decode cX0_law 10 = .ok (.aload_n 0, 1) := dk_42 (dk_at dksX0_law_0 10 rfl rfl)
theorem dX0_law_11 : decode cX0_law 11 = .ok (.getfield 16, 3) := dk_180 0 16 (dk_at dksX0_law_0 11 rfl rfl)
theorem dX0_law_14 : decode cX0_law 14 = .ok (.getfield 186, 3) := dk_180 0 186 (dk_at dksX0_law_0 14 rfl rfl)
theorem dX0_law_17 : decode cX0_law 17 = .ok (.invokevirtual 190, 3) := dk_182 0 190 (dk_at dksX0_law_0 17 rfl rfl)
theorem dX0_law_20 : decode cX0_law 20 = .ok (.bipush 6, 2) := dk_16 6 (dk_at dksX0_law_0 20 rfl rfl)
theorem dX0_law_22 : decode cX0_law 22 = .ok (.if_icmp .ne 10, 3) := dk_160 0 10 (dk_at dksX0_law_1 0 rfl rfl)
theorem dX0_law_25 : decode cX0_law 25 = .ok (.aload_n 0, 1) := dk_42 (dk_at dksX0_law_1 3 rfl rfl)
theorem dX0_law_26 : decode cX0_law 26 = .ok (.bipush (-5), 2) := dk_16 251 (dk_at dksX0_law_1 4 rfl rfl)
theorem dX0_law_28 : decode cX0_law 28 = .ok (.invokevirtual 122, 3) := dk_182 0 122 (dk_at dksX0_law_1 6 rfl rfl)
theorem dX0_law_31 : decode cX0_law 31 = .ok (.ireturn, 1) := dk_172 (dk_at dksX0_law_1 9 rfl rfl)
theorem dX0_law_32 : decode cX0_law 32 = .ok (.new 196, 3) := dk_187 0 196 (dk_at dksX0_law_1 10 rfl rfl)
theorem dX0_law_35 : decode cX0_law 35 = .ok (.dup, 1) := dk_89 (dk_at dksX0_law_1 13 rfl rfl)
theorem dX0_law_36 : decode cX0_law 36 = .ok (.aload_n 0, 1) := dk_42 (dk_at dksX0_law_1 14 rfl rfl)
theorem dX0_law_37 : decode cX0_law 37 = .ok (.getfield 24, 3) := dk_180 0 24 (dk_at dksX0_law_1 15 rfl rfl)
theorem dX0_law_40 : decode cX0_law 40 = .ok (.iload_n 1, 1) := dk_27 (dk_at dksX0_law_1 18 rfl rfl)
theorem dX0_law_41 : decode cX0_law 41 = .ok (.invokespecial 198, 3) := dk_183 0 198 (dk_at dksX0_law_1 19 rfl rfl)
theorem dX0_law_44 : decode cX0_law 44 = .ok (.astore_n 2, 1) := dk_77 (dk_at dksX0_law_1 22 rfl rfl)
theorem dX0_law_45 : decode cX0_law 45 = .ok (.aload_n 2, 1) := dk_44 (dk_at dksX0_law_1 23 rfl rfl)
theorem dX0_law_46 : decode cX0_law 46 = .ok (.invokevirtual 201, 3) := dk_182 0 201 (dk_at dksX0_law_2 0 rfl rfl)
theorem dX0_law_49 : decode cX0_law 49 = .ok (.goto 19, 3) := dk_167 0 19 (dk_at dksX0_law_2 3 rfl rfl)
theorem dX0_law_52 : decode cX0_law 52 = .ok (.astore_n 3, 1) := dk_78 (dk_at dksX0_law_2 6 rfl rfl)
theorem dX0_law_53 : decode cX0_law 53 = .ok (.aload_n 0, 1) := dk_42 (dk_at dksX0_law_2 7 rfl rfl)
theorem dX0_law_54 : decode cX0_law 54 = .ok (.aload_n 3, 1) := dk_45 (dk_at dksX0_law_2 8 rfl rfl)
theorem dX0_law_55 : decode cX0_law 55 = .ok (.getfield 206, 3) := dk_180 0 206 (dk_at dksX0_law_2 9 rfl rfl)
theorem dX0_law_58 : decode cX0_law 58 = .ok (.putfield 28, 3) := dk_181 0 28 (dk_at dksX0_law_2 12 rfl rfl)
theorem dX0_law_61 : decode cX0_law 61 = .ok (.aload_n 0, 1) := dk_42 (dk_at dksX0_law_2 15 rfl rfl)
theorem dX0_law_62 : decode cX0_law 62 = .ok (.bipush (-6), 2) := dk_16 250 (dk_at dksX0_law_2 16 rfl rfl)
theorem dX0_law_64 : decode cX0_law 64 = .ok (.invokevirtual 122, 3) := dk_182 0 122 (dk_at dksX0_law_2 18 rfl rfl)
theorem dX0_law_67 : decode cX0_law 67 = .ok (.ireturn, 1) := dk_172 (dk_at dksX0_law_2 21 rfl rfl)
theorem dX0_law_68 : decode cX0_law 68 = .ok (.aload_n 0, 1) := dk_42 (dk_at dksX0_law_2 22 rfl rfl)
theorem dX0_law_69 : decode cX0_law 69 = .ok (.iconst (-1), 1) := dk_2 (dk_at dksX0_law_2 23 rfl rfl)
theorem dX0_law_70 : decode cX0_law 70 = .ok (.putfield 28, 3) := dk_181 0 28 (dk_at dksX0_law_3 0 rfl rfl)
theorem dX0_law_73 : decode cX0_law 73 = .ok (.aload_n 0, 1) := dk_42 (dk_at dksX0_law_3 3 rfl rfl)
theorem dX0_law_74 : decode cX0_law 74 = .ok (.getfield 16, 3) := dk_180 0 16 (dk_at dksX0_law_3 4 rfl rfl)
theorem dX0_law_77 : decode cX0_law 77 = .ok (.getfield 186, 3) := dk_180 0 186 (dk_at dksX0_law_3 7 rfl rfl)
theorem dX0_law_80 : decode cX0_law 80 = .ok (.new 209, 3) := dk_187 0 209 (dk_at dksX0_law_3 10 rfl rfl)
theorem dX0_law_83 : decode cX0_law 83 = .ok (.dup, 1) := dk_89 (dk_at dksX0_law_3 13 rfl rfl)
theorem dX0_law_84 : decode cX0_law 84 = .ok (.aload_n 2, 1) := dk_44 (dk_at dksX0_law_3 14 rfl rfl)
theorem dX0_law_85 : decode cX0_law 85 = .ok (.getfield 211, 3) := dk_180 0 211 (dk_at dksX0_law_3 15 rfl rfl)
theorem dX0_law_88 : decode cX0_law 88 = .ok (.invokespecial 214, 3) := dk_183 0 214 (dk_at dksX0_law_3 18 rfl rfl)
theorem dX0_law_91 : decode cX0_law 91 = .ok (.invokevirtual 217, 3) := dk_182 0 217 (dk_at dksX0_law_3 21 rfl rfl)
theorem dX0_law_94 : decode cX0_law 94 = .ok (.pop, 1) := dk_87 (dk_at dksX0_law_4 0 rfl rfl)
theorem dX0_law_95 : decode cX0_law 95 = .ok (.aload_n 0, 1) := dk_42 (dk_at dksX0_law_4 1 rfl rfl)
theorem dX0_law_96 : decode cX0_law 96 = .ok (.aload_n 0, 1) := dk_42 (dk_at dksX0_law_4 2 rfl rfl)
theorem dX0_law_97 : decode cX0_law 97 = .ok (.getfield 16, 3) := dk_180 0 16 (dk_at dksX0_law_4 3 rfl rfl)
theorem dX0_law_100 : decode cX0_law 100 = .ok (.getfield 186, 3) := dk_180 0 186 (dk_at dksX0_law_4 6 rfl rfl)
theorem dX0_law_103 : decode cX0_law 103 = .ok (.invokevirtual 190, 3) := dk_182 0 190 (dk_at dksX0_law_4 9 rfl rfl)
theorem dX0_law_106 : decode cX0_law 106 = .ok (.iconst 1, 1) := dk_4 (dk_at dksX0_law_4 12 rfl rfl)
theorem dX0_law_107 : decode cX0_law 107 = .ok (.isub, 1) := dk_100 (dk_at dksX0_law_4 13 rfl rfl)
theorem dX0_law_108 : decode cX0_law 108 = .ok (.invokevirtual 129, 3) := dk_182 0 129 (dk_at dksX0_law_4 14 rfl rfl)
theorem dX0_law_111 : decode cX0_law 111 = .ok (.ireturn, 1) := dk_172 (dk_at dksX0_law_4 17 rfl rfl)
abbrev cX0_fault : ByteArray := prog_1_method_33_code
def yX0_fault : MethodName := ⟨RX0, "fault", "()I"⟩
theorem dX0_fault_0 : decode cX0_fault 0 = .ok (.aload_n 0, 1) := by decide +kernel
theorem dX0_fault_1 : decode cX0_fault 1 = .ok (.getfield 28, 3) := by decide +kernel
theorem dX0_fault_4 : decode cX0_fault 4 = .ok (.ireturn, 1) := by decide +kernel
abbrev cX0_force : ByteArray := prog_1_method_34_code
def yX0_force : MethodName := ⟨RX0, "force", "(I)I"⟩
def dkwX0_force_2 : List UInt8 := [181, 0, 221, 42, 28, 182, 0, 129, 172]
abbrev dktX0_force_2 : List UInt8 := dkwX0_force_2 ++ []
def dkwX0_force_1 : List UInt8 := [154, 0, 10, 42, 16, 254, 182, 0, 122, 172, 42, 180, 0, 16, 180, 0, 221, 61, 42, 180, 0, 16, 27]
abbrev dktX0_force_1 : List UInt8 := dkwX0_force_1 ++ dktX0_force_2
def dkwX0_force_0 : List UInt8 := [27, 2, 159, 0, 30, 27, 3, 42, 180, 0, 16, 180, 0, 186, 182, 0, 190, 4, 100, 184, 0, 112]
abbrev dktX0_force_0 : List UInt8 := dkwX0_force_0 ++ dktX0_force_1
theorem dksX0_force_0 : cX0_force.data.toList.drop 0 = dktX0_force_0 := by decide +kernel
theorem dksX0_force_1 : cX0_force.data.toList.drop 22 = dktX0_force_1 := dk_seg dksX0_force_0 22 rfl rfl
theorem dksX0_force_2 : cX0_force.data.toList.drop 45 = dktX0_force_2 := dk_seg dksX0_force_1 23 rfl rfl
theorem dX0_force_0 : decode cX0_force 0 = .ok (.iload_n 1, 1) := dk_27 (dk_at dksX0_force_0 0 rfl rfl)
theorem dX0_force_1 : decode cX0_force 1 = .ok (.iconst (-1), 1) := dk_2 (dk_at dksX0_force_0 1 rfl rfl)
theorem dX0_force_2 : decode cX0_force 2 = .ok (.if_icmp .eq 30, 3) := dk_159 0 30 (dk_at dksX0_force_0 2 rfl rfl)
theorem dX0_force_5 : decode cX0_force 5 = .ok (.iload_n 1, 1) := dk_27 (dk_at dksX0_force_0 5 rfl rfl)
theorem dX0_force_6 : decode cX0_force 6 = .ok (.iconst 0, 1) := dk_3 (dk_at dksX0_force_0 6 rfl rfl)
theorem dX0_force_7 : decode cX0_force 7 = .ok (.aload_n 0, 1) := dk_42 (dk_at dksX0_force_0 7 rfl rfl)
theorem dX0_force_8 : decode cX0_force 8 = .ok (.getfield 16, 3) := dk_180 0 16 (dk_at dksX0_force_0 8 rfl rfl)
theorem dX0_force_11 : decode cX0_force 11 = .ok (.getfield 186, 3) := dk_180 0 186 (dk_at dksX0_force_0 11 rfl rfl)
theorem dX0_force_14 : decode cX0_force 14 = .ok (.invokevirtual 190, 3) := dk_182 0 190 (dk_at dksX0_force_0 14 rfl rfl)
theorem dX0_force_17 : decode cX0_force 17 = .ok (.iconst 1, 1) := dk_4 (dk_at dksX0_force_0 17 rfl rfl)
theorem dX0_force_18 : decode cX0_force 18 = .ok (.isub, 1) := dk_100 (dk_at dksX0_force_0 18 rfl rfl)
theorem dX0_force_19 : decode cX0_force 19 = .ok (.invokestatic 112, 3) := dk_184 0 112 (dk_at dksX0_force_0 19 rfl rfl)
theorem dX0_force_22 : decode cX0_force 22 = .ok (.ifCond .ne 10, 3) := dk_154 0 10 (dk_at dksX0_force_1 0 rfl rfl)
theorem dX0_force_25 : decode cX0_force 25 = .ok (.aload_n 0, 1) := dk_42 (dk_at dksX0_force_1 3 rfl rfl)
theorem dX0_force_26 : decode cX0_force 26 = .ok (.bipush (-2), 2) := dk_16 254 (dk_at dksX0_force_1 4 rfl rfl)
theorem dX0_force_28 : decode cX0_force 28 = .ok (.invokevirtual 122, 3) := dk_182 0 122 (dk_at dksX0_force_1 6 rfl rfl)
theorem dX0_force_31 : decode cX0_force 31 = .ok (.ireturn, 1) := dk_172 (dk_at dksX0_force_1 9 rfl rfl)
theorem dX0_force_32 : decode cX0_force 32 = .ok (.aload_n 0, 1) := dk_42 (dk_at dksX0_force_1 10 rfl rfl)
theorem dX0_force_33 : decode cX0_force 33 = .ok (.getfield 16, 3) := dk_180 0 16 (dk_at dksX0_force_1 11 rfl rfl)
theorem dX0_force_36 : decode cX0_force 36 = .ok (.getfield 221, 3) := dk_180 0 221 (dk_at dksX0_force_1 14 rfl rfl)
theorem dX0_force_39 : decode cX0_force 39 = .ok (.istore_n 2, 1) := dk_61 (dk_at dksX0_force_1 17 rfl rfl)
theorem dX0_force_40 : decode cX0_force 40 = .ok (.aload_n 0, 1) := dk_42 (dk_at dksX0_force_1 18 rfl rfl)
theorem dX0_force_41 : decode cX0_force 41 = .ok (.getfield 16, 3) := dk_180 0 16 (dk_at dksX0_force_1 19 rfl rfl)
theorem dX0_force_44 : decode cX0_force 44 = .ok (.iload_n 1, 1) := dk_27 (dk_at dksX0_force_1 22 rfl rfl)
theorem dX0_force_45 : decode cX0_force 45 = .ok (.putfield 221, 3) := dk_181 0 221 (dk_at dksX0_force_2 0 rfl rfl)
theorem dX0_force_48 : decode cX0_force 48 = .ok (.aload_n 0, 1) := dk_42 (dk_at dksX0_force_2 3 rfl rfl)
theorem dX0_force_49 : decode cX0_force 49 = .ok (.iload_n 2, 1) := dk_28 (dk_at dksX0_force_2 4 rfl rfl)
theorem dX0_force_50 : decode cX0_force 50 = .ok (.invokevirtual 129, 3) := dk_182 0 129 (dk_at dksX0_force_2 5 rfl rfl)
theorem dX0_force_53 : decode cX0_force 53 = .ok (.ireturn, 1) := dk_172 (dk_at dksX0_force_2 8 rfl rfl)
abbrev cX0_where : ByteArray := prog_1_method_37_code
def yX0_where : MethodName := ⟨RX0, "where", "(II)I"⟩
def dkwX0_where_2 : List UInt8 := [46, 172]
abbrev dktX0_where_2 : List UInt8 := dkwX0_where_2 ++ []
def dkwX0_where_1 : List UInt8 := [28, 2, 160, 0, 12, 42, 27, 3, 182, 0, 143, 167, 0, 14, 42, 180, 0, 51, 16, 6, 28, 104, 27, 96]
abbrev dktX0_where_1 : List UInt8 := dkwX0_where_1 ++ dktX0_where_2
def dkwX0_where_0 : List UInt8 := [42, 27, 182, 0, 158, 153, 0, 13, 28, 2, 16, 59, 184, 0, 112, 154, 0, 5, 2, 172, 42, 182, 0, 245]
abbrev dktX0_where_0 : List UInt8 := dkwX0_where_0 ++ dktX0_where_1
theorem dksX0_where_0 : cX0_where.data.toList.drop 0 = dktX0_where_0 := by decide +kernel
theorem dksX0_where_1 : cX0_where.data.toList.drop 24 = dktX0_where_1 := dk_seg dksX0_where_0 24 rfl rfl
theorem dksX0_where_2 : cX0_where.data.toList.drop 48 = dktX0_where_2 := dk_seg dksX0_where_1 24 rfl rfl
theorem dX0_where_0 : decode cX0_where 0 = .ok (.aload_n 0, 1) := dk_42 (dk_at dksX0_where_0 0 rfl rfl)
theorem dX0_where_1 : decode cX0_where 1 = .ok (.iload_n 1, 1) := dk_27 (dk_at dksX0_where_0 1 rfl rfl)
theorem dX0_where_2 : decode cX0_where 2 = .ok (.invokevirtual 158, 3) := dk_182 0 158 (dk_at dksX0_where_0 2 rfl rfl)
theorem dX0_where_5 : decode cX0_where 5 = .ok (.ifCond .eq 13, 3) := dk_153 0 13 (dk_at dksX0_where_0 5 rfl rfl)
theorem dX0_where_8 : decode cX0_where 8 = .ok (.iload_n 2, 1) := dk_28 (dk_at dksX0_where_0 8 rfl rfl)
theorem dX0_where_9 : decode cX0_where 9 = .ok (.iconst (-1), 1) := dk_2 (dk_at dksX0_where_0 9 rfl rfl)
theorem dX0_where_10 : decode cX0_where 10 = .ok (.bipush 59, 2) := dk_16 59 (dk_at dksX0_where_0 10 rfl rfl)
theorem dX0_where_12 : decode cX0_where 12 = .ok (.invokestatic 112, 3) := dk_184 0 112 (dk_at dksX0_where_0 12 rfl rfl)
theorem dX0_where_15 : decode cX0_where 15 = .ok (.ifCond .ne 5, 3) := dk_154 0 5 (dk_at dksX0_where_0 15 rfl rfl)
theorem dX0_where_18 : decode cX0_where 18 = .ok (.iconst (-1), 1) := dk_2 (dk_at dksX0_where_0 18 rfl rfl)
theorem dX0_where_19 : decode cX0_where 19 = .ok (.ireturn, 1) := dk_172 (dk_at dksX0_where_0 19 rfl rfl)
theorem dX0_where_20 : decode cX0_where 20 = .ok (.aload_n 0, 1) := dk_42 (dk_at dksX0_where_0 20 rfl rfl)
theorem dX0_where_21 : decode cX0_where 21 = .ok (.invokevirtual 245, 3) := dk_182 0 245 (dk_at dksX0_where_0 21 rfl rfl)
theorem dX0_where_24 : decode cX0_where 24 = .ok (.iload_n 2, 1) := dk_28 (dk_at dksX0_where_1 0 rfl rfl)
theorem dX0_where_25 : decode cX0_where 25 = .ok (.iconst (-1), 1) := dk_2 (dk_at dksX0_where_1 1 rfl rfl)
theorem dX0_where_26 : decode cX0_where 26 = .ok (.if_icmp .ne 12, 3) := dk_160 0 12 (dk_at dksX0_where_1 2 rfl rfl)
theorem dX0_where_29 : decode cX0_where 29 = .ok (.aload_n 0, 1) := dk_42 (dk_at dksX0_where_1 5 rfl rfl)
theorem dX0_where_30 : decode cX0_where 30 = .ok (.iload_n 1, 1) := dk_27 (dk_at dksX0_where_1 6 rfl rfl)
theorem dX0_where_31 : decode cX0_where 31 = .ok (.iconst 0, 1) := dk_3 (dk_at dksX0_where_1 7 rfl rfl)
theorem dX0_where_32 : decode cX0_where 32 = .ok (.invokevirtual 143, 3) := dk_182 0 143 (dk_at dksX0_where_1 8 rfl rfl)
theorem dX0_where_35 : decode cX0_where 35 = .ok (.goto 14, 3) := dk_167 0 14 (dk_at dksX0_where_1 11 rfl rfl)
theorem dX0_where_38 : decode cX0_where 38 = .ok (.aload_n 0, 1) := dk_42 (dk_at dksX0_where_1 14 rfl rfl)
theorem dX0_where_39 : decode cX0_where 39 = .ok (.getfield 51, 3) := dk_180 0 51 (dk_at dksX0_where_1 15 rfl rfl)
theorem dX0_where_42 : decode cX0_where 42 = .ok (.bipush 6, 2) := dk_16 6 (dk_at dksX0_where_1 18 rfl rfl)
theorem dX0_where_44 : decode cX0_where 44 = .ok (.iload_n 2, 1) := dk_28 (dk_at dksX0_where_1 20 rfl rfl)
theorem dX0_where_45 : decode cX0_where 45 = .ok (.imul, 1) := dk_104 (dk_at dksX0_where_1 21 rfl rfl)
theorem dX0_where_46 : decode cX0_where 46 = .ok (.iload_n 1, 1) := dk_27 (dk_at dksX0_where_1 22 rfl rfl)
theorem dX0_where_47 : decode cX0_where 47 = .ok (.iadd, 1) := dk_96 (dk_at dksX0_where_1 23 rfl rfl)
theorem dX0_where_48 : decode cX0_where 48 = .ok (.iaload, 1) := dk_46 (dk_at dksX0_where_2 0 rfl rfl)
theorem dX0_where_49 : decode cX0_where 49 = .ok (.ireturn, 1) := dk_172 (dk_at dksX0_where_2 1 rfl rfl)
abbrev cX0_looks : ByteArray := prog_1_method_36_code
def yX0_looks : MethodName := ⟨RX0, "looks", "()V"⟩
def dkwX0_looks_3 : List UInt8 := [16, 6, 184, 0, 239, 132, 1, 1, 167, 255, 206, 177]
abbrev dktX0_looks_3 : List UInt8 := dkwX0_looks_3 ++ []
def dkwX0_looks_2 : List UInt8 := [16, 12, 108, 46, 182, 0, 232, 42, 180, 0, 47, 180, 0, 236, 3, 42, 180, 0, 51, 16, 6, 27, 104]
abbrev dktX0_looks_2 : List UInt8 := dkwX0_looks_2 ++ dktX0_looks_3
def dkwX0_looks_1 : List UInt8 := [182, 0, 229, 3, 60, 27, 16, 60, 162, 0, 50, 42, 180, 0, 47, 27, 42, 180, 0, 16, 180, 0, 170, 27]
abbrev dktX0_looks_1 : List UInt8 := dkwX0_looks_1 ++ dktX0_looks_2
def dkwX0_looks_0 : List UInt8 := [42, 180, 0, 54, 42, 180, 0, 106, 160, 0, 4, 177, 42, 42, 180, 0, 106, 181, 0, 54, 42, 180, 0, 47]
abbrev dktX0_looks_0 : List UInt8 := dkwX0_looks_0 ++ dktX0_looks_1
theorem dksX0_looks_0 : cX0_looks.data.toList.drop 0 = dktX0_looks_0 := by decide +kernel
theorem dksX0_looks_1 : cX0_looks.data.toList.drop 24 = dktX0_looks_1 := dk_seg dksX0_looks_0 24 rfl rfl
theorem dksX0_looks_2 : cX0_looks.data.toList.drop 48 = dktX0_looks_2 := dk_seg dksX0_looks_1 24 rfl rfl
theorem dksX0_looks_3 : cX0_looks.data.toList.drop 71 = dktX0_looks_3 := dk_seg dksX0_looks_2 23 rfl rfl
theorem dX0_looks_0 : decode cX0_looks 0 = .ok (.aload_n 0, 1) := dk_42 (dk_at dksX0_looks_0 0 rfl rfl)
theorem dX0_looks_1 : decode cX0_looks 1 = .ok (.getfield 54, 3) := dk_180 0 54 (dk_at dksX0_looks_0 1 rfl rfl)
theorem dX0_looks_4 : decode cX0_looks 4 = .ok (.aload_n 0, 1) := dk_42 (dk_at dksX0_looks_0 4 rfl rfl)
theorem dX0_looks_5 : decode cX0_looks 5 = .ok (.getfield 106, 3) := dk_180 0 106 (dk_at dksX0_looks_0 5 rfl rfl)
theorem dX0_looks_8 : decode cX0_looks 8 = .ok (.if_icmp .ne 4, 3) := dk_160 0 4 (dk_at dksX0_looks_0 8 rfl rfl)
theorem dX0_looks_11 : decode cX0_looks 11 = .ok (.return_, 1) := dk_177 (dk_at dksX0_looks_0 11 rfl rfl)
theorem dX0_looks_12 : decode cX0_looks 12 = .ok (.aload_n 0, 1) := dk_42 (dk_at dksX0_looks_0 12 rfl rfl)
theorem dX0_looks_13 : decode cX0_looks 13 = .ok (.aload_n 0, 1) := dk_42 (dk_at dksX0_looks_0 13 rfl rfl)
theorem dX0_looks_14 : decode cX0_looks 14 = .ok (.getfield 106, 3) := dk_180 0 106 (dk_at dksX0_looks_0 14 rfl rfl)
theorem dX0_looks_17 : decode cX0_looks 17 = .ok (.putfield 54, 3) := dk_181 0 54 (dk_at dksX0_looks_0 17 rfl rfl)
theorem dX0_looks_20 : decode cX0_looks 20 = .ok (.aload_n 0, 1) := dk_42 (dk_at dksX0_looks_0 20 rfl rfl)
theorem dX0_looks_21 : decode cX0_looks 21 = .ok (.getfield 47, 3) := dk_180 0 47 (dk_at dksX0_looks_0 21 rfl rfl)
theorem dX0_looks_24 : decode cX0_looks 24 = .ok (.invokevirtual 229, 3) := dk_182 0 229 (dk_at dksX0_looks_1 0 rfl rfl)
theorem dX0_looks_27 : decode cX0_looks 27 = .ok (.iconst 0, 1) := dk_3 (dk_at dksX0_looks_1 3 rfl rfl)
theorem dX0_looks_28 : decode cX0_looks 28 = .ok (.istore_n 1, 1) := dk_60 (dk_at dksX0_looks_1 4 rfl rfl)
theorem dX0_looks_29 : decode cX0_looks 29 = .ok (.iload_n 1, 1) := dk_27 (dk_at dksX0_looks_1 5 rfl rfl)
theorem dX0_looks_30 : decode cX0_looks 30 = .ok (.bipush 60, 2) := dk_16 60 (dk_at dksX0_looks_1 6 rfl rfl)
theorem dX0_looks_32 : decode cX0_looks 32 = .ok (.if_icmp .ge 50, 3) := dk_162 0 50 (dk_at dksX0_looks_1 8 rfl rfl)
theorem dX0_looks_35 : decode cX0_looks 35 = .ok (.aload_n 0, 1) := dk_42 (dk_at dksX0_looks_1 11 rfl rfl)
theorem dX0_looks_36 : decode cX0_looks 36 = .ok (.getfield 47, 3) := dk_180 0 47 (dk_at dksX0_looks_1 12 rfl rfl)
theorem dX0_looks_39 : decode cX0_looks 39 = .ok (.iload_n 1, 1) := dk_27 (dk_at dksX0_looks_1 15 rfl rfl)
theorem dX0_looks_40 : decode cX0_looks 40 = .ok (.aload_n 0, 1) := dk_42 (dk_at dksX0_looks_1 16 rfl rfl)
theorem dX0_looks_41 : decode cX0_looks 41 = .ok (.getfield 16, 3) := dk_180 0 16 (dk_at dksX0_looks_1 17 rfl rfl)
theorem dX0_looks_44 : decode cX0_looks 44 = .ok (.getfield 170, 3) := dk_180 0 170 (dk_at dksX0_looks_1 20 rfl rfl)
theorem dX0_looks_47 : decode cX0_looks 47 = .ok (.iload_n 1, 1) := dk_27 (dk_at dksX0_looks_1 23 rfl rfl)
theorem dX0_looks_48 : decode cX0_looks 48 = .ok (.bipush 12, 2) := dk_16 12 (dk_at dksX0_looks_2 0 rfl rfl)
theorem dX0_looks_50 : decode cX0_looks 50 = .ok (.idiv, 1) := dk_108 (dk_at dksX0_looks_2 2 rfl rfl)
theorem dX0_looks_51 : decode cX0_looks 51 = .ok (.iaload, 1) := dk_46 (dk_at dksX0_looks_2 3 rfl rfl)
theorem dX0_looks_52 : decode cX0_looks 52 = .ok (.invokevirtual 232, 3) := dk_182 0 232 (dk_at dksX0_looks_2 4 rfl rfl)
theorem dX0_looks_55 : decode cX0_looks 55 = .ok (.aload_n 0, 1) := dk_42 (dk_at dksX0_looks_2 7 rfl rfl)
theorem dX0_looks_56 : decode cX0_looks 56 = .ok (.getfield 47, 3) := dk_180 0 47 (dk_at dksX0_looks_2 8 rfl rfl)
theorem dX0_looks_59 : decode cX0_looks 59 = .ok (.getfield 236, 3) := dk_180 0 236 (dk_at dksX0_looks_2 11 rfl rfl)
theorem dX0_looks_62 : decode cX0_looks 62 = .ok (.iconst 0, 1) := dk_3 (dk_at dksX0_looks_2 14 rfl rfl)
theorem dX0_looks_63 : decode cX0_looks 63 = .ok (.aload_n 0, 1) := dk_42 (dk_at dksX0_looks_2 15 rfl rfl)
theorem dX0_looks_64 : decode cX0_looks 64 = .ok (.getfield 51, 3) := dk_180 0 51 (dk_at dksX0_looks_2 16 rfl rfl)
theorem dX0_looks_67 : decode cX0_looks 67 = .ok (.bipush 6, 2) := dk_16 6 (dk_at dksX0_looks_2 19 rfl rfl)
theorem dX0_looks_69 : decode cX0_looks 69 = .ok (.iload_n 1, 1) := dk_27 (dk_at dksX0_looks_2 21 rfl rfl)
theorem dX0_looks_70 : decode cX0_looks 70 = .ok (.imul, 1) := dk_104 (dk_at dksX0_looks_2 22 rfl rfl)
theorem dX0_looks_71 : decode cX0_looks 71 = .ok (.bipush 6, 2) := dk_16 6 (dk_at dksX0_looks_3 0 rfl rfl)
theorem dX0_looks_73 : decode cX0_looks 73 = .ok (.invokestatic 239, 3) := dk_184 0 239 (dk_at dksX0_looks_3 2 rfl rfl)
theorem dX0_looks_76 : decode cX0_looks 76 = .ok (.iinc 1 1, 3) := dk_132 1 1 (dk_at dksX0_looks_3 5 rfl rfl)
theorem dX0_looks_79 : decode cX0_looks 79 = .ok (.goto (-50), 3) := dk_167 255 206 (dk_at dksX0_looks_3 8 rfl rfl)
theorem dX0_looks_82 : decode cX0_looks 82 = .ok (.return_, 1) := dk_177 (dk_at dksX0_looks_3 11 rfl rfl)
abbrev cX0_isOf : ByteArray := prog_1_method_5_code
def yX0_isOf : MethodName := ⟨RX0, "isOf", "(II)Z"⟩
def dkwX0_isOf_0 : List UInt8 := [26, 27, 122, 4, 126, 4, 160, 0, 7, 4, 167, 0, 4, 3, 172]
abbrev dktX0_isOf_0 : List UInt8 := dkwX0_isOf_0 ++ []
theorem dksX0_isOf_0 : cX0_isOf.data.toList.drop 0 = dktX0_isOf_0 := by decide +kernel
theorem dX0_isOf_0 : decode cX0_isOf 0 = .ok (.iload_n 0, 1) := dk_26 (dk_at dksX0_isOf_0 0 rfl rfl)
theorem dX0_isOf_1 : decode cX0_isOf 1 = .ok (.iload_n 1, 1) := dk_27 (dk_at dksX0_isOf_0 1 rfl rfl)
theorem dX0_isOf_2 : decode cX0_isOf 2 = .ok (.ishr, 1) := dk_122 (dk_at dksX0_isOf_0 2 rfl rfl)
theorem dX0_isOf_3 : decode cX0_isOf 3 = .ok (.iconst 1, 1) := dk_4 (dk_at dksX0_isOf_0 3 rfl rfl)
theorem dX0_isOf_4 : decode cX0_isOf 4 = .ok (.iand, 1) := dk_126 (dk_at dksX0_isOf_0 4 rfl rfl)
theorem dX0_isOf_5 : decode cX0_isOf 5 = .ok (.iconst 1, 1) := dk_4 (dk_at dksX0_isOf_0 5 rfl rfl)
theorem dX0_isOf_6 : decode cX0_isOf 6 = .ok (.if_icmp .ne 7, 3) := dk_160 0 7 (dk_at dksX0_isOf_0 6 rfl rfl)
theorem dX0_isOf_9 : decode cX0_isOf 9 = .ok (.iconst 1, 1) := dk_4 (dk_at dksX0_isOf_0 9 rfl rfl)
theorem dX0_isOf_10 : decode cX0_isOf 10 = .ok (.goto 4, 3) := dk_167 0 4 (dk_at dksX0_isOf_0 10 rfl rfl)
theorem dX0_isOf_13 : decode cX0_isOf 13 = .ok (.iconst 0, 1) := dk_3 (dk_at dksX0_isOf_0 13 rfl rfl)
theorem dX0_isOf_14 : decode cX0_isOf 14 = .ok (.ireturn, 1) := dk_172 (dk_at dksX0_isOf_0 14 rfl rfl)
abbrev cX0_apart : ByteArray := prog_1_method_35_code
def yX0_apart : MethodName := ⟨RX0, "apart", "(II)I"⟩
def dkwX0_apart_1 : List UInt8 := [96, 172]
abbrev dktX0_apart_1 : List UInt8 := dkwX0_apart_1 ++ []
def dkwX0_apart_0 : List UInt8 := [26, 16, 12, 112, 27, 16, 12, 112, 100, 184, 0, 224, 26, 16, 12, 108, 27, 16, 12, 108, 100, 184, 0, 224]
abbrev dktX0_apart_0 : List UInt8 := dkwX0_apart_0 ++ dktX0_apart_1
theorem dksX0_apart_0 : cX0_apart.data.toList.drop 0 = dktX0_apart_0 := by decide +kernel
theorem dksX0_apart_1 : cX0_apart.data.toList.drop 24 = dktX0_apart_1 := dk_seg dksX0_apart_0 24 rfl rfl
theorem dX0_apart_0 : decode cX0_apart 0 = .ok (.iload_n 0, 1) := dk_26 (dk_at dksX0_apart_0 0 rfl rfl)
theorem dX0_apart_1 : decode cX0_apart 1 = .ok (.bipush 12, 2) := dk_16 12 (dk_at dksX0_apart_0 1 rfl rfl)
theorem dX0_apart_3 : decode cX0_apart 3 = .ok (.irem, 1) := dk_112 (dk_at dksX0_apart_0 3 rfl rfl)
theorem dX0_apart_4 : decode cX0_apart 4 = .ok (.iload_n 1, 1) := dk_27 (dk_at dksX0_apart_0 4 rfl rfl)
theorem dX0_apart_5 : decode cX0_apart 5 = .ok (.bipush 12, 2) := dk_16 12 (dk_at dksX0_apart_0 5 rfl rfl)
theorem dX0_apart_7 : decode cX0_apart 7 = .ok (.irem, 1) := dk_112 (dk_at dksX0_apart_0 7 rfl rfl)
theorem dX0_apart_8 : decode cX0_apart 8 = .ok (.isub, 1) := dk_100 (dk_at dksX0_apart_0 8 rfl rfl)
theorem dX0_apart_9 : decode cX0_apart 9 = .ok (.invokestatic 224, 3) := dk_184 0 224 (dk_at dksX0_apart_0 9 rfl rfl)
theorem dX0_apart_12 : decode cX0_apart 12 = .ok (.iload_n 0, 1) := dk_26 (dk_at dksX0_apart_0 12 rfl rfl)
theorem dX0_apart_13 : decode cX0_apart 13 = .ok (.bipush 12, 2) := dk_16 12 (dk_at dksX0_apart_0 13 rfl rfl)
theorem dX0_apart_15 : decode cX0_apart 15 = .ok (.idiv, 1) := dk_108 (dk_at dksX0_apart_0 15 rfl rfl)
theorem dX0_apart_16 : decode cX0_apart 16 = .ok (.iload_n 1, 1) := dk_27 (dk_at dksX0_apart_0 16 rfl rfl)
theorem dX0_apart_17 : decode cX0_apart 17 = .ok (.bipush 12, 2) := dk_16 12 (dk_at dksX0_apart_0 17 rfl rfl)
theorem dX0_apart_19 : decode cX0_apart 19 = .ok (.idiv, 1) := dk_108 (dk_at dksX0_apart_0 19 rfl rfl)
theorem dX0_apart_20 : decode cX0_apart 20 = .ok (.isub, 1) := dk_100 (dk_at dksX0_apart_0 20 rfl rfl)
theorem dX0_apart_21 : decode cX0_apart 21 = .ok (.invokestatic 224, 3) := dk_184 0 224 (dk_at dksX0_apart_0 21 rfl rfl)
theorem dX0_apart_24 : decode cX0_apart 24 = .ok (.iadd, 1) := dk_96 (dk_at dksX0_apart_1 0 rfl rfl)
theorem dX0_apart_25 : decode cX0_apart 25 = .ok (.ireturn, 1) := dk_172 (dk_at dksX0_apart_1 1 rfl rfl)
abbrev cX0_ones : ByteArray := prog_1_method_6_code
def yX0_ones : MethodName := ⟨RX0, "ones", "(I)I"⟩
theorem dX0_ones_0 : decode cX0_ones 0 = .ok (.iload_n 0, 1) := by decide +kernel
theorem dX0_ones_1 : decode cX0_ones 1 = .ok (.invokestatic 100, 3) := by decide +kernel
theorem dX0_ones_4 : decode cX0_ones 4 = .ok (.ireturn, 1) := by decide +kernel
abbrev cX0_day : ByteArray := prog_1_method_38_code
def yX0_day : MethodName := ⟨RX0, "day", "(II)I"⟩
def dkwX0_day_3 : List UInt8 := [180, 0, 254, 21, 4, 46, 27, 122, 4, 126, 96, 62, 132, 4, 1, 167, 255, 229, 29, 172]
abbrev dktX0_day_3 : List UInt8 := dkwX0_day_3 ++ []
def dkwX0_day_2 : List UInt8 := [180, 0, 251, 27, 46, 172, 3, 62, 3, 54, 4, 21, 4, 16, 96, 162, 0, 26, 29, 42, 180, 0, 47]
abbrev dktX0_day_2 : List UInt8 := dkwX0_day_2 ++ dktX0_day_3
def dkwX0_day_1 : List UInt8 := [4, 159, 0, 29, 28, 154, 0, 15, 42, 180, 0, 47, 180, 0, 248, 27, 46, 167, 0, 12, 42, 180, 0, 47]
abbrev dktX0_day_1 : List UInt8 := dkwX0_day_1 ++ dktX0_day_2
def dkwX0_day_0 : List UInt8 := [42, 27, 182, 0, 158, 153, 0, 12, 28, 3, 5, 184, 0, 112, 154, 0, 5, 2, 172, 42, 182, 0, 245, 28]
abbrev dktX0_day_0 : List UInt8 := dkwX0_day_0 ++ dktX0_day_1
theorem dksX0_day_0 : cX0_day.data.toList.drop 0 = dktX0_day_0 := by decide +kernel
theorem dksX0_day_1 : cX0_day.data.toList.drop 24 = dktX0_day_1 := dk_seg dksX0_day_0 24 rfl rfl
theorem dksX0_day_2 : cX0_day.data.toList.drop 48 = dktX0_day_2 := dk_seg dksX0_day_1 24 rfl rfl
theorem dksX0_day_3 : cX0_day.data.toList.drop 71 = dktX0_day_3 := dk_seg dksX0_day_2 23 rfl rfl
theorem dX0_day_0 : decode cX0_day 0 = .ok (.aload_n 0, 1) := dk_42 (dk_at dksX0_day_0 0 rfl rfl)
theorem dX0_day_1 : decode cX0_day 1 = .ok (.iload_n 1, 1) := dk_27 (dk_at dksX0_day_0 1 rfl rfl)
theorem dX0_day_2 : decode cX0_day 2 = .ok (.invokevirtual 158, 3) := dk_182 0 158 (dk_at dksX0_day_0 2 rfl rfl)
theorem dX0_day_5 : decode cX0_day 5 = .ok (.ifCond .eq 12, 3) := dk_153 0 12 (dk_at dksX0_day_0 5 rfl rfl)
theorem dX0_day_8 : decode cX0_day 8 = .ok (.iload_n 2, 1) := dk_28 (dk_at dksX0_day_0 8 rfl rfl)
theorem dX0_day_9 : decode cX0_day 9 = .ok (.iconst 0, 1) := dk_3 (dk_at dksX0_day_0 9 rfl rfl)
theorem dX0_day_10 : decode cX0_day 10 = .ok (.iconst 2, 1) := dk_5 (dk_at dksX0_day_0 10 rfl rfl)
theorem dX0_day_11 : decode cX0_day 11 = .ok (.invokestatic 112, 3) := dk_184 0 112 (dk_at dksX0_day_0 11 rfl rfl)
theorem dX0_day_14 : decode cX0_day 14 = .ok (.ifCond .ne 5, 3) := dk_154 0 5 (dk_at dksX0_day_0 14 rfl rfl)
theorem dX0_day_17 : decode cX0_day 17 = .ok (.iconst (-1), 1) := dk_2 (dk_at dksX0_day_0 17 rfl rfl)
theorem dX0_day_18 : decode cX0_day 18 = .ok (.ireturn, 1) := dk_172 (dk_at dksX0_day_0 18 rfl rfl)
theorem dX0_day_19 : decode cX0_day 19 = .ok (.aload_n 0, 1) := dk_42 (dk_at dksX0_day_0 19 rfl rfl)
theorem dX0_day_20 : decode cX0_day 20 = .ok (.invokevirtual 245, 3) := dk_182 0 245 (dk_at dksX0_day_0 20 rfl rfl)
theorem dX0_day_23 : decode cX0_day 23 = .ok (.iload_n 2, 1) := dk_28 (dk_at dksX0_day_0 23 rfl rfl)
theorem dX0_day_24 : decode cX0_day 24 = .ok (.iconst 1, 1) := dk_4 (dk_at dksX0_day_1 0 rfl rfl)
theorem dX0_day_25 : decode cX0_day 25 = .ok (.if_icmp .eq 29, 3) := dk_159 0 29 (dk_at dksX0_day_1 1 rfl rfl)
theorem dX0_day_28 : decode cX0_day 28 = .ok (.iload_n 2, 1) := dk_28 (dk_at dksX0_day_1 4 rfl rfl)
theorem dX0_day_29 : decode cX0_day 29 = .ok (.ifCond .ne 15, 3) := dk_154 0 15 (dk_at dksX0_day_1 5 rfl rfl)
theorem dX0_day_32 : decode cX0_day 32 = .ok (.aload_n 0, 1) := dk_42 (dk_at dksX0_day_1 8 rfl rfl)
theorem dX0_day_33 : decode cX0_day 33 = .ok (.getfield 47, 3) := dk_180 0 47 (dk_at dksX0_day_1 9 rfl rfl)
theorem dX0_day_36 : decode cX0_day 36 = .ok (.getfield 248, 3) := dk_180 0 248 (dk_at dksX0_day_1 12 rfl rfl)
theorem dX0_day_39 : decode cX0_day 39 = .ok (.iload_n 1, 1) := dk_27 (dk_at dksX0_day_1 15 rfl rfl)
theorem dX0_day_40 : decode cX0_day 40 = .ok (.iaload, 1) := dk_46 (dk_at dksX0_day_1 16 rfl rfl)
theorem dX0_day_41 : decode cX0_day 41 = .ok (.goto 12, 3) := dk_167 0 12 (dk_at dksX0_day_1 17 rfl rfl)
theorem dX0_day_44 : decode cX0_day 44 = .ok (.aload_n 0, 1) := dk_42 (dk_at dksX0_day_1 20 rfl rfl)
theorem dX0_day_45 : decode cX0_day 45 = .ok (.getfield 47, 3) := dk_180 0 47 (dk_at dksX0_day_1 21 rfl rfl)
theorem dX0_day_48 : decode cX0_day 48 = .ok (.getfield 251, 3) := dk_180 0 251 (dk_at dksX0_day_2 0 rfl rfl)
theorem dX0_day_51 : decode cX0_day 51 = .ok (.iload_n 1, 1) := dk_27 (dk_at dksX0_day_2 3 rfl rfl)
theorem dX0_day_52 : decode cX0_day 52 = .ok (.iaload, 1) := dk_46 (dk_at dksX0_day_2 4 rfl rfl)
theorem dX0_day_53 : decode cX0_day 53 = .ok (.ireturn, 1) := dk_172 (dk_at dksX0_day_2 5 rfl rfl)
theorem dX0_day_54 : decode cX0_day 54 = .ok (.iconst 0, 1) := dk_3 (dk_at dksX0_day_2 6 rfl rfl)
theorem dX0_day_55 : decode cX0_day 55 = .ok (.istore_n 3, 1) := dk_62 (dk_at dksX0_day_2 7 rfl rfl)
theorem dX0_day_56 : decode cX0_day 56 = .ok (.iconst 0, 1) := dk_3 (dk_at dksX0_day_2 8 rfl rfl)
theorem dX0_day_57 : decode cX0_day 57 = .ok (.istore 4, 2) := dk_54 4 (dk_at dksX0_day_2 9 rfl rfl)
theorem dX0_day_59 : decode cX0_day 59 = .ok (.iload 4, 2) := dk_21 4 (dk_at dksX0_day_2 11 rfl rfl)
theorem dX0_day_61 : decode cX0_day 61 = .ok (.bipush 96, 2) := dk_16 96 (dk_at dksX0_day_2 13 rfl rfl)
theorem dX0_day_63 : decode cX0_day 63 = .ok (.if_icmp .ge 26, 3) := dk_162 0 26 (dk_at dksX0_day_2 15 rfl rfl)
theorem dX0_day_66 : decode cX0_day 66 = .ok (.iload_n 3, 1) := dk_29 (dk_at dksX0_day_2 18 rfl rfl)
theorem dX0_day_67 : decode cX0_day 67 = .ok (.aload_n 0, 1) := dk_42 (dk_at dksX0_day_2 19 rfl rfl)
theorem dX0_day_68 : decode cX0_day 68 = .ok (.getfield 47, 3) := dk_180 0 47 (dk_at dksX0_day_2 20 rfl rfl)
theorem dX0_day_71 : decode cX0_day 71 = .ok (.getfield 254, 3) := dk_180 0 254 (dk_at dksX0_day_3 0 rfl rfl)
theorem dX0_day_74 : decode cX0_day 74 = .ok (.iload 4, 2) := dk_21 4 (dk_at dksX0_day_3 3 rfl rfl)
theorem dX0_day_76 : decode cX0_day 76 = .ok (.iaload, 1) := dk_46 (dk_at dksX0_day_3 5 rfl rfl)
theorem dX0_day_77 : decode cX0_day 77 = .ok (.iload_n 1, 1) := dk_27 (dk_at dksX0_day_3 6 rfl rfl)
theorem dX0_day_78 : decode cX0_day 78 = .ok (.ishr, 1) := dk_122 (dk_at dksX0_day_3 7 rfl rfl)
theorem dX0_day_79 : decode cX0_day 79 = .ok (.iconst 1, 1) := dk_4 (dk_at dksX0_day_3 8 rfl rfl)
theorem dX0_day_80 : decode cX0_day 80 = .ok (.iand, 1) := dk_126 (dk_at dksX0_day_3 9 rfl rfl)
theorem dX0_day_81 : decode cX0_day 81 = .ok (.iadd, 1) := dk_96 (dk_at dksX0_day_3 10 rfl rfl)
theorem dX0_day_82 : decode cX0_day 82 = .ok (.istore_n 3, 1) := dk_62 (dk_at dksX0_day_3 11 rfl rfl)
theorem dX0_day_83 : decode cX0_day 83 = .ok (.iinc 4 1, 3) := dk_132 4 1 (dk_at dksX0_day_3 12 rfl rfl)
theorem dX0_day_86 : decode cX0_day 86 = .ok (.goto (-27), 3) := dk_167 255 229 (dk_at dksX0_day_3 15 rfl rfl)
theorem dX0_day_89 : decode cX0_day 89 = .ok (.iload_n 3, 1) := dk_29 (dk_at dksX0_day_3 18 rfl rfl)
theorem dX0_day_90 : decode cX0_day 90 = .ok (.ireturn, 1) := dk_172 (dk_at dksX0_day_3 19 rfl rfl)
abbrev cX0_trail : ByteArray := prog_1_method_39_code
def yX0_trail : MethodName := ⟨RX0, "trail", "(I)I"⟩
def dkwX0_trail_0 : List UInt8 := [27, 184, 0, 132, 154, 0, 5, 2, 172, 42, 182, 0, 245, 42, 180, 0, 47, 180, 0, 254, 27, 46, 172]
abbrev dktX0_trail_0 : List UInt8 := dkwX0_trail_0 ++ []
theorem dksX0_trail_0 : cX0_trail.data.toList.drop 0 = dktX0_trail_0 := by decide +kernel
theorem dX0_trail_0 : decode cX0_trail 0 = .ok (.iload_n 1, 1) := dk_27 (dk_at dksX0_trail_0 0 rfl rfl)
theorem dX0_trail_1 : decode cX0_trail 1 = .ok (.invokestatic 132, 3) := dk_184 0 132 (dk_at dksX0_trail_0 1 rfl rfl)
theorem dX0_trail_4 : decode cX0_trail 4 = .ok (.ifCond .ne 5, 3) := dk_154 0 5 (dk_at dksX0_trail_0 4 rfl rfl)
theorem dX0_trail_7 : decode cX0_trail 7 = .ok (.iconst (-1), 1) := dk_2 (dk_at dksX0_trail_0 7 rfl rfl)
theorem dX0_trail_8 : decode cX0_trail 8 = .ok (.ireturn, 1) := dk_172 (dk_at dksX0_trail_0 8 rfl rfl)
theorem dX0_trail_9 : decode cX0_trail 9 = .ok (.aload_n 0, 1) := dk_42 (dk_at dksX0_trail_0 9 rfl rfl)
theorem dX0_trail_10 : decode cX0_trail 10 = .ok (.invokevirtual 245, 3) := dk_182 0 245 (dk_at dksX0_trail_0 10 rfl rfl)
theorem dX0_trail_13 : decode cX0_trail 13 = .ok (.aload_n 0, 1) := dk_42 (dk_at dksX0_trail_0 13 rfl rfl)
theorem dX0_trail_14 : decode cX0_trail 14 = .ok (.getfield 47, 3) := dk_180 0 47 (dk_at dksX0_trail_0 14 rfl rfl)
theorem dX0_trail_17 : decode cX0_trail 17 = .ok (.getfield 254, 3) := dk_180 0 254 (dk_at dksX0_trail_0 17 rfl rfl)
theorem dX0_trail_20 : decode cX0_trail 20 = .ok (.iload_n 1, 1) := dk_27 (dk_at dksX0_trail_0 20 rfl rfl)
theorem dX0_trail_21 : decode cX0_trail 21 = .ok (.iaload, 1) := dk_46 (dk_at dksX0_trail_0 21 rfl rfl)
theorem dX0_trail_22 : decode cX0_trail 22 = .ok (.ireturn, 1) := dk_172 (dk_at dksX0_trail_0 22 rfl rfl)
abbrev cX0_best : ByteArray := prog_1_method_41_code
def yX0_best : MethodName := ⟨RX0, "best", "(III)I"⟩
def dkwX0_best_4 : List UInt8 := [29, 6, 100, 27, 162, 0, 17, 42, 180, 0, 60, 180, 1, 16, 29, 6, 100, 46, 167, 0, 4, 2, 172]
abbrev dktX0_best_4 : List UInt8 := dkwX0_best_4 ++ []
def dkwX0_best_3 : List UInt8 := [42, 180, 0, 60, 180, 1, 9, 172, 42, 180, 0, 60, 180, 1, 12, 172, 42, 180, 0, 60, 180, 1, 15, 172]
abbrev dktX0_best_3 : List UInt8 := dkwX0_best_3 ++ dktX0_best_4
def dkwX0_best_2 : List UInt8 := [170, 0, 0, 0, 49, 0, 0, 0, 0, 0, 0, 0, 2, 0, 0, 0, 25, 0, 0, 0, 33, 0, 0, 0, 41]
abbrev dktX0_best_2 : List UInt8 := dkwX0_best_2 ++ dktX0_best_3
def dkwX0_best_1 : List UInt8 := [180, 0, 60, 27, 28, 182, 1, 7, 29]
abbrev dktX0_best_1 : List UInt8 := dkwX0_best_1 ++ dktX0_best_2
def dkwX0_best_0 : List UInt8 := [42, 27, 28, 182, 1, 4, 153, 0, 13, 29, 3, 16, 7, 184, 0, 112, 154, 0, 5, 2, 172, 42]
abbrev dktX0_best_0 : List UInt8 := dkwX0_best_0 ++ dktX0_best_1
theorem dksX0_best_0 : cX0_best.data.toList.drop 0 = dktX0_best_0 := by decide +kernel
theorem dksX0_best_1 : cX0_best.data.toList.drop 22 = dktX0_best_1 := dk_seg dksX0_best_0 22 rfl rfl
theorem dksX0_best_2 : cX0_best.data.toList.drop 31 = dktX0_best_2 := dk_seg dksX0_best_1 9 rfl rfl
theorem dksX0_best_3 : cX0_best.data.toList.drop 56 = dktX0_best_3 := dk_seg dksX0_best_2 25 rfl rfl
theorem dksX0_best_4 : cX0_best.data.toList.drop 80 = dktX0_best_4 := dk_seg dksX0_best_3 24 rfl rfl
theorem dX0_best_0 : decode cX0_best 0 = .ok (.aload_n 0, 1) := dk_42 (dk_at dksX0_best_0 0 rfl rfl)
theorem dX0_best_1 : decode cX0_best 1 = .ok (.iload_n 1, 1) := dk_27 (dk_at dksX0_best_0 1 rfl rfl)
theorem dX0_best_2 : decode cX0_best 2 = .ok (.iload_n 2, 1) := dk_28 (dk_at dksX0_best_0 2 rfl rfl)
theorem dX0_best_3 : decode cX0_best 3 = .ok (.invokevirtual 260, 3) := dk_182 1 4 (dk_at dksX0_best_0 3 rfl rfl)
theorem dX0_best_6 : decode cX0_best 6 = .ok (.ifCond .eq 13, 3) := dk_153 0 13 (dk_at dksX0_best_0 6 rfl rfl)
theorem dX0_best_9 : decode cX0_best 9 = .ok (.iload_n 3, 1) := dk_29 (dk_at dksX0_best_0 9 rfl rfl)
theorem dX0_best_10 : decode cX0_best 10 = .ok (.iconst 0, 1) := dk_3 (dk_at dksX0_best_0 10 rfl rfl)
theorem dX0_best_11 : decode cX0_best 11 = .ok (.bipush 7, 2) := dk_16 7 (dk_at dksX0_best_0 11 rfl rfl)
theorem dX0_best_13 : decode cX0_best 13 = .ok (.invokestatic 112, 3) := dk_184 0 112 (dk_at dksX0_best_0 13 rfl rfl)
theorem dX0_best_16 : decode cX0_best 16 = .ok (.ifCond .ne 5, 3) := dk_154 0 5 (dk_at dksX0_best_0 16 rfl rfl)
theorem dX0_best_19 : decode cX0_best 19 = .ok (.iconst (-1), 1) := dk_2 (dk_at dksX0_best_0 19 rfl rfl)
theorem dX0_best_20 : decode cX0_best 20 = .ok (.ireturn, 1) := dk_172 (dk_at dksX0_best_0 20 rfl rfl)
theorem dX0_best_21 : decode cX0_best 21 = .ok (.aload_n 0, 1) := dk_42 (dk_at dksX0_best_0 21 rfl rfl)
theorem dX0_best_22 : decode cX0_best 22 = .ok (.getfield 60, 3) := dk_180 0 60 (dk_at dksX0_best_1 0 rfl rfl)
theorem dX0_best_25 : decode cX0_best 25 = .ok (.iload_n 1, 1) := dk_27 (dk_at dksX0_best_1 3 rfl rfl)
theorem dX0_best_26 : decode cX0_best 26 = .ok (.iload_n 2, 1) := dk_28 (dk_at dksX0_best_1 4 rfl rfl)
theorem dX0_best_27 : decode cX0_best 27 = .ok (.invokevirtual 263, 3) := dk_182 1 7 (dk_at dksX0_best_1 5 rfl rfl)
theorem dX0_best_30 : decode cX0_best 30 = .ok (.iload_n 3, 1) := dk_29 (dk_at dksX0_best_1 8 rfl rfl)
theorem dX0_best_31 : decode cX0_best 31 = .ok (.tableswitch 49 0 2 #[25, 33, 41], 25) := by decide +kernel
theorem dX0_best_56 : decode cX0_best 56 = .ok (.aload_n 0, 1) := dk_42 (dk_at dksX0_best_3 0 rfl rfl)
theorem dX0_best_57 : decode cX0_best 57 = .ok (.getfield 60, 3) := dk_180 0 60 (dk_at dksX0_best_3 1 rfl rfl)
theorem dX0_best_60 : decode cX0_best 60 = .ok (.getfield 265, 3) := dk_180 1 9 (dk_at dksX0_best_3 4 rfl rfl)
theorem dX0_best_63 : decode cX0_best 63 = .ok (.ireturn, 1) := dk_172 (dk_at dksX0_best_3 7 rfl rfl)
theorem dX0_best_64 : decode cX0_best 64 = .ok (.aload_n 0, 1) := dk_42 (dk_at dksX0_best_3 8 rfl rfl)
theorem dX0_best_65 : decode cX0_best 65 = .ok (.getfield 60, 3) := dk_180 0 60 (dk_at dksX0_best_3 9 rfl rfl)
theorem dX0_best_68 : decode cX0_best 68 = .ok (.getfield 268, 3) := dk_180 1 12 (dk_at dksX0_best_3 12 rfl rfl)
theorem dX0_best_71 : decode cX0_best 71 = .ok (.ireturn, 1) := dk_172 (dk_at dksX0_best_3 15 rfl rfl)
theorem dX0_best_72 : decode cX0_best 72 = .ok (.aload_n 0, 1) := dk_42 (dk_at dksX0_best_3 16 rfl rfl)
theorem dX0_best_73 : decode cX0_best 73 = .ok (.getfield 60, 3) := dk_180 0 60 (dk_at dksX0_best_3 17 rfl rfl)
theorem dX0_best_76 : decode cX0_best 76 = .ok (.getfield 271, 3) := dk_180 1 15 (dk_at dksX0_best_3 20 rfl rfl)
theorem dX0_best_79 : decode cX0_best 79 = .ok (.ireturn, 1) := dk_172 (dk_at dksX0_best_3 23 rfl rfl)
theorem dX0_best_80 : decode cX0_best 80 = .ok (.iload_n 3, 1) := dk_29 (dk_at dksX0_best_4 0 rfl rfl)
theorem dX0_best_81 : decode cX0_best 81 = .ok (.iconst 3, 1) := dk_6 (dk_at dksX0_best_4 1 rfl rfl)
theorem dX0_best_82 : decode cX0_best 82 = .ok (.isub, 1) := dk_100 (dk_at dksX0_best_4 2 rfl rfl)
theorem dX0_best_83 : decode cX0_best 83 = .ok (.iload_n 1, 1) := dk_27 (dk_at dksX0_best_4 3 rfl rfl)
theorem dX0_best_84 : decode cX0_best 84 = .ok (.if_icmp .ge 17, 3) := dk_162 0 17 (dk_at dksX0_best_4 4 rfl rfl)
theorem dX0_best_87 : decode cX0_best 87 = .ok (.aload_n 0, 1) := dk_42 (dk_at dksX0_best_4 7 rfl rfl)
theorem dX0_best_88 : decode cX0_best 88 = .ok (.getfield 60, 3) := dk_180 0 60 (dk_at dksX0_best_4 8 rfl rfl)
theorem dX0_best_91 : decode cX0_best 91 = .ok (.getfield 272, 3) := dk_180 1 16 (dk_at dksX0_best_4 11 rfl rfl)
theorem dX0_best_94 : decode cX0_best 94 = .ok (.iload_n 3, 1) := dk_29 (dk_at dksX0_best_4 14 rfl rfl)
theorem dX0_best_95 : decode cX0_best 95 = .ok (.iconst 3, 1) := dk_6 (dk_at dksX0_best_4 15 rfl rfl)
theorem dX0_best_96 : decode cX0_best 96 = .ok (.isub, 1) := dk_100 (dk_at dksX0_best_4 16 rfl rfl)
theorem dX0_best_97 : decode cX0_best 97 = .ok (.iaload, 1) := dk_46 (dk_at dksX0_best_4 17 rfl rfl)
theorem dX0_best_98 : decode cX0_best 98 = .ok (.goto 4, 3) := dk_167 0 4 (dk_at dksX0_best_4 18 rfl rfl)
theorem dX0_best_101 : decode cX0_best 101 = .ok (.iconst (-1), 1) := dk_2 (dk_at dksX0_best_4 21 rfl rfl)
theorem dX0_best_102 : decode cX0_best 102 = .ok (.ireturn, 1) := dk_172 (dk_at dksX0_best_4 22 rfl rfl)
abbrev cX0_isBest : ByteArray := prog_1_method_40_code
def yX0_isBest : MethodName := ⟨RX0, "isBest", "(II)Z"⟩
def dkwX0_isBest_1 : List UInt8 := [167, 0, 4, 3, 172]
abbrev dktX0_isBest_1 : List UInt8 := dkwX0_isBest_1 ++ []
def dkwX0_isBest_0 : List UInt8 := [27, 4, 8, 184, 0, 112, 153, 0, 19, 28, 3, 42, 182, 1, 1, 184, 0, 112, 153, 0, 7, 4]
abbrev dktX0_isBest_0 : List UInt8 := dkwX0_isBest_0 ++ dktX0_isBest_1
theorem dksX0_isBest_0 : cX0_isBest.data.toList.drop 0 = dktX0_isBest_0 := by decide +kernel
theorem dksX0_isBest_1 : cX0_isBest.data.toList.drop 22 = dktX0_isBest_1 := dk_seg dksX0_isBest_0 22 rfl rfl
theorem dX0_isBest_0 : decode cX0_isBest 0 = .ok (.iload_n 1, 1) := dk_27 (dk_at dksX0_isBest_0 0 rfl rfl)
theorem dX0_isBest_1 : decode cX0_isBest 1 = .ok (.iconst 1, 1) := dk_4 (dk_at dksX0_isBest_0 1 rfl rfl)
theorem dX0_isBest_2 : decode cX0_isBest 2 = .ok (.iconst 5, 1) := dk_8 (dk_at dksX0_isBest_0 2 rfl rfl)
theorem dX0_isBest_3 : decode cX0_isBest 3 = .ok (.invokestatic 112, 3) := dk_184 0 112 (dk_at dksX0_isBest_0 3 rfl rfl)
theorem dX0_isBest_6 : decode cX0_isBest 6 = .ok (.ifCond .eq 19, 3) := dk_153 0 19 (dk_at dksX0_isBest_0 6 rfl rfl)
theorem dX0_isBest_9 : decode cX0_isBest 9 = .ok (.iload_n 2, 1) := dk_28 (dk_at dksX0_isBest_0 9 rfl rfl)
theorem dX0_isBest_10 : decode cX0_isBest 10 = .ok (.iconst 0, 1) := dk_3 (dk_at dksX0_isBest_0 10 rfl rfl)
theorem dX0_isBest_11 : decode cX0_isBest 11 = .ok (.aload_n 0, 1) := dk_42 (dk_at dksX0_isBest_0 11 rfl rfl)
theorem dX0_isBest_12 : decode cX0_isBest 12 = .ok (.invokevirtual 257, 3) := dk_182 1 1 (dk_at dksX0_isBest_0 12 rfl rfl)
theorem dX0_isBest_15 : decode cX0_isBest 15 = .ok (.invokestatic 112, 3) := dk_184 0 112 (dk_at dksX0_isBest_0 15 rfl rfl)
theorem dX0_isBest_18 : decode cX0_isBest 18 = .ok (.ifCond .eq 7, 3) := dk_153 0 7 (dk_at dksX0_isBest_0 18 rfl rfl)
theorem dX0_isBest_21 : decode cX0_isBest 21 = .ok (.iconst 1, 1) := dk_4 (dk_at dksX0_isBest_0 21 rfl rfl)
theorem dX0_isBest_22 : decode cX0_isBest 22 = .ok (.goto 4, 3) := dk_167 0 4 (dk_at dksX0_isBest_1 0 rfl rfl)
theorem dX0_isBest_25 : decode cX0_isBest 25 = .ok (.iconst 0, 1) := dk_3 (dk_at dksX0_isBest_1 3 rfl rfl)
theorem dX0_isBest_26 : decode cX0_isBest 26 = .ok (.ireturn, 1) := dk_172 (dk_at dksX0_isBest_1 4 rfl rfl)
abbrev cX0_everyone : ByteArray := prog_1_method_12_code
def yX0_everyone : MethodName := ⟨RX0, "everyone", "()I"⟩
def dkwX0_everyone_0 : List UInt8 := [4, 42, 180, 0, 16, 180, 0, 116, 120, 4, 100, 172]
abbrev dktX0_everyone_0 : List UInt8 := dkwX0_everyone_0 ++ []
theorem dksX0_everyone_0 : cX0_everyone.data.toList.drop 0 = dktX0_everyone_0 := by decide +kernel
theorem dX0_everyone_0 : decode cX0_everyone 0 = .ok (.iconst 1, 1) := dk_4 (dk_at dksX0_everyone_0 0 rfl rfl)
theorem dX0_everyone_1 : decode cX0_everyone 1 = .ok (.aload_n 0, 1) := dk_42 (dk_at dksX0_everyone_0 1 rfl rfl)
theorem dX0_everyone_2 : decode cX0_everyone 2 = .ok (.getfield 16, 3) := dk_180 0 16 (dk_at dksX0_everyone_0 2 rfl rfl)
theorem dX0_everyone_5 : decode cX0_everyone 5 = .ok (.getfield 116, 3) := dk_180 0 116 (dk_at dksX0_everyone_0 5 rfl rfl)
theorem dX0_everyone_8 : decode cX0_everyone 8 = .ok (.ishl, 1) := dk_120 (dk_at dksX0_everyone_0 8 rfl rfl)
theorem dX0_everyone_9 : decode cX0_everyone 9 = .ok (.iconst 1, 1) := dk_4 (dk_at dksX0_everyone_0 9 rfl rfl)
theorem dX0_everyone_10 : decode cX0_everyone 10 = .ok (.isub, 1) := dk_100 (dk_at dksX0_everyone_0 10 rfl rfl)
theorem dX0_everyone_11 : decode cX0_everyone 11 = .ok (.ireturn, 1) := dk_172 (dk_at dksX0_everyone_0 11 rfl rfl)
abbrev cX0_light : ByteArray := prog_1_method_42_code
def yX0_light : MethodName := ⟨RX0, "light", "(II)I"⟩
def dkwX0_light_3 : List UInt8 := [182, 0, 129, 172]
abbrev dktX0_light_3 : List UInt8 := dkwX0_light_3 ++ []
def dkwX0_light_2 : List UInt8 := [180, 1, 16, 29, 46, 167, 0, 4, 2, 79, 132, 3, 1, 167, 255, 221, 42, 42, 180, 0, 60, 180, 1, 9]
abbrev dktX0_light_2 : List UInt8 := dkwX0_light_2 ++ dktX0_light_3
def dkwX0_light_1 : List UInt8 := [3, 62, 29, 8, 162, 0, 36, 42, 180, 0, 16, 180, 0, 170, 29, 29, 27, 162, 0, 15, 42, 180, 0, 60]
abbrev dktX0_light_1 : List UInt8 := dkwX0_light_1 ++ dktX0_light_2
def dkwX0_light_0 : List UInt8 := [42, 27, 28, 182, 1, 4, 154, 0, 9, 42, 2, 182, 0, 122, 172, 42, 180, 0, 60, 27, 28, 182, 1, 7]
abbrev dktX0_light_0 : List UInt8 := dkwX0_light_0 ++ dktX0_light_1
theorem dksX0_light_0 : cX0_light.data.toList.drop 0 = dktX0_light_0 := by decide +kernel
theorem dksX0_light_1 : cX0_light.data.toList.drop 24 = dktX0_light_1 := dk_seg dksX0_light_0 24 rfl rfl
theorem dksX0_light_2 : cX0_light.data.toList.drop 48 = dktX0_light_2 := dk_seg dksX0_light_1 24 rfl rfl
theorem dksX0_light_3 : cX0_light.data.toList.drop 72 = dktX0_light_3 := dk_seg dksX0_light_2 24 rfl rfl
theorem dX0_light_0 : decode cX0_light 0 = .ok (.aload_n 0, 1) := dk_42 (dk_at dksX0_light_0 0 rfl rfl)
theorem dX0_light_1 : decode cX0_light 1 = .ok (.iload_n 1, 1) := dk_27 (dk_at dksX0_light_0 1 rfl rfl)
theorem dX0_light_2 : decode cX0_light 2 = .ok (.iload_n 2, 1) := dk_28 (dk_at dksX0_light_0 2 rfl rfl)
theorem dX0_light_3 : decode cX0_light 3 = .ok (.invokevirtual 260, 3) := dk_182 1 4 (dk_at dksX0_light_0 3 rfl rfl)
theorem dX0_light_6 : decode cX0_light 6 = .ok (.ifCond .ne 9, 3) := dk_154 0 9 (dk_at dksX0_light_0 6 rfl rfl)
theorem dX0_light_9 : decode cX0_light 9 = .ok (.aload_n 0, 1) := dk_42 (dk_at dksX0_light_0 9 rfl rfl)
theorem dX0_light_10 : decode cX0_light 10 = .ok (.iconst (-1), 1) := dk_2 (dk_at dksX0_light_0 10 rfl rfl)
theorem dX0_light_11 : decode cX0_light 11 = .ok (.invokevirtual 122, 3) := dk_182 0 122 (dk_at dksX0_light_0 11 rfl rfl)
theorem dX0_light_14 : decode cX0_light 14 = .ok (.ireturn, 1) := dk_172 (dk_at dksX0_light_0 14 rfl rfl)
theorem dX0_light_15 : decode cX0_light 15 = .ok (.aload_n 0, 1) := dk_42 (dk_at dksX0_light_0 15 rfl rfl)
theorem dX0_light_16 : decode cX0_light 16 = .ok (.getfield 60, 3) := dk_180 0 60 (dk_at dksX0_light_0 16 rfl rfl)
theorem dX0_light_19 : decode cX0_light 19 = .ok (.iload_n 1, 1) := dk_27 (dk_at dksX0_light_0 19 rfl rfl)
theorem dX0_light_20 : decode cX0_light 20 = .ok (.iload_n 2, 1) := dk_28 (dk_at dksX0_light_0 20 rfl rfl)
theorem dX0_light_21 : decode cX0_light 21 = .ok (.invokevirtual 263, 3) := dk_182 1 7 (dk_at dksX0_light_0 21 rfl rfl)
theorem dX0_light_24 : decode cX0_light 24 = .ok (.iconst 0, 1) := dk_3 (dk_at dksX0_light_1 0 rfl rfl)
theorem dX0_light_25 : decode cX0_light 25 = .ok (.istore_n 3, 1) := dk_62 (dk_at dksX0_light_1 1 rfl rfl)
theorem dX0_light_26 : decode cX0_light 26 = .ok (.iload_n 3, 1) := dk_29 (dk_at dksX0_light_1 2 rfl rfl)
theorem dX0_light_27 : decode cX0_light 27 = .ok (.iconst 5, 1) := dk_8 (dk_at dksX0_light_1 3 rfl rfl)
theorem dX0_light_28 : decode cX0_light 28 = .ok (.if_icmp .ge 36, 3) := dk_162 0 36 (dk_at dksX0_light_1 4 rfl rfl)
theorem dX0_light_31 : decode cX0_light 31 = .ok (.aload_n 0, 1) := dk_42 (dk_at dksX0_light_1 7 rfl rfl)
theorem dX0_light_32 : decode cX0_light 32 = .ok (.getfield 16, 3) := dk_180 0 16 (dk_at dksX0_light_1 8 rfl rfl)
theorem dX0_light_35 : decode cX0_light 35 = .ok (.getfield 170, 3) := dk_180 0 170 (dk_at dksX0_light_1 11 rfl rfl)
theorem dX0_light_38 : decode cX0_light 38 = .ok (.iload_n 3, 1) := dk_29 (dk_at dksX0_light_1 14 rfl rfl)
theorem dX0_light_39 : decode cX0_light 39 = .ok (.iload_n 3, 1) := dk_29 (dk_at dksX0_light_1 15 rfl rfl)
theorem dX0_light_40 : decode cX0_light 40 = .ok (.iload_n 1, 1) := dk_27 (dk_at dksX0_light_1 16 rfl rfl)
theorem dX0_light_41 : decode cX0_light 41 = .ok (.if_icmp .ge 15, 3) := dk_162 0 15 (dk_at dksX0_light_1 17 rfl rfl)
theorem dX0_light_44 : decode cX0_light 44 = .ok (.aload_n 0, 1) := dk_42 (dk_at dksX0_light_1 20 rfl rfl)
theorem dX0_light_45 : decode cX0_light 45 = .ok (.getfield 60, 3) := dk_180 0 60 (dk_at dksX0_light_1 21 rfl rfl)
theorem dX0_light_48 : decode cX0_light 48 = .ok (.getfield 272, 3) := dk_180 1 16 (dk_at dksX0_light_2 0 rfl rfl)
theorem dX0_light_51 : decode cX0_light 51 = .ok (.iload_n 3, 1) := dk_29 (dk_at dksX0_light_2 3 rfl rfl)
theorem dX0_light_52 : decode cX0_light 52 = .ok (.iaload, 1) := dk_46 (dk_at dksX0_light_2 4 rfl rfl)
theorem dX0_light_53 : decode cX0_light 53 = .ok (.goto 4, 3) := dk_167 0 4 (dk_at dksX0_light_2 5 rfl rfl)
theorem dX0_light_56 : decode cX0_light 56 = .ok (.iconst (-1), 1) := dk_2 (dk_at dksX0_light_2 8 rfl rfl)
theorem dX0_light_57 : decode cX0_light 57 = .ok (.iastore, 1) := dk_79 (dk_at dksX0_light_2 9 rfl rfl)
theorem dX0_light_58 : decode cX0_light 58 = .ok (.iinc 3 1, 3) := dk_132 3 1 (dk_at dksX0_light_2 10 rfl rfl)
theorem dX0_light_61 : decode cX0_light 61 = .ok (.goto (-35), 3) := dk_167 255 221 (dk_at dksX0_light_2 13 rfl rfl)
theorem dX0_light_64 : decode cX0_light 64 = .ok (.aload_n 0, 1) := dk_42 (dk_at dksX0_light_2 16 rfl rfl)
theorem dX0_light_65 : decode cX0_light 65 = .ok (.aload_n 0, 1) := dk_42 (dk_at dksX0_light_2 17 rfl rfl)
theorem dX0_light_66 : decode cX0_light 66 = .ok (.getfield 60, 3) := dk_180 0 60 (dk_at dksX0_light_2 18 rfl rfl)
theorem dX0_light_69 : decode cX0_light 69 = .ok (.getfield 265, 3) := dk_180 1 9 (dk_at dksX0_light_2 21 rfl rfl)
theorem dX0_light_72 : decode cX0_light 72 = .ok (.invokevirtual 129, 3) := dk_182 0 129 (dk_at dksX0_light_3 0 rfl rfl)
theorem dX0_light_75 : decode cX0_light 75 = .ok (.ireturn, 1) := dk_172 (dk_at dksX0_light_3 3 rfl rfl)
abbrev cX0_duel : ByteArray := prog_1_method_43_code
def yX0_duel : MethodName := ⟨RX0, "duel", "(III)I"⟩
def dkwX0_duel_5 : List UInt8 := [180, 1, 33, 167, 0, 7, 42, 180, 1, 39, 172]
abbrev dktX0_duel_5 : List UInt8 := dkwX0_duel_5 ++ []
def dkwX0_duel_4 : List UInt8 := [182, 1, 29, 181, 1, 33, 42, 42, 180, 0, 64, 180, 1, 36, 3, 46, 181, 1, 39, 29, 154, 0, 10, 42]
abbrev dktX0_duel_4 : List UInt8 := dkwX0_duel_4 ++ dktX0_duel_5
def dkwX0_duel_3 : List UInt8 := [181, 1, 22, 42, 180, 0, 64, 180, 1, 25, 3, 50, 182, 0, 229, 42, 42, 180, 0, 64, 3, 27, 28]
abbrev dktX0_duel_3 : List UInt8 := dkwX0_duel_3 ++ dktX0_duel_4
def dkwX0_duel_2 : List UInt8 := [42, 180, 1, 22, 28, 159, 0, 60, 42, 42, 180, 0, 106, 181, 0, 67, 42, 27, 181, 1, 19, 42, 28]
abbrev dktX0_duel_2 : List UInt8 := dkwX0_duel_2 ++ dktX0_duel_3
def dkwX0_duel_1 : List UInt8 := [154, 0, 5, 2, 172, 42, 180, 0, 67, 42, 180, 0, 106, 160, 0, 19, 42, 180, 1, 19, 27, 160, 0, 11]
abbrev dktX0_duel_1 : List UInt8 := dkwX0_duel_1 ++ dktX0_duel_2
def dkwX0_duel_0 : List UInt8 := [27, 4, 8, 184, 0, 112, 153, 0, 20, 42, 28, 182, 0, 158, 153, 0, 12, 29, 3, 4, 184, 0, 112]
abbrev dktX0_duel_0 : List UInt8 := dkwX0_duel_0 ++ dktX0_duel_1
theorem dksX0_duel_0 : cX0_duel.data.toList.drop 0 = dktX0_duel_0 := by decide +kernel
theorem dksX0_duel_1 : cX0_duel.data.toList.drop 23 = dktX0_duel_1 := dk_seg dksX0_duel_0 23 rfl rfl
theorem dksX0_duel_2 : cX0_duel.data.toList.drop 47 = dktX0_duel_2 := dk_seg dksX0_duel_1 24 rfl rfl
theorem dksX0_duel_3 : cX0_duel.data.toList.drop 70 = dktX0_duel_3 := dk_seg dksX0_duel_2 23 rfl rfl
theorem dksX0_duel_4 : cX0_duel.data.toList.drop 93 = dktX0_duel_4 := dk_seg dksX0_duel_3 23 rfl rfl
theorem dksX0_duel_5 : cX0_duel.data.toList.drop 117 = dktX0_duel_5 := dk_seg dksX0_duel_4 24 rfl rfl
theorem dX0_duel_0 : decode cX0_duel 0 = .ok (.iload_n 1, 1) := dk_27 (dk_at dksX0_duel_0 0 rfl rfl)
theorem dX0_duel_1 : decode cX0_duel 1 = .ok (.iconst 1, 1) := dk_4 (dk_at dksX0_duel_0 1 rfl rfl)
theorem dX0_duel_2 : decode cX0_duel 2 = .ok (.iconst 5, 1) := dk_8 (dk_at dksX0_duel_0 2 rfl rfl)
theorem dX0_duel_3 : decode cX0_duel 3 = .ok (.invokestatic 112, 3) := dk_184 0 112 (dk_at dksX0_duel_0 3 rfl rfl)
theorem dX0_duel_6 : decode cX0_duel 6 = .ok (.ifCond .eq 20, 3) := dk_153 0 20 (dk_at dksX0_duel_0 6 rfl rfl)
theorem dX0_duel_9 : decode cX0_duel 9 = .ok (.aload_n 0, 1) := dk_42 (dk_at dksX0_duel_0 9 rfl rfl)
theorem dX0_duel_10 : decode cX0_duel 10 = .ok (.iload_n 2, 1) := dk_28 (dk_at dksX0_duel_0 10 rfl rfl)
theorem dX0_duel_11 : decode cX0_duel 11 = .ok (.invokevirtual 158, 3) := dk_182 0 158 (dk_at dksX0_duel_0 11 rfl rfl)
theorem dX0_duel_14 : decode cX0_duel 14 = .ok (.ifCond .eq 12, 3) := dk_153 0 12 (dk_at dksX0_duel_0 14 rfl rfl)
theorem dX0_duel_17 : decode cX0_duel 17 = .ok (.iload_n 3, 1) := dk_29 (dk_at dksX0_duel_0 17 rfl rfl)
theorem dX0_duel_18 : decode cX0_duel 18 = .ok (.iconst 0, 1) := dk_3 (dk_at dksX0_duel_0 18 rfl rfl)
theorem dX0_duel_19 : decode cX0_duel 19 = .ok (.iconst 1, 1) := dk_4 (dk_at dksX0_duel_0 19 rfl rfl)
theorem dX0_duel_20 : decode cX0_duel 20 = .ok (.invokestatic 112, 3) := dk_184 0 112 (dk_at dksX0_duel_0 20 rfl rfl)
theorem dX0_duel_23 : decode cX0_duel 23 = .ok (.ifCond .ne 5, 3) := dk_154 0 5 (dk_at dksX0_duel_1 0 rfl rfl)
theorem dX0_duel_26 : decode cX0_duel 26 = .ok (.iconst (-1), 1) := dk_2 (dk_at dksX0_duel_1 3 rfl rfl)
theorem dX0_duel_27 : decode cX0_duel 27 = .ok (.ireturn, 1) := dk_172 (dk_at dksX0_duel_1 4 rfl rfl)
theorem dX0_duel_28 : decode cX0_duel 28 = .ok (.aload_n 0, 1) := dk_42 (dk_at dksX0_duel_1 5 rfl rfl)
theorem dX0_duel_29 : decode cX0_duel 29 = .ok (.getfield 67, 3) := dk_180 0 67 (dk_at dksX0_duel_1 6 rfl rfl)
theorem dX0_duel_32 : decode cX0_duel 32 = .ok (.aload_n 0, 1) := dk_42 (dk_at dksX0_duel_1 9 rfl rfl)
theorem dX0_duel_33 : decode cX0_duel 33 = .ok (.getfield 106, 3) := dk_180 0 106 (dk_at dksX0_duel_1 10 rfl rfl)
theorem dX0_duel_36 : decode cX0_duel 36 = .ok (.if_icmp .ne 19, 3) := dk_160 0 19 (dk_at dksX0_duel_1 13 rfl rfl)
theorem dX0_duel_39 : decode cX0_duel 39 = .ok (.aload_n 0, 1) := dk_42 (dk_at dksX0_duel_1 16 rfl rfl)
theorem dX0_duel_40 : decode cX0_duel 40 = .ok (.getfield 275, 3) := dk_180 1 19 (dk_at dksX0_duel_1 17 rfl rfl)
theorem dX0_duel_43 : decode cX0_duel 43 = .ok (.iload_n 1, 1) := dk_27 (dk_at dksX0_duel_1 20 rfl rfl)
theorem dX0_duel_44 : decode cX0_duel 44 = .ok (.if_icmp .ne 11, 3) := dk_160 0 11 (dk_at dksX0_duel_1 21 rfl rfl)
theorem dX0_duel_47 : decode cX0_duel 47 = .ok (.aload_n 0, 1) := dk_42 (dk_at dksX0_duel_2 0 rfl rfl)
theorem dX0_duel_48 : decode cX0_duel 48 = .ok (.getfield 278, 3) := dk_180 1 22 (dk_at dksX0_duel_2 1 rfl rfl)
theorem dX0_duel_51 : decode cX0_duel 51 = .ok (.iload_n 2, 1) := dk_28 (dk_at dksX0_duel_2 4 rfl rfl)
theorem dX0_duel_52 : decode cX0_duel 52 = .ok (.if_icmp .eq 60, 3) := dk_159 0 60 (dk_at dksX0_duel_2 5 rfl rfl)
theorem dX0_duel_55 : decode cX0_duel 55 = .ok (.aload_n 0, 1) := dk_42 (dk_at dksX0_duel_2 8 rfl rfl)
theorem dX0_duel_56 : decode cX0_duel 56 = .ok (.aload_n 0, 1) := dk_42 (dk_at dksX0_duel_2 9 rfl rfl)
theorem dX0_duel_57 : decode cX0_duel 57 = .ok (.getfield 106, 3) := dk_180 0 106 (dk_at dksX0_duel_2 10 rfl rfl)
theorem dX0_duel_60 : decode cX0_duel 60 = .ok (.putfield 67, 3) := dk_181 0 67 (dk_at dksX0_duel_2 13 rfl rfl)
theorem dX0_duel_63 : decode cX0_duel 63 = .ok (.aload_n 0, 1) := dk_42 (dk_at dksX0_duel_2 16 rfl rfl)
theorem dX0_duel_64 : decode cX0_duel 64 = .ok (.iload_n 1, 1) := dk_27 (dk_at dksX0_duel_2 17 rfl rfl)
theorem dX0_duel_65 : decode cX0_duel 65 = .ok (.putfield 275, 3) := dk_181 1 19 (dk_at dksX0_duel_2 18 rfl rfl)
theorem dX0_duel_68 : decode cX0_duel 68 = .ok (.aload_n 0, 1) := dk_42 (dk_at dksX0_duel_2 21 rfl rfl)
theorem dX0_duel_69 : decode cX0_duel 69 = .ok (.iload_n 2, 1) := dk_28 (dk_at dksX0_duel_2 22 rfl rfl)
theorem dX0_duel_70 : decode cX0_duel 70 = .ok (.putfield 278, 3) := dk_181 1 22 (dk_at dksX0_duel_3 0 rfl rfl)
theorem dX0_duel_73 : decode cX0_duel 73 = .ok (.aload_n 0, 1) := dk_42 (dk_at dksX0_duel_3 3 rfl rfl)
theorem dX0_duel_74 : decode cX0_duel 74 = .ok (.getfield 64, 3) := dk_180 0 64 (dk_at dksX0_duel_3 4 rfl rfl)
theorem dX0_duel_77 : decode cX0_duel 77 = .ok (.getfield 281, 3) := dk_180 1 25 (dk_at dksX0_duel_3 7 rfl rfl)
theorem dX0_duel_80 : decode cX0_duel 80 = .ok (.iconst 0, 1) := dk_3 (dk_at dksX0_duel_3 10 rfl rfl)
theorem dX0_duel_81 : decode cX0_duel 81 = .ok (.aaload, 1) := dk_50 (dk_at dksX0_duel_3 11 rfl rfl)
theorem dX0_duel_82 : decode cX0_duel 82 = .ok (.invokevirtual 229, 3) := dk_182 0 229 (dk_at dksX0_duel_3 12 rfl rfl)
theorem dX0_duel_85 : decode cX0_duel 85 = .ok (.aload_n 0, 1) := dk_42 (dk_at dksX0_duel_3 15 rfl rfl)
theorem dX0_duel_86 : decode cX0_duel 86 = .ok (.aload_n 0, 1) := dk_42 (dk_at dksX0_duel_3 16 rfl rfl)
theorem dX0_duel_87 : decode cX0_duel 87 = .ok (.getfield 64, 3) := dk_180 0 64 (dk_at dksX0_duel_3 17 rfl rfl)
theorem dX0_duel_90 : decode cX0_duel 90 = .ok (.iconst 0, 1) := dk_3 (dk_at dksX0_duel_3 20 rfl rfl)
theorem dX0_duel_91 : decode cX0_duel 91 = .ok (.iload_n 1, 1) := dk_27 (dk_at dksX0_duel_3 21 rfl rfl)
theorem dX0_duel_92 : decode cX0_duel 92 = .ok (.iload_n 2, 1) := dk_28 (dk_at dksX0_duel_3 22 rfl rfl)
theorem dX0_duel_93 : decode cX0_duel 93 = .ok (.invokevirtual 285, 3) := dk_182 1 29 (dk_at dksX0_duel_4 0 rfl rfl)
theorem dX0_duel_96 : decode cX0_duel 96 = .ok (.putfield 289, 3) := dk_181 1 33 (dk_at dksX0_duel_4 3 rfl rfl)
theorem dX0_duel_99 : decode cX0_duel 99 = .ok (.aload_n 0, 1) := dk_42 (dk_at dksX0_duel_4 6 rfl rfl)
theorem dX0_duel_100 : decode cX0_duel 100 = .ok (.aload_n 0, 1) := dk_42 (dk_at dksX0_duel_4 7 rfl rfl)
theorem dX0_duel_101 : decode cX0_duel 101 = .ok (.getfield 64, 3) := dk_180 0 64 (dk_at dksX0_duel_4 8 rfl rfl)
theorem dX0_duel_104 : decode cX0_duel 104 = .ok (.getfield 292, 3) := dk_180 1 36 (dk_at dksX0_duel_4 11 rfl rfl)
theorem dX0_duel_107 : decode cX0_duel 107 = .ok (.iconst 0, 1) := dk_3 (dk_at dksX0_duel_4 14 rfl rfl)
theorem dX0_duel_108 : decode cX0_duel 108 = .ok (.iaload, 1) := dk_46 (dk_at dksX0_duel_4 15 rfl rfl)
theorem dX0_duel_109 : decode cX0_duel 109 = .ok (.putfield 295, 3) := dk_181 1 39 (dk_at dksX0_duel_4 16 rfl rfl)
theorem dX0_duel_112 : decode cX0_duel 112 = .ok (.iload_n 3, 1) := dk_29 (dk_at dksX0_duel_4 19 rfl rfl)
theorem dX0_duel_113 : decode cX0_duel 113 = .ok (.ifCond .ne 10, 3) := dk_154 0 10 (dk_at dksX0_duel_4 20 rfl rfl)
theorem dX0_duel_116 : decode cX0_duel 116 = .ok (.aload_n 0, 1) := dk_42 (dk_at dksX0_duel_4 23 rfl rfl)
theorem dX0_duel_117 : decode cX0_duel 117 = .ok (.getfield 289, 3) := dk_180 1 33 (dk_at dksX0_duel_5 0 rfl rfl)
theorem dX0_duel_120 : decode cX0_duel 120 = .ok (.goto 7, 3) := dk_167 0 7 (dk_at dksX0_duel_5 3 rfl rfl)
theorem dX0_duel_123 : decode cX0_duel 123 = .ok (.aload_n 0, 1) := dk_42 (dk_at dksX0_duel_5 6 rfl rfl)
theorem dX0_duel_124 : decode cX0_duel 124 = .ok (.getfield 295, 3) := dk_180 1 39 (dk_at dksX0_duel_5 7 rfl rfl)
theorem dX0_duel_127 : decode cX0_duel 127 = .ok (.ireturn, 1) := dk_172 (dk_at dksX0_duel_5 10 rfl rfl)
abbrev cX0_read : ByteArray := prog_1_method_45_code
def yX0_read : MethodName := ⟨RX0, "read", "(I)I"⟩
def dkwX0_read_1 : List UInt8 := [3, 167, 0, 4, 2, 172]
abbrev dktX0_read_1 : List UInt8 := dkwX0_read_1 ++ []
def dkwX0_read_0 : List UInt8 := [27, 3, 42, 182, 1, 1, 184, 0, 112, 153, 0, 19, 42, 27, 182, 1, 54, 153, 0, 7, 4, 167, 0, 8]
abbrev dktX0_read_0 : List UInt8 := dkwX0_read_0 ++ dktX0_read_1
theorem dksX0_read_0 : cX0_read.data.toList.drop 0 = dktX0_read_0 := by decide +kernel
theorem dksX0_read_1 : cX0_read.data.toList.drop 24 = dktX0_read_1 := dk_seg dksX0_read_0 24 rfl rfl
theorem dX0_read_0 : decode cX0_read 0 = .ok (.iload_n 1, 1) := dk_27 (dk_at dksX0_read_0 0 rfl rfl)
theorem dX0_read_1 : decode cX0_read 1 = .ok (.iconst 0, 1) := dk_3 (dk_at dksX0_read_0 1 rfl rfl)
theorem dX0_read_2 : decode cX0_read 2 = .ok (.aload_n 0, 1) := dk_42 (dk_at dksX0_read_0 2 rfl rfl)
theorem dX0_read_3 : decode cX0_read 3 = .ok (.invokevirtual 257, 3) := dk_182 1 1 (dk_at dksX0_read_0 3 rfl rfl)
theorem dX0_read_6 : decode cX0_read 6 = .ok (.invokestatic 112, 3) := dk_184 0 112 (dk_at dksX0_read_0 6 rfl rfl)
theorem dX0_read_9 : decode cX0_read 9 = .ok (.ifCond .eq 19, 3) := dk_153 0 19 (dk_at dksX0_read_0 9 rfl rfl)
theorem dX0_read_12 : decode cX0_read 12 = .ok (.aload_n 0, 1) := dk_42 (dk_at dksX0_read_0 12 rfl rfl)
theorem dX0_read_13 : decode cX0_read 13 = .ok (.iload_n 1, 1) := dk_27 (dk_at dksX0_read_0 13 rfl rfl)
theorem dX0_read_14 : decode cX0_read 14 = .ok (.invokevirtual 310, 3) := dk_182 1 54 (dk_at dksX0_read_0 14 rfl rfl)
theorem dX0_read_17 : decode cX0_read 17 = .ok (.ifCond .eq 7, 3) := dk_153 0 7 (dk_at dksX0_read_0 17 rfl rfl)
theorem dX0_read_20 : decode cX0_read 20 = .ok (.iconst 1, 1) := dk_4 (dk_at dksX0_read_0 20 rfl rfl)
theorem dX0_read_21 : decode cX0_read 21 = .ok (.goto 8, 3) := dk_167 0 8 (dk_at dksX0_read_0 21 rfl rfl)
theorem dX0_read_24 : decode cX0_read 24 = .ok (.iconst 0, 1) := dk_3 (dk_at dksX0_read_1 0 rfl rfl)
theorem dX0_read_25 : decode cX0_read 25 = .ok (.goto 4, 3) := dk_167 0 4 (dk_at dksX0_read_1 1 rfl rfl)
theorem dX0_read_28 : decode cX0_read 28 = .ok (.iconst (-1), 1) := dk_2 (dk_at dksX0_read_1 4 rfl rfl)
theorem dX0_read_29 : decode cX0_read 29 = .ok (.ireturn, 1) := dk_172 (dk_at dksX0_read_1 5 rfl rfl)
abbrev cX0_isRead : ByteArray := prog_1_method_44_code
def yX0_isRead : MethodName := ⟨RX0, "isRead", "(I)Z"⟩
def dkwX0_isRead_2 : List UInt8 := [167, 255, 221, 42, 180, 0, 73, 42, 180, 0, 16, 180, 0, 173, 3, 46, 182, 1, 51, 172]
abbrev dktX0_isRead_2 : List UInt8 := dkwX0_isRead_2 ++ []
def dkwX0_isRead_1 : List UInt8 := [184, 1, 45, 153, 0, 16, 42, 180, 0, 73, 42, 28, 8, 182, 0, 143, 182, 1, 48, 132, 2, 1]
abbrev dktX0_isRead_1 : List UInt8 := dkwX0_isRead_1 ++ dktX0_isRead_2
def dkwX0_isRead_0 : List UInt8 := [42, 180, 0, 73, 182, 1, 42, 3, 61, 28, 42, 180, 0, 16, 180, 0, 116, 162, 0, 30, 27, 28]
abbrev dktX0_isRead_0 : List UInt8 := dkwX0_isRead_0 ++ dktX0_isRead_1
theorem dksX0_isRead_0 : cX0_isRead.data.toList.drop 0 = dktX0_isRead_0 := by decide +kernel
theorem dksX0_isRead_1 : cX0_isRead.data.toList.drop 22 = dktX0_isRead_1 := dk_seg dksX0_isRead_0 22 rfl rfl
theorem dksX0_isRead_2 : cX0_isRead.data.toList.drop 44 = dktX0_isRead_2 := dk_seg dksX0_isRead_1 22 rfl rfl
theorem dX0_isRead_0 : decode cX0_isRead 0 = .ok (.aload_n 0, 1) := dk_42 (dk_at dksX0_isRead_0 0 rfl rfl)
theorem dX0_isRead_1 : decode cX0_isRead 1 = .ok (.getfield 73, 3) := dk_180 0 73 (dk_at dksX0_isRead_0 1 rfl rfl)
theorem dX0_isRead_4 : decode cX0_isRead 4 = .ok (.invokevirtual 298, 3) := dk_182 1 42 (dk_at dksX0_isRead_0 4 rfl rfl)
theorem dX0_isRead_7 : decode cX0_isRead 7 = .ok (.iconst 0, 1) := dk_3 (dk_at dksX0_isRead_0 7 rfl rfl)
theorem dX0_isRead_8 : decode cX0_isRead 8 = .ok (.istore_n 2, 1) := dk_61 (dk_at dksX0_isRead_0 8 rfl rfl)
theorem dX0_isRead_9 : decode cX0_isRead 9 = .ok (.iload_n 2, 1) := dk_28 (dk_at dksX0_isRead_0 9 rfl rfl)
theorem dX0_isRead_10 : decode cX0_isRead 10 = .ok (.aload_n 0, 1) := dk_42 (dk_at dksX0_isRead_0 10 rfl rfl)
theorem dX0_isRead_11 : decode cX0_isRead 11 = .ok (.getfield 16, 3) := dk_180 0 16 (dk_at dksX0_isRead_0 11 rfl rfl)
theorem dX0_isRead_14 : decode cX0_isRead 14 = .ok (.getfield 116, 3) := dk_180 0 116 (dk_at dksX0_isRead_0 14 rfl rfl)
theorem dX0_isRead_17 : decode cX0_isRead 17 = .ok (.if_icmp .ge 30, 3) := dk_162 0 30 (dk_at dksX0_isRead_0 17 rfl rfl)
theorem dX0_isRead_20 : decode cX0_isRead 20 = .ok (.iload_n 1, 1) := dk_27 (dk_at dksX0_isRead_0 20 rfl rfl)
theorem dX0_isRead_21 : decode cX0_isRead 21 = .ok (.iload_n 2, 1) := dk_28 (dk_at dksX0_isRead_0 21 rfl rfl)
theorem dX0_isRead_22 : decode cX0_isRead 22 = .ok (.invokestatic 301, 3) := dk_184 1 45 (dk_at dksX0_isRead_1 0 rfl rfl)
theorem dX0_isRead_25 : decode cX0_isRead 25 = .ok (.ifCond .eq 16, 3) := dk_153 0 16 (dk_at dksX0_isRead_1 3 rfl rfl)
theorem dX0_isRead_28 : decode cX0_isRead 28 = .ok (.aload_n 0, 1) := dk_42 (dk_at dksX0_isRead_1 6 rfl rfl)
theorem dX0_isRead_29 : decode cX0_isRead 29 = .ok (.getfield 73, 3) := dk_180 0 73 (dk_at dksX0_isRead_1 7 rfl rfl)
theorem dX0_isRead_32 : decode cX0_isRead 32 = .ok (.aload_n 0, 1) := dk_42 (dk_at dksX0_isRead_1 10 rfl rfl)
theorem dX0_isRead_33 : decode cX0_isRead 33 = .ok (.iload_n 2, 1) := dk_28 (dk_at dksX0_isRead_1 11 rfl rfl)
theorem dX0_isRead_34 : decode cX0_isRead 34 = .ok (.iconst 5, 1) := dk_8 (dk_at dksX0_isRead_1 12 rfl rfl)
theorem dX0_isRead_35 : decode cX0_isRead 35 = .ok (.invokevirtual 143, 3) := dk_182 0 143 (dk_at dksX0_isRead_1 13 rfl rfl)
theorem dX0_isRead_38 : decode cX0_isRead 38 = .ok (.invokevirtual 304, 3) := dk_182 1 48 (dk_at dksX0_isRead_1 16 rfl rfl)
theorem dX0_isRead_41 : decode cX0_isRead 41 = .ok (.iinc 2 1, 3) := dk_132 2 1 (dk_at dksX0_isRead_1 19 rfl rfl)
theorem dX0_isRead_44 : decode cX0_isRead 44 = .ok (.goto (-35), 3) := dk_167 255 221 (dk_at dksX0_isRead_2 0 rfl rfl)
theorem dX0_isRead_47 : decode cX0_isRead 47 = .ok (.aload_n 0, 1) := dk_42 (dk_at dksX0_isRead_2 3 rfl rfl)
theorem dX0_isRead_48 : decode cX0_isRead 48 = .ok (.getfield 73, 3) := dk_180 0 73 (dk_at dksX0_isRead_2 4 rfl rfl)
theorem dX0_isRead_51 : decode cX0_isRead 51 = .ok (.aload_n 0, 1) := dk_42 (dk_at dksX0_isRead_2 7 rfl rfl)
theorem dX0_isRead_52 : decode cX0_isRead 52 = .ok (.getfield 16, 3) := dk_180 0 16 (dk_at dksX0_isRead_2 8 rfl rfl)
theorem dX0_isRead_55 : decode cX0_isRead 55 = .ok (.getfield 173, 3) := dk_180 0 173 (dk_at dksX0_isRead_2 11 rfl rfl)
theorem dX0_isRead_58 : decode cX0_isRead 58 = .ok (.iconst 0, 1) := dk_3 (dk_at dksX0_isRead_2 14 rfl rfl)
theorem dX0_isRead_59 : decode cX0_isRead 59 = .ok (.iaload, 1) := dk_46 (dk_at dksX0_isRead_2 15 rfl rfl)
theorem dX0_isRead_60 : decode cX0_isRead 60 = .ok (.invokevirtual 307, 3) := dk_182 1 51 (dk_at dksX0_isRead_2 16 rfl rfl)
theorem dX0_isRead_63 : decode cX0_isRead 63 = .ok (.ireturn, 1) := dk_172 (dk_at dksX0_isRead_2 19 rfl rfl)
abbrev cX0_safe : ByteArray := prog_1_method_46_code
def yX0_safe : MethodName := ⟨RX0, "safe", "()I"⟩
def dkwX0_safe_2 : List UInt8 := [132, 2, 1, 167, 255, 218, 27, 172]
abbrev dktX0_safe_2 : List UInt8 := dkwX0_safe_2 ++ []
def dkwX0_safe_1 : List UInt8 := [154, 0, 22, 27, 42, 180, 0, 16, 180, 0, 116, 28, 184, 1, 57, 100, 4, 100, 184, 1, 60, 60]
abbrev dktX0_safe_1 : List UInt8 := dkwX0_safe_1 ++ dktX0_safe_2
def dkwX0_safe_0 : List UInt8 := [42, 180, 0, 16, 180, 0, 116, 60, 3, 61, 28, 42, 182, 1, 1, 163, 0, 36, 42, 28, 182, 1, 54]
abbrev dktX0_safe_0 : List UInt8 := dkwX0_safe_0 ++ dktX0_safe_1
theorem dksX0_safe_0 : cX0_safe.data.toList.drop 0 = dktX0_safe_0 := by decide +kernel
theorem dksX0_safe_1 : cX0_safe.data.toList.drop 23 = dktX0_safe_1 := dk_seg dksX0_safe_0 23 rfl rfl
theorem dksX0_safe_2 : cX0_safe.data.toList.drop 45 = dktX0_safe_2 := dk_seg dksX0_safe_1 22 rfl rfl
theorem dX0_safe_0 : decode cX0_safe 0 = .ok (.aload_n 0, 1) := dk_42 (dk_at dksX0_safe_0 0 rfl rfl)
theorem dX0_safe_1 : decode cX0_safe 1 = .ok (.getfield 16, 3) := dk_180 0 16 (dk_at dksX0_safe_0 1 rfl rfl)
theorem dX0_safe_4 : decode cX0_safe 4 = .ok (.getfield 116, 3) := dk_180 0 116 (dk_at dksX0_safe_0 4 rfl rfl)
theorem dX0_safe_7 : decode cX0_safe 7 = .ok (.istore_n 1, 1) := dk_60 (dk_at dksX0_safe_0 7 rfl rfl)
theorem dX0_safe_8 : decode cX0_safe 8 = .ok (.iconst 0, 1) := dk_3 (dk_at dksX0_safe_0 8 rfl rfl)
theorem dX0_safe_9 : decode cX0_safe 9 = .ok (.istore_n 2, 1) := dk_61 (dk_at dksX0_safe_0 9 rfl rfl)
theorem dX0_safe_10 : decode cX0_safe 10 = .ok (.iload_n 2, 1) := dk_28 (dk_at dksX0_safe_0 10 rfl rfl)
theorem dX0_safe_11 : decode cX0_safe 11 = .ok (.aload_n 0, 1) := dk_42 (dk_at dksX0_safe_0 11 rfl rfl)
theorem dX0_safe_12 : decode cX0_safe 12 = .ok (.invokevirtual 257, 3) := dk_182 1 1 (dk_at dksX0_safe_0 12 rfl rfl)
theorem dX0_safe_15 : decode cX0_safe 15 = .ok (.if_icmp .gt 36, 3) := dk_163 0 36 (dk_at dksX0_safe_0 15 rfl rfl)
theorem dX0_safe_18 : decode cX0_safe 18 = .ok (.aload_n 0, 1) := dk_42 (dk_at dksX0_safe_0 18 rfl rfl)
theorem dX0_safe_19 : decode cX0_safe 19 = .ok (.iload_n 2, 1) := dk_28 (dk_at dksX0_safe_0 19 rfl rfl)
theorem dX0_safe_20 : decode cX0_safe 20 = .ok (.invokevirtual 310, 3) := dk_182 1 54 (dk_at dksX0_safe_0 20 rfl rfl)
theorem dX0_safe_23 : decode cX0_safe 23 = .ok (.ifCond .ne 22, 3) := dk_154 0 22 (dk_at dksX0_safe_1 0 rfl rfl)
theorem dX0_safe_26 : decode cX0_safe 26 = .ok (.iload_n 1, 1) := dk_27 (dk_at dksX0_safe_1 3 rfl rfl)
theorem dX0_safe_27 : decode cX0_safe 27 = .ok (.aload_n 0, 1) := dk_42 (dk_at dksX0_safe_1 4 rfl rfl)
theorem dX0_safe_28 : decode cX0_safe 28 = .ok (.getfield 16, 3) := dk_180 0 16 (dk_at dksX0_safe_1 5 rfl rfl)
theorem dX0_safe_31 : decode cX0_safe 31 = .ok (.getfield 116, 3) := dk_180 0 116 (dk_at dksX0_safe_1 8 rfl rfl)
theorem dX0_safe_34 : decode cX0_safe 34 = .ok (.iload_n 2, 1) := dk_28 (dk_at dksX0_safe_1 11 rfl rfl)
theorem dX0_safe_35 : decode cX0_safe 35 = .ok (.invokestatic 313, 3) := dk_184 1 57 (dk_at dksX0_safe_1 12 rfl rfl)
theorem dX0_safe_38 : decode cX0_safe 38 = .ok (.isub, 1) := dk_100 (dk_at dksX0_safe_1 15 rfl rfl)
theorem dX0_safe_39 : decode cX0_safe 39 = .ok (.iconst 1, 1) := dk_4 (dk_at dksX0_safe_1 16 rfl rfl)
theorem dX0_safe_40 : decode cX0_safe 40 = .ok (.isub, 1) := dk_100 (dk_at dksX0_safe_1 17 rfl rfl)
theorem dX0_safe_41 : decode cX0_safe 41 = .ok (.invokestatic 316, 3) := dk_184 1 60 (dk_at dksX0_safe_1 18 rfl rfl)
theorem dX0_safe_44 : decode cX0_safe 44 = .ok (.istore_n 1, 1) := dk_60 (dk_at dksX0_safe_1 21 rfl rfl)
theorem dX0_safe_45 : decode cX0_safe 45 = .ok (.iinc 2 1, 3) := dk_132 2 1 (dk_at dksX0_safe_2 0 rfl rfl)
theorem dX0_safe_48 : decode cX0_safe 48 = .ok (.goto (-38), 3) := dk_167 255 218 (dk_at dksX0_safe_2 3 rfl rfl)
theorem dX0_safe_51 : decode cX0_safe 51 = .ok (.iload_n 1, 1) := dk_27 (dk_at dksX0_safe_2 6 rfl rfl)
theorem dX0_safe_52 : decode cX0_safe 52 = .ok (.ireturn, 1) := dk_172 (dk_at dksX0_safe_2 7 rfl rfl)
abbrev cX0_odds : ByteArray := prog_1_method_48_code
def yX0_odds : MethodName := ⟨RX0, "odds", "()J"⟩
def dkwX0_odds_0 : List UInt8 := [42, 42, 182, 1, 1, 182, 1, 63, 173]
abbrev dktX0_odds_0 : List UInt8 := dkwX0_odds_0 ++ []
theorem dksX0_odds_0 : cX0_odds.data.toList.drop 0 = dktX0_odds_0 := by decide +kernel
theorem dX0_odds_0 : decode cX0_odds 0 = .ok (.aload_n 0, 1) := dk_42 (dk_at dksX0_odds_0 0 rfl rfl)
theorem dX0_odds_1 : decode cX0_odds 1 = .ok (.aload_n 0, 1) := dk_42 (dk_at dksX0_odds_0 1 rfl rfl)
theorem dX0_odds_2 : decode cX0_odds 2 = .ok (.invokevirtual 257, 3) := dk_182 1 1 (dk_at dksX0_odds_0 2 rfl rfl)
theorem dX0_odds_5 : decode cX0_odds 5 = .ok (.invokevirtual 319, 3) := dk_182 1 63 (dk_at dksX0_odds_0 5 rfl rfl)
theorem dX0_odds_8 : decode cX0_odds 8 = .ok (.lreturn, 1) := dk_173 (dk_at dksX0_odds_0 8 rfl rfl)
abbrev cX0_oddsOf : ByteArray := prog_1_method_47_code
def yX0_oddsOf : MethodName := ⟨RX0, "oddsOf", "(I)J"⟩
def dkwX0_oddsOf_4 : List UInt8 := [55, 5, 132, 7, 1, 167, 255, 195, 32, 22, 5, 97, 65, 132, 4, 1, 167, 255, 151, 32, 173]
abbrev dktX0_oddsOf_4 : List UInt8 := dkwX0_oddsOf_4 ++ []
def dkwX0_oddsOf_3 : List UInt8 := [16, 100, 42, 21, 7, 7, 182, 0, 143, 100, 133, 167, 0, 11, 42, 21, 7, 7, 182, 0, 143, 133, 105]
abbrev dktX0_oddsOf_3 : List UInt8 := dkwX0_oddsOf_3 ++ dktX0_oddsOf_4
def dkwX0_oddsOf_2 : List UInt8 := [162, 0, 55, 27, 21, 7, 184, 1, 45, 153, 0, 40, 22, 5, 21, 4, 21, 7, 184, 1, 45, 153, 0, 17]
abbrev dktX0_oddsOf_2 : List UInt8 := dkwX0_oddsOf_2 ++ dktX0_oddsOf_3
def dkwX0_oddsOf_1 : List UInt8 := [182, 1, 54, 154, 0, 6, 167, 0, 78, 10, 55, 5, 3, 54, 7, 21, 7, 42, 180, 0, 16, 180, 0, 116]
abbrev dktX0_oddsOf_1 : List UInt8 := dkwX0_oddsOf_1 ++ dktX0_oddsOf_2
def dkwX0_oddsOf_0 : List UInt8 := [9, 65, 3, 54, 4, 21, 4, 27, 163, 0, 105, 21, 4, 27, 2, 130, 126, 154, 0, 90, 42, 21, 4]
abbrev dktX0_oddsOf_0 : List UInt8 := dkwX0_oddsOf_0 ++ dktX0_oddsOf_1
theorem dksX0_oddsOf_0 : cX0_oddsOf.data.toList.drop 0 = dktX0_oddsOf_0 := by decide +kernel
theorem dksX0_oddsOf_1 : cX0_oddsOf.data.toList.drop 23 = dktX0_oddsOf_1 := dk_seg dksX0_oddsOf_0 23 rfl rfl
theorem dksX0_oddsOf_2 : cX0_oddsOf.data.toList.drop 47 = dktX0_oddsOf_2 := dk_seg dksX0_oddsOf_1 24 rfl rfl
theorem dksX0_oddsOf_3 : cX0_oddsOf.data.toList.drop 71 = dktX0_oddsOf_3 := dk_seg dksX0_oddsOf_2 24 rfl rfl
theorem dksX0_oddsOf_4 : cX0_oddsOf.data.toList.drop 94 = dktX0_oddsOf_4 := dk_seg dksX0_oddsOf_3 23 rfl rfl
theorem dX0_oddsOf_0 : decode cX0_oddsOf 0 = .ok (.lconst 0, 1) := dk_9 (dk_at dksX0_oddsOf_0 0 rfl rfl)
theorem dX0_oddsOf_1 : decode cX0_oddsOf 1 = .ok (.lstore_n 2, 1) := dk_65 (dk_at dksX0_oddsOf_0 1 rfl rfl)
theorem dX0_oddsOf_2 : decode cX0_oddsOf 2 = .ok (.iconst 0, 1) := dk_3 (dk_at dksX0_oddsOf_0 2 rfl rfl)
theorem dX0_oddsOf_3 : decode cX0_oddsOf 3 = .ok (.istore 4, 2) := dk_54 4 (dk_at dksX0_oddsOf_0 3 rfl rfl)
theorem dX0_oddsOf_5 : decode cX0_oddsOf 5 = .ok (.iload 4, 2) := dk_21 4 (dk_at dksX0_oddsOf_0 5 rfl rfl)
theorem dX0_oddsOf_7 : decode cX0_oddsOf 7 = .ok (.iload_n 1, 1) := dk_27 (dk_at dksX0_oddsOf_0 7 rfl rfl)
theorem dX0_oddsOf_8 : decode cX0_oddsOf 8 = .ok (.if_icmp .gt 105, 3) := dk_163 0 105 (dk_at dksX0_oddsOf_0 8 rfl rfl)
theorem dX0_oddsOf_11 : decode cX0_oddsOf 11 = .ok (.iload 4, 2) := dk_21 4 (dk_at dksX0_oddsOf_0 11 rfl rfl)
theorem dX0_oddsOf_13 : decode cX0_oddsOf 13 = .ok (.iload_n 1, 1) := dk_27 (dk_at dksX0_oddsOf_0 13 rfl rfl)
theorem dX0_oddsOf_14 : decode cX0_oddsOf 14 = .ok (.iconst (-1), 1) := dk_2 (dk_at dksX0_oddsOf_0 14 rfl rfl)
theorem dX0_oddsOf_15 : decode cX0_oddsOf 15 = .ok (.ixor, 1) := dk_130 (dk_at dksX0_oddsOf_0 15 rfl rfl)
theorem dX0_oddsOf_16 : decode cX0_oddsOf 16 = .ok (.iand, 1) := dk_126 (dk_at dksX0_oddsOf_0 16 rfl rfl)
theorem dX0_oddsOf_17 : decode cX0_oddsOf 17 = .ok (.ifCond .ne 90, 3) := dk_154 0 90 (dk_at dksX0_oddsOf_0 17 rfl rfl)
theorem dX0_oddsOf_20 : decode cX0_oddsOf 20 = .ok (.aload_n 0, 1) := dk_42 (dk_at dksX0_oddsOf_0 20 rfl rfl)
theorem dX0_oddsOf_21 : decode cX0_oddsOf 21 = .ok (.iload 4, 2) := dk_21 4 (dk_at dksX0_oddsOf_0 21 rfl rfl)
theorem dX0_oddsOf_23 : decode cX0_oddsOf 23 = .ok (.invokevirtual 310, 3) := dk_182 1 54 (dk_at dksX0_oddsOf_1 0 rfl rfl)
theorem dX0_oddsOf_26 : decode cX0_oddsOf 26 = .ok (.ifCond .ne 6, 3) := dk_154 0 6 (dk_at dksX0_oddsOf_1 3 rfl rfl)
theorem dX0_oddsOf_29 : decode cX0_oddsOf 29 = .ok (.goto 78, 3) := dk_167 0 78 (dk_at dksX0_oddsOf_1 6 rfl rfl)
theorem dX0_oddsOf_32 : decode cX0_oddsOf 32 = .ok (.lconst 1, 1) := dk_10 (dk_at dksX0_oddsOf_1 9 rfl rfl)
theorem dX0_oddsOf_33 : decode cX0_oddsOf 33 = .ok (.lstore 5, 2) := dk_55 5 (dk_at dksX0_oddsOf_1 10 rfl rfl)
theorem dX0_oddsOf_35 : decode cX0_oddsOf 35 = .ok (.iconst 0, 1) := dk_3 (dk_at dksX0_oddsOf_1 12 rfl rfl)
theorem dX0_oddsOf_36 : decode cX0_oddsOf 36 = .ok (.istore 7, 2) := dk_54 7 (dk_at dksX0_oddsOf_1 13 rfl rfl)
theorem dX0_oddsOf_38 : decode cX0_oddsOf 38 = .ok (.iload 7, 2) := dk_21 7 (dk_at dksX0_oddsOf_1 15 rfl rfl)
theorem dX0_oddsOf_40 : decode cX0_oddsOf 40 = .ok (.aload_n 0, 1) := dk_42 (dk_at dksX0_oddsOf_1 17 rfl rfl)
theorem dX0_oddsOf_41 : decode cX0_oddsOf 41 = .ok (.getfield 16, 3) := dk_180 0 16 (dk_at dksX0_oddsOf_1 18 rfl rfl)
theorem dX0_oddsOf_44 : decode cX0_oddsOf 44 = .ok (.getfield 116, 3) := dk_180 0 116 (dk_at dksX0_oddsOf_1 21 rfl rfl)
theorem dX0_oddsOf_47 : decode cX0_oddsOf 47 = .ok (.if_icmp .ge 55, 3) := dk_162 0 55 (dk_at dksX0_oddsOf_2 0 rfl rfl)
theorem dX0_oddsOf_50 : decode cX0_oddsOf 50 = .ok (.iload_n 1, 1) := dk_27 (dk_at dksX0_oddsOf_2 3 rfl rfl)
theorem dX0_oddsOf_51 : decode cX0_oddsOf 51 = .ok (.iload 7, 2) := dk_21 7 (dk_at dksX0_oddsOf_2 4 rfl rfl)
theorem dX0_oddsOf_53 : decode cX0_oddsOf 53 = .ok (.invokestatic 301, 3) := dk_184 1 45 (dk_at dksX0_oddsOf_2 6 rfl rfl)
theorem dX0_oddsOf_56 : decode cX0_oddsOf 56 = .ok (.ifCond .eq 40, 3) := dk_153 0 40 (dk_at dksX0_oddsOf_2 9 rfl rfl)
theorem dX0_oddsOf_59 : decode cX0_oddsOf 59 = .ok (.lload 5, 2) := dk_22 5 (dk_at dksX0_oddsOf_2 12 rfl rfl)
theorem dX0_oddsOf_61 : decode cX0_oddsOf 61 = .ok (.iload 4, 2) := dk_21 4 (dk_at dksX0_oddsOf_2 14 rfl rfl)
theorem dX0_oddsOf_63 : decode cX0_oddsOf 63 = .ok (.iload 7, 2) := dk_21 7 (dk_at dksX0_oddsOf_2 16 rfl rfl)
theorem dX0_oddsOf_65 : decode cX0_oddsOf 65 = .ok (.invokestatic 301, 3) := dk_184 1 45 (dk_at dksX0_oddsOf_2 18 rfl rfl)
theorem dX0_oddsOf_68 : decode cX0_oddsOf 68 = .ok (.ifCond .eq 17, 3) := dk_153 0 17 (dk_at dksX0_oddsOf_2 21 rfl rfl)
theorem dX0_oddsOf_71 : decode cX0_oddsOf 71 = .ok (.bipush 100, 2) := dk_16 100 (dk_at dksX0_oddsOf_3 0 rfl rfl)
theorem dX0_oddsOf_73 : decode cX0_oddsOf 73 = .ok (.aload_n 0, 1) := dk_42 (dk_at dksX0_oddsOf_3 2 rfl rfl)
theorem dX0_oddsOf_74 : decode cX0_oddsOf 74 = .ok (.iload 7, 2) := dk_21 7 (dk_at dksX0_oddsOf_3 3 rfl rfl)
theorem dX0_oddsOf_76 : decode cX0_oddsOf 76 = .ok (.iconst 4, 1) := dk_7 (dk_at dksX0_oddsOf_3 5 rfl rfl)
theorem dX0_oddsOf_77 : decode cX0_oddsOf 77 = .ok (.invokevirtual 143, 3) := dk_182 0 143 (dk_at dksX0_oddsOf_3 6 rfl rfl)
theorem dX0_oddsOf_80 : decode cX0_oddsOf 80 = .ok (.isub, 1) := dk_100 (dk_at dksX0_oddsOf_3 9 rfl rfl)
theorem dX0_oddsOf_81 : decode cX0_oddsOf 81 = .ok (.i2l, 1) := dk_133 (dk_at dksX0_oddsOf_3 10 rfl rfl)
theorem dX0_oddsOf_82 : decode cX0_oddsOf 82 = .ok (.goto 11, 3) := dk_167 0 11 (dk_at dksX0_oddsOf_3 11 rfl rfl)
theorem dX0_oddsOf_85 : decode cX0_oddsOf 85 = .ok (.aload_n 0, 1) := dk_42 (dk_at dksX0_oddsOf_3 14 rfl rfl)
theorem dX0_oddsOf_86 : decode cX0_oddsOf 86 = .ok (.iload 7, 2) := dk_21 7 (dk_at dksX0_oddsOf_3 15 rfl rfl)
theorem dX0_oddsOf_88 : decode cX0_oddsOf 88 = .ok (.iconst 4, 1) := dk_7 (dk_at dksX0_oddsOf_3 17 rfl rfl)
theorem dX0_oddsOf_89 : decode cX0_oddsOf 89 = .ok (.invokevirtual 143, 3) := dk_182 0 143 (dk_at dksX0_oddsOf_3 18 rfl rfl)
theorem dX0_oddsOf_92 : decode cX0_oddsOf 92 = .ok (.i2l, 1) := dk_133 (dk_at dksX0_oddsOf_3 21 rfl rfl)
theorem dX0_oddsOf_93 : decode cX0_oddsOf 93 = .ok (.lmul, 1) := dk_105 (dk_at dksX0_oddsOf_3 22 rfl rfl)
theorem dX0_oddsOf_94 : decode cX0_oddsOf 94 = .ok (.lstore 5, 2) := dk_55 5 (dk_at dksX0_oddsOf_4 0 rfl rfl)
theorem dX0_oddsOf_96 : decode cX0_oddsOf 96 = .ok (.iinc 7 1, 3) := dk_132 7 1 (dk_at dksX0_oddsOf_4 2 rfl rfl)
theorem dX0_oddsOf_99 : decode cX0_oddsOf 99 = .ok (.goto (-61), 3) := dk_167 255 195 (dk_at dksX0_oddsOf_4 5 rfl rfl)
theorem dX0_oddsOf_102 : decode cX0_oddsOf 102 = .ok (.lload_n 2, 1) := dk_32 (dk_at dksX0_oddsOf_4 8 rfl rfl)
theorem dX0_oddsOf_103 : decode cX0_oddsOf 103 = .ok (.lload 5, 2) := dk_22 5 (dk_at dksX0_oddsOf_4 9 rfl rfl)
theorem dX0_oddsOf_105 : decode cX0_oddsOf 105 = .ok (.ladd, 1) := dk_97 (dk_at dksX0_oddsOf_4 11 rfl rfl)
theorem dX0_oddsOf_106 : decode cX0_oddsOf 106 = .ok (.lstore_n 2, 1) := dk_65 (dk_at dksX0_oddsOf_4 12 rfl rfl)
theorem dX0_oddsOf_107 : decode cX0_oddsOf 107 = .ok (.iinc 4 1, 3) := dk_132 4 1 (dk_at dksX0_oddsOf_4 13 rfl rfl)
theorem dX0_oddsOf_110 : decode cX0_oddsOf 110 = .ok (.goto (-105), 3) := dk_167 255 151 (dk_at dksX0_oddsOf_4 16 rfl rfl)
theorem dX0_oddsOf_113 : decode cX0_oddsOf 113 = .ok (.lload_n 2, 1) := dk_32 (dk_at dksX0_oddsOf_4 19 rfl rfl)
theorem dX0_oddsOf_114 : decode cX0_oddsOf 114 = .ok (.lreturn, 1) := dk_173 (dk_at dksX0_oddsOf_4 20 rfl rfl)
abbrev cX0_keys : ByteArray := prog_1_method_49_code
def yX0_keys : MethodName := ⟨RX0, "keys", "()I"⟩
def dkwX0_keys_2 : List UInt8 := [27, 172]
abbrev dktX0_keys_2 : List UInt8 := dkwX0_keys_2 ++ []
def dkwX0_keys_1 : List UInt8 := [2, 130, 126, 182, 1, 54, 153, 0, 7, 3, 167, 0, 6, 4, 28, 120, 128, 60, 132, 2, 1, 167, 255, 215]
abbrev dktX0_keys_1 : List UInt8 := dkwX0_keys_1 ++ dktX0_keys_2
def dkwX0_keys_0 : List UInt8 := [3, 60, 3, 61, 28, 42, 180, 0, 16, 180, 0, 116, 162, 0, 36, 27, 42, 42, 182, 1, 1, 4, 28, 120]
abbrev dktX0_keys_0 : List UInt8 := dkwX0_keys_0 ++ dktX0_keys_1
theorem dksX0_keys_0 : cX0_keys.data.toList.drop 0 = dktX0_keys_0 := by decide +kernel
theorem dksX0_keys_1 : cX0_keys.data.toList.drop 24 = dktX0_keys_1 := dk_seg dksX0_keys_0 24 rfl rfl
theorem dksX0_keys_2 : cX0_keys.data.toList.drop 48 = dktX0_keys_2 := dk_seg dksX0_keys_1 24 rfl rfl
theorem dX0_keys_0 : decode cX0_keys 0 = .ok (.iconst 0, 1) := dk_3 (dk_at dksX0_keys_0 0 rfl rfl)
theorem dX0_keys_1 : decode cX0_keys 1 = .ok (.istore_n 1, 1) := dk_60 (dk_at dksX0_keys_0 1 rfl rfl)
theorem dX0_keys_2 : decode cX0_keys 2 = .ok (.iconst 0, 1) := dk_3 (dk_at dksX0_keys_0 2 rfl rfl)
theorem dX0_keys_3 : decode cX0_keys 3 = .ok (.istore_n 2, 1) := dk_61 (dk_at dksX0_keys_0 3 rfl rfl)
theorem dX0_keys_4 : decode cX0_keys 4 = .ok (.iload_n 2, 1) := dk_28 (dk_at dksX0_keys_0 4 rfl rfl)
theorem dX0_keys_5 : decode cX0_keys 5 = .ok (.aload_n 0, 1) := dk_42 (dk_at dksX0_keys_0 5 rfl rfl)
theorem dX0_keys_6 : decode cX0_keys 6 = .ok (.getfield 16, 3) := dk_180 0 16 (dk_at dksX0_keys_0 6 rfl rfl)
theorem dX0_keys_9 : decode cX0_keys 9 = .ok (.getfield 116, 3) := dk_180 0 116 (dk_at dksX0_keys_0 9 rfl rfl)
theorem dX0_keys_12 : decode cX0_keys 12 = .ok (.if_icmp .ge 36, 3) := dk_162 0 36 (dk_at dksX0_keys_0 12 rfl rfl)
theorem dX0_keys_15 : decode cX0_keys 15 = .ok (.iload_n 1, 1) := dk_27 (dk_at dksX0_keys_0 15 rfl rfl)
theorem dX0_keys_16 : decode cX0_keys 16 = .ok (.aload_n 0, 1) := dk_42 (dk_at dksX0_keys_0 16 rfl rfl)
theorem dX0_keys_17 : decode cX0_keys 17 = .ok (.aload_n 0, 1) := dk_42 (dk_at dksX0_keys_0 17 rfl rfl)
theorem dX0_keys_18 : decode cX0_keys 18 = .ok (.invokevirtual 257, 3) := dk_182 1 1 (dk_at dksX0_keys_0 18 rfl rfl)
theorem dX0_keys_21 : decode cX0_keys 21 = .ok (.iconst 1, 1) := dk_4 (dk_at dksX0_keys_0 21 rfl rfl)
theorem dX0_keys_22 : decode cX0_keys 22 = .ok (.iload_n 2, 1) := dk_28 (dk_at dksX0_keys_0 22 rfl rfl)
theorem dX0_keys_23 : decode cX0_keys 23 = .ok (.ishl, 1) := dk_120 (dk_at dksX0_keys_0 23 rfl rfl)
theorem dX0_keys_24 : decode cX0_keys 24 = .ok (.iconst (-1), 1) := dk_2 (dk_at dksX0_keys_1 0 rfl rfl)
theorem dX0_keys_25 : decode cX0_keys 25 = .ok (.ixor, 1) := dk_130 (dk_at dksX0_keys_1 1 rfl rfl)
theorem dX0_keys_26 : decode cX0_keys 26 = .ok (.iand, 1) := dk_126 (dk_at dksX0_keys_1 2 rfl rfl)
theorem dX0_keys_27 : decode cX0_keys 27 = .ok (.invokevirtual 310, 3) := dk_182 1 54 (dk_at dksX0_keys_1 3 rfl rfl)
theorem dX0_keys_30 : decode cX0_keys 30 = .ok (.ifCond .eq 7, 3) := dk_153 0 7 (dk_at dksX0_keys_1 6 rfl rfl)
theorem dX0_keys_33 : decode cX0_keys 33 = .ok (.iconst 0, 1) := dk_3 (dk_at dksX0_keys_1 9 rfl rfl)
theorem dX0_keys_34 : decode cX0_keys 34 = .ok (.goto 6, 3) := dk_167 0 6 (dk_at dksX0_keys_1 10 rfl rfl)
theorem dX0_keys_37 : decode cX0_keys 37 = .ok (.iconst 1, 1) := dk_4 (dk_at dksX0_keys_1 13 rfl rfl)
theorem dX0_keys_38 : decode cX0_keys 38 = .ok (.iload_n 2, 1) := dk_28 (dk_at dksX0_keys_1 14 rfl rfl)
theorem dX0_keys_39 : decode cX0_keys 39 = .ok (.ishl, 1) := dk_120 (dk_at dksX0_keys_1 15 rfl rfl)
theorem dX0_keys_40 : decode cX0_keys 40 = .ok (.ior, 1) := dk_128 (dk_at dksX0_keys_1 16 rfl rfl)
theorem dX0_keys_41 : decode cX0_keys 41 = .ok (.istore_n 1, 1) := dk_60 (dk_at dksX0_keys_1 17 rfl rfl)
theorem dX0_keys_42 : decode cX0_keys 42 = .ok (.iinc 2 1, 3) := dk_132 2 1 (dk_at dksX0_keys_1 18 rfl rfl)
theorem dX0_keys_45 : decode cX0_keys 45 = .ok (.goto (-41), 3) := dk_167 255 215 (dk_at dksX0_keys_1 21 rfl rfl)
theorem dX0_keys_48 : decode cX0_keys 48 = .ok (.iload_n 1, 1) := dk_27 (dk_at dksX0_keys_2 0 rfl rfl)
theorem dX0_keys_49 : decode cX0_keys 49 = .ok (.ireturn, 1) := dk_172 (dk_at dksX0_keys_2 1 rfl rfl)
abbrev cX0_send : ByteArray := prog_1_method_50_code
def yX0_send : MethodName := ⟨RX0, "send", "(I)I"⟩
def dkwX0_send_6 : List UInt8 := [167, 255, 138, 28, 172]
abbrev dktX0_send_6 : List UInt8 := dkwX0_send_6 ++ []
def dkwX0_send_5 : List UInt8 := [160, 0, 13, 22, 8, 33, 148, 157, 0, 6, 167, 0, 9, 21, 5, 61, 22, 8, 66, 132, 5, 1]
abbrev dktX0_send_5 : List UInt8 := dkwX0_send_5 ++ dktX0_send_6
def dkwX0_send_4 : List UInt8 := [133, 22, 6, 105, 148, 155, 0, 36, 28, 2, 159, 0, 25, 21, 5, 184, 1, 57, 28, 184, 1, 57]
abbrev dktX0_send_4 : List UInt8 := dkwX0_send_4 ++ dktX0_send_5
def dkwX0_send_3 : List UInt8 := [105, 55, 6, 132, 8, 1, 167, 255, 235, 42, 21, 5, 182, 1, 63, 55, 8, 20, 1, 67, 22, 8, 105, 27]
abbrev dktX0_send_3 : List UInt8 := dkwX0_send_3 ++ dktX0_send_4
def dkwX0_send_2 : List UInt8 := [167, 0, 89, 10, 55, 6, 3, 54, 8, 21, 8, 21, 5, 184, 1, 57, 162, 0, 17, 22, 6, 20, 1, 67]
abbrev dktX0_send_2 : List UInt8 := dkwX0_send_2 ++ dktX0_send_3
def dkwX0_send_1 : List UInt8 := [182, 1, 1, 163, 0, 115, 28, 2, 159, 0, 18, 21, 5, 184, 1, 57, 28, 184, 1, 57, 164, 0, 6]
abbrev dktX0_send_1 : List UInt8 := dkwX0_send_1 ++ dktX0_send_2
def dkwX0_send_0 : List UInt8 := [27, 3, 16, 100, 184, 0, 112, 154, 0, 5, 2, 172, 2, 61, 9, 66, 3, 54, 5, 21, 5, 42]
abbrev dktX0_send_0 : List UInt8 := dkwX0_send_0 ++ dktX0_send_1
theorem dksX0_send_0 : cX0_send.data.toList.drop 0 = dktX0_send_0 := by decide +kernel
theorem dksX0_send_1 : cX0_send.data.toList.drop 22 = dktX0_send_1 := dk_seg dksX0_send_0 22 rfl rfl
theorem dksX0_send_2 : cX0_send.data.toList.drop 45 = dktX0_send_2 := dk_seg dksX0_send_1 23 rfl rfl
theorem dksX0_send_3 : cX0_send.data.toList.drop 69 = dktX0_send_3 := dk_seg dksX0_send_2 24 rfl rfl
theorem dksX0_send_4 : cX0_send.data.toList.drop 93 = dktX0_send_4 := dk_seg dksX0_send_3 24 rfl rfl
theorem dksX0_send_5 : cX0_send.data.toList.drop 115 = dktX0_send_5 := dk_seg dksX0_send_4 22 rfl rfl
theorem dksX0_send_6 : cX0_send.data.toList.drop 137 = dktX0_send_6 := dk_seg dksX0_send_5 22 rfl rfl
theorem dX0_send_0 : decode cX0_send 0 = .ok (.iload_n 1, 1) := dk_27 (dk_at dksX0_send_0 0 rfl rfl)
theorem dX0_send_1 : decode cX0_send 1 = .ok (.iconst 0, 1) := dk_3 (dk_at dksX0_send_0 1 rfl rfl)
theorem dX0_send_2 : decode cX0_send 2 = .ok (.bipush 100, 2) := dk_16 100 (dk_at dksX0_send_0 2 rfl rfl)
theorem dX0_send_4 : decode cX0_send 4 = .ok (.invokestatic 112, 3) := dk_184 0 112 (dk_at dksX0_send_0 4 rfl rfl)
theorem dX0_send_7 : decode cX0_send 7 = .ok (.ifCond .ne 5, 3) := dk_154 0 5 (dk_at dksX0_send_0 7 rfl rfl)
theorem dX0_send_10 : decode cX0_send 10 = .ok (.iconst (-1), 1) := dk_2 (dk_at dksX0_send_0 10 rfl rfl)
theorem dX0_send_11 : decode cX0_send 11 = .ok (.ireturn, 1) := dk_172 (dk_at dksX0_send_0 11 rfl rfl)
theorem dX0_send_12 : decode cX0_send 12 = .ok (.iconst (-1), 1) := dk_2 (dk_at dksX0_send_0 12 rfl rfl)
theorem dX0_send_13 : decode cX0_send 13 = .ok (.istore_n 2, 1) := dk_61 (dk_at dksX0_send_0 13 rfl rfl)
theorem dX0_send_14 : decode cX0_send 14 = .ok (.lconst 0, 1) := dk_9 (dk_at dksX0_send_0 14 rfl rfl)
theorem dX0_send_15 : decode cX0_send 15 = .ok (.lstore_n 3, 1) := dk_66 (dk_at dksX0_send_0 15 rfl rfl)
theorem dX0_send_16 : decode cX0_send 16 = .ok (.iconst 0, 1) := dk_3 (dk_at dksX0_send_0 16 rfl rfl)
theorem dX0_send_17 : decode cX0_send 17 = .ok (.istore 5, 2) := dk_54 5 (dk_at dksX0_send_0 17 rfl rfl)
theorem dX0_send_19 : decode cX0_send 19 = .ok (.iload 5, 2) := dk_21 5 (dk_at dksX0_send_0 19 rfl rfl)
theorem dX0_send_21 : decode cX0_send 21 = .ok (.aload_n 0, 1) := dk_42 (dk_at dksX0_send_0 21 rfl rfl)
theorem dX0_send_22 : decode cX0_send 22 = .ok (.invokevirtual 257, 3) := dk_182 1 1 (dk_at dksX0_send_1 0 rfl rfl)
theorem dX0_send_25 : decode cX0_send 25 = .ok (.if_icmp .gt 115, 3) := dk_163 0 115 (dk_at dksX0_send_1 3 rfl rfl)
theorem dX0_send_28 : decode cX0_send 28 = .ok (.iload_n 2, 1) := dk_28 (dk_at dksX0_send_1 6 rfl rfl)
theorem dX0_send_29 : decode cX0_send 29 = .ok (.iconst (-1), 1) := dk_2 (dk_at dksX0_send_1 7 rfl rfl)
theorem dX0_send_30 : decode cX0_send 30 = .ok (.if_icmp .eq 18, 3) := dk_159 0 18 (dk_at dksX0_send_1 8 rfl rfl)
theorem dX0_send_33 : decode cX0_send 33 = .ok (.iload 5, 2) := dk_21 5 (dk_at dksX0_send_1 11 rfl rfl)
theorem dX0_send_35 : decode cX0_send 35 = .ok (.invokestatic 313, 3) := dk_184 1 57 (dk_at dksX0_send_1 13 rfl rfl)
theorem dX0_send_38 : decode cX0_send 38 = .ok (.iload_n 2, 1) := dk_28 (dk_at dksX0_send_1 16 rfl rfl)
theorem dX0_send_39 : decode cX0_send 39 = .ok (.invokestatic 313, 3) := dk_184 1 57 (dk_at dksX0_send_1 17 rfl rfl)
theorem dX0_send_42 : decode cX0_send 42 = .ok (.if_icmp .le 6, 3) := dk_164 0 6 (dk_at dksX0_send_1 20 rfl rfl)
theorem dX0_send_45 : decode cX0_send 45 = .ok (.goto 89, 3) := dk_167 0 89 (dk_at dksX0_send_2 0 rfl rfl)
theorem dX0_send_48 : decode cX0_send 48 = .ok (.lconst 1, 1) := dk_10 (dk_at dksX0_send_2 3 rfl rfl)
theorem dX0_send_49 : decode cX0_send 49 = .ok (.lstore 6, 2) := dk_55 6 (dk_at dksX0_send_2 4 rfl rfl)
theorem dX0_send_51 : decode cX0_send 51 = .ok (.iconst 0, 1) := dk_3 (dk_at dksX0_send_2 6 rfl rfl)
theorem dX0_send_52 : decode cX0_send 52 = .ok (.istore 8, 2) := dk_54 8 (dk_at dksX0_send_2 7 rfl rfl)
theorem dX0_send_54 : decode cX0_send 54 = .ok (.iload 8, 2) := dk_21 8 (dk_at dksX0_send_2 9 rfl rfl)
theorem dX0_send_56 : decode cX0_send 56 = .ok (.iload 5, 2) := dk_21 5 (dk_at dksX0_send_2 11 rfl rfl)
theorem dX0_send_58 : decode cX0_send 58 = .ok (.invokestatic 313, 3) := dk_184 1 57 (dk_at dksX0_send_2 13 rfl rfl)
theorem dX0_send_61 : decode cX0_send 61 = .ok (.if_icmp .ge 17, 3) := dk_162 0 17 (dk_at dksX0_send_2 16 rfl rfl)
theorem dX0_send_64 : decode cX0_send 64 = .ok (.lload 6, 2) := dk_22 6 (dk_at dksX0_send_2 19 rfl rfl)
theorem dX0_send_66 : decode cX0_send 66 = .ok (.ldc2_w 323, 3) := dk_20 1 67 (dk_at dksX0_send_2 21 rfl rfl)
theorem dX0_send_69 : decode cX0_send 69 = .ok (.lmul, 1) := dk_105 (dk_at dksX0_send_3 0 rfl rfl)
theorem dX0_send_70 : decode cX0_send 70 = .ok (.lstore 6, 2) := dk_55 6 (dk_at dksX0_send_3 1 rfl rfl)
theorem dX0_send_72 : decode cX0_send 72 = .ok (.iinc 8 1, 3) := dk_132 8 1 (dk_at dksX0_send_3 3 rfl rfl)
theorem dX0_send_75 : decode cX0_send 75 = .ok (.goto (-21), 3) := dk_167 255 235 (dk_at dksX0_send_3 6 rfl rfl)
theorem dX0_send_78 : decode cX0_send 78 = .ok (.aload_n 0, 1) := dk_42 (dk_at dksX0_send_3 9 rfl rfl)
theorem dX0_send_79 : decode cX0_send 79 = .ok (.iload 5, 2) := dk_21 5 (dk_at dksX0_send_3 10 rfl rfl)
theorem dX0_send_81 : decode cX0_send 81 = .ok (.invokevirtual 319, 3) := dk_182 1 63 (dk_at dksX0_send_3 12 rfl rfl)
theorem dX0_send_84 : decode cX0_send 84 = .ok (.lstore 8, 2) := dk_55 8 (dk_at dksX0_send_3 15 rfl rfl)
theorem dX0_send_86 : decode cX0_send 86 = .ok (.ldc2_w 323, 3) := dk_20 1 67 (dk_at dksX0_send_3 17 rfl rfl)
theorem dX0_send_89 : decode cX0_send 89 = .ok (.lload 8, 2) := dk_22 8 (dk_at dksX0_send_3 20 rfl rfl)
theorem dX0_send_91 : decode cX0_send 91 = .ok (.lmul, 1) := dk_105 (dk_at dksX0_send_3 22 rfl rfl)
theorem dX0_send_92 : decode cX0_send 92 = .ok (.iload_n 1, 1) := dk_27 (dk_at dksX0_send_3 23 rfl rfl)
theorem dX0_send_93 : decode cX0_send 93 = .ok (.i2l, 1) := dk_133 (dk_at dksX0_send_4 0 rfl rfl)
theorem dX0_send_94 : decode cX0_send 94 = .ok (.lload 6, 2) := dk_22 6 (dk_at dksX0_send_4 1 rfl rfl)
theorem dX0_send_96 : decode cX0_send 96 = .ok (.lmul, 1) := dk_105 (dk_at dksX0_send_4 3 rfl rfl)
theorem dX0_send_97 : decode cX0_send 97 = .ok (.lcmp, 1) := dk_148 (dk_at dksX0_send_4 4 rfl rfl)
theorem dX0_send_98 : decode cX0_send 98 = .ok (.ifCond .lt 36, 3) := dk_155 0 36 (dk_at dksX0_send_4 5 rfl rfl)
theorem dX0_send_101 : decode cX0_send 101 = .ok (.iload_n 2, 1) := dk_28 (dk_at dksX0_send_4 8 rfl rfl)
theorem dX0_send_102 : decode cX0_send 102 = .ok (.iconst (-1), 1) := dk_2 (dk_at dksX0_send_4 9 rfl rfl)
theorem dX0_send_103 : decode cX0_send 103 = .ok (.if_icmp .eq 25, 3) := dk_159 0 25 (dk_at dksX0_send_4 10 rfl rfl)
theorem dX0_send_106 : decode cX0_send 106 = .ok (.iload 5, 2) := dk_21 5 (dk_at dksX0_send_4 13 rfl rfl)
theorem dX0_send_108 : decode cX0_send 108 = .ok (.invokestatic 313, 3) := dk_184 1 57 (dk_at dksX0_send_4 15 rfl rfl)
theorem dX0_send_111 : decode cX0_send 111 = .ok (.iload_n 2, 1) := dk_28 (dk_at dksX0_send_4 18 rfl rfl)
theorem dX0_send_112 : decode cX0_send 112 = .ok (.invokestatic 313, 3) := dk_184 1 57 (dk_at dksX0_send_4 19 rfl rfl)
theorem dX0_send_115 : decode cX0_send 115 = .ok (.if_icmp .ne 13, 3) := dk_160 0 13 (dk_at dksX0_send_5 0 rfl rfl)
theorem dX0_send_118 : decode cX0_send 118 = .ok (.lload 8, 2) := dk_22 8 (dk_at dksX0_send_5 3 rfl rfl)
theorem dX0_send_120 : decode cX0_send 120 = .ok (.lload_n 3, 1) := dk_33 (dk_at dksX0_send_5 5 rfl rfl)
theorem dX0_send_121 : decode cX0_send 121 = .ok (.lcmp, 1) := dk_148 (dk_at dksX0_send_5 6 rfl rfl)
theorem dX0_send_122 : decode cX0_send 122 = .ok (.ifCond .gt 6, 3) := dk_157 0 6 (dk_at dksX0_send_5 7 rfl rfl)
theorem dX0_send_125 : decode cX0_send 125 = .ok (.goto 9, 3) := dk_167 0 9 (dk_at dksX0_send_5 10 rfl rfl)
theorem dX0_send_128 : decode cX0_send 128 = .ok (.iload 5, 2) := dk_21 5 (dk_at dksX0_send_5 13 rfl rfl)
theorem dX0_send_130 : decode cX0_send 130 = .ok (.istore_n 2, 1) := dk_61 (dk_at dksX0_send_5 15 rfl rfl)
theorem dX0_send_131 : decode cX0_send 131 = .ok (.lload 8, 2) := dk_22 8 (dk_at dksX0_send_5 16 rfl rfl)
theorem dX0_send_133 : decode cX0_send 133 = .ok (.lstore_n 3, 1) := dk_66 (dk_at dksX0_send_5 18 rfl rfl)
theorem dX0_send_134 : decode cX0_send 134 = .ok (.iinc 5 1, 3) := dk_132 5 1 (dk_at dksX0_send_5 19 rfl rfl)
theorem dX0_send_137 : decode cX0_send 137 = .ok (.goto (-118), 3) := dk_167 255 138 (dk_at dksX0_send_6 0 rfl rfl)
theorem dX0_send_140 : decode cX0_send 140 = .ok (.iload_n 2, 1) := dk_28 (dk_at dksX0_send_6 3 rfl rfl)
theorem dX0_send_141 : decode cX0_send 141 = .ok (.ireturn, 1) := dk_172 (dk_at dksX0_send_6 4 rfl rfl)
abbrev cX0_shells : ByteArray := prog_1_method_51_code
def yX0_shells : MethodName := ⟨RX0, "shells", "(III)I"⟩
def dkwX0_shells_3 : List UInt8 := [167, 0, 4, 2, 172]
abbrev dktX0_shells_3 : List UInt8 := dkwX0_shells_3 ++ []
def dkwX0_shells_2 : List UInt8 := [180, 0, 80, 180, 1, 72, 4, 100, 184, 0, 112, 153, 0, 15, 42, 180, 0, 80, 180, 1, 74, 29, 46]
abbrev dktX0_shells_2 : List UInt8 := dkwX0_shells_2 ++ dktX0_shells_3
def dkwX0_shells_1 : List UInt8 := [27, 28, 182, 1, 69, 29, 2, 160, 0, 13, 42, 180, 0, 80, 180, 1, 72, 167, 0, 33, 29, 3, 42]
abbrev dktX0_shells_1 : List UInt8 := dkwX0_shells_1 ++ dktX0_shells_2
def dkwX0_shells_0 : List UInt8 := [27, 4, 6, 184, 0, 112, 153, 0, 12, 28, 3, 5, 184, 0, 112, 154, 0, 5, 2, 172, 42, 180, 0, 80]
abbrev dktX0_shells_0 : List UInt8 := dkwX0_shells_0 ++ dktX0_shells_1
theorem dksX0_shells_0 : cX0_shells.data.toList.drop 0 = dktX0_shells_0 := by decide +kernel
theorem dksX0_shells_1 : cX0_shells.data.toList.drop 24 = dktX0_shells_1 := dk_seg dksX0_shells_0 24 rfl rfl
theorem dksX0_shells_2 : cX0_shells.data.toList.drop 47 = dktX0_shells_2 := dk_seg dksX0_shells_1 23 rfl rfl
theorem dksX0_shells_3 : cX0_shells.data.toList.drop 70 = dktX0_shells_3 := dk_seg dksX0_shells_2 23 rfl rfl
theorem dX0_shells_0 : decode cX0_shells 0 = .ok (.iload_n 1, 1) := dk_27 (dk_at dksX0_shells_0 0 rfl rfl)
theorem dX0_shells_1 : decode cX0_shells 1 = .ok (.iconst 1, 1) := dk_4 (dk_at dksX0_shells_0 1 rfl rfl)
theorem dX0_shells_2 : decode cX0_shells 2 = .ok (.iconst 3, 1) := dk_6 (dk_at dksX0_shells_0 2 rfl rfl)
theorem dX0_shells_3 : decode cX0_shells 3 = .ok (.invokestatic 112, 3) := dk_184 0 112 (dk_at dksX0_shells_0 3 rfl rfl)
theorem dX0_shells_6 : decode cX0_shells 6 = .ok (.ifCond .eq 12, 3) := dk_153 0 12 (dk_at dksX0_shells_0 6 rfl rfl)
theorem dX0_shells_9 : decode cX0_shells 9 = .ok (.iload_n 2, 1) := dk_28 (dk_at dksX0_shells_0 9 rfl rfl)
theorem dX0_shells_10 : decode cX0_shells 10 = .ok (.iconst 0, 1) := dk_3 (dk_at dksX0_shells_0 10 rfl rfl)
theorem dX0_shells_11 : decode cX0_shells 11 = .ok (.iconst 2, 1) := dk_5 (dk_at dksX0_shells_0 11 rfl rfl)
theorem dX0_shells_12 : decode cX0_shells 12 = .ok (.invokestatic 112, 3) := dk_184 0 112 (dk_at dksX0_shells_0 12 rfl rfl)
theorem dX0_shells_15 : decode cX0_shells 15 = .ok (.ifCond .ne 5, 3) := dk_154 0 5 (dk_at dksX0_shells_0 15 rfl rfl)
theorem dX0_shells_18 : decode cX0_shells 18 = .ok (.iconst (-1), 1) := dk_2 (dk_at dksX0_shells_0 18 rfl rfl)
theorem dX0_shells_19 : decode cX0_shells 19 = .ok (.ireturn, 1) := dk_172 (dk_at dksX0_shells_0 19 rfl rfl)
theorem dX0_shells_20 : decode cX0_shells 20 = .ok (.aload_n 0, 1) := dk_42 (dk_at dksX0_shells_0 20 rfl rfl)
theorem dX0_shells_21 : decode cX0_shells 21 = .ok (.getfield 80, 3) := dk_180 0 80 (dk_at dksX0_shells_0 21 rfl rfl)
theorem dX0_shells_24 : decode cX0_shells 24 = .ok (.iload_n 1, 1) := dk_27 (dk_at dksX0_shells_1 0 rfl rfl)
theorem dX0_shells_25 : decode cX0_shells 25 = .ok (.iload_n 2, 1) := dk_28 (dk_at dksX0_shells_1 1 rfl rfl)
theorem dX0_shells_26 : decode cX0_shells 26 = .ok (.invokevirtual 325, 3) := dk_182 1 69 (dk_at dksX0_shells_1 2 rfl rfl)
theorem dX0_shells_29 : decode cX0_shells 29 = .ok (.iload_n 3, 1) := dk_29 (dk_at dksX0_shells_1 5 rfl rfl)
theorem dX0_shells_30 : decode cX0_shells 30 = .ok (.iconst (-1), 1) := dk_2 (dk_at dksX0_shells_1 6 rfl rfl)
theorem dX0_shells_31 : decode cX0_shells 31 = .ok (.if_icmp .ne 13, 3) := dk_160 0 13 (dk_at dksX0_shells_1 7 rfl rfl)
theorem dX0_shells_34 : decode cX0_shells 34 = .ok (.aload_n 0, 1) := dk_42 (dk_at dksX0_shells_1 10 rfl rfl)
theorem dX0_shells_35 : decode cX0_shells 35 = .ok (.getfield 80, 3) := dk_180 0 80 (dk_at dksX0_shells_1 11 rfl rfl)
theorem dX0_shells_38 : decode cX0_shells 38 = .ok (.getfield 328, 3) := dk_180 1 72 (dk_at dksX0_shells_1 14 rfl rfl)
theorem dX0_shells_41 : decode cX0_shells 41 = .ok (.goto 33, 3) := dk_167 0 33 (dk_at dksX0_shells_1 17 rfl rfl)
theorem dX0_shells_44 : decode cX0_shells 44 = .ok (.iload_n 3, 1) := dk_29 (dk_at dksX0_shells_1 20 rfl rfl)
theorem dX0_shells_45 : decode cX0_shells 45 = .ok (.iconst 0, 1) := dk_3 (dk_at dksX0_shells_1 21 rfl rfl)
theorem dX0_shells_46 : decode cX0_shells 46 = .ok (.aload_n 0, 1) := dk_42 (dk_at dksX0_shells_1 22 rfl rfl)
theorem dX0_shells_47 : decode cX0_shells 47 = .ok (.getfield 80, 3) := dk_180 0 80 (dk_at dksX0_shells_2 0 rfl rfl)
theorem dX0_shells_50 : decode cX0_shells 50 = .ok (.getfield 328, 3) := dk_180 1 72 (dk_at dksX0_shells_2 3 rfl rfl)
theorem dX0_shells_53 : decode cX0_shells 53 = .ok (.iconst 1, 1) := dk_4 (dk_at dksX0_shells_2 6 rfl rfl)
theorem dX0_shells_54 : decode cX0_shells 54 = .ok (.isub, 1) := dk_100 (dk_at dksX0_shells_2 7 rfl rfl)
theorem dX0_shells_55 : decode cX0_shells 55 = .ok (.invokestatic 112, 3) := dk_184 0 112 (dk_at dksX0_shells_2 8 rfl rfl)
theorem dX0_shells_58 : decode cX0_shells 58 = .ok (.ifCond .eq 15, 3) := dk_153 0 15 (dk_at dksX0_shells_2 11 rfl rfl)
theorem dX0_shells_61 : decode cX0_shells 61 = .ok (.aload_n 0, 1) := dk_42 (dk_at dksX0_shells_2 14 rfl rfl)
theorem dX0_shells_62 : decode cX0_shells 62 = .ok (.getfield 80, 3) := dk_180 0 80 (dk_at dksX0_shells_2 15 rfl rfl)
theorem dX0_shells_65 : decode cX0_shells 65 = .ok (.getfield 330, 3) := dk_180 1 74 (dk_at dksX0_shells_2 18 rfl rfl)
theorem dX0_shells_68 : decode cX0_shells 68 = .ok (.iload_n 3, 1) := dk_29 (dk_at dksX0_shells_2 21 rfl rfl)
theorem dX0_shells_69 : decode cX0_shells 69 = .ok (.iaload, 1) := dk_46 (dk_at dksX0_shells_2 22 rfl rfl)
theorem dX0_shells_70 : decode cX0_shells 70 = .ok (.goto 4, 3) := dk_167 0 4 (dk_at dksX0_shells_3 0 rfl rfl)
theorem dX0_shells_73 : decode cX0_shells 73 = .ok (.iconst (-1), 1) := dk_2 (dk_at dksX0_shells_3 3 rfl rfl)
theorem dX0_shells_74 : decode cX0_shells 74 = .ok (.ireturn, 1) := dk_172 (dk_at dksX0_shells_3 4 rfl rfl)
abbrev cX0_cross : ByteArray := prog_1_method_52_code
def yX0_cross : MethodName := ⟨RX0, "cross", "(II)I"⟩
def dkwX0_cross_4 : List UInt8 := [89, 180, 1, 75, 4, 96, 181, 1, 75, 42, 42, 180, 0, 16, 180, 1, 75, 182, 0, 129, 172]
abbrev dktX0_cross_4 : List UInt8 := dkwX0_cross_4 ++ []
def dkwX0_cross_3 : List UInt8 := [42, 180, 0, 16, 180, 1, 78, 5, 42, 180, 0, 16, 180, 1, 75, 104, 4, 96, 28, 79, 42, 180, 0, 16]
abbrev dktX0_cross_3 : List UInt8 := dkwX0_cross_3 ++ dktX0_cross_4
def dkwX0_cross_2 : List UInt8 := [16, 251, 182, 0, 122, 172, 42, 180, 0, 16, 180, 1, 78, 5, 42, 180, 0, 16, 180, 1, 75, 104, 27, 79]
abbrev dktX0_cross_2 : List UInt8 := dkwX0_cross_2 ++ dktX0_cross_3
def dkwX0_cross_1 : List UInt8 := [154, 0, 10, 42, 16, 254, 182, 0, 122, 172, 42, 180, 0, 16, 180, 1, 75, 16, 12, 160, 0, 10, 42]
abbrev dktX0_cross_1 : List UInt8 := dkwX0_cross_1 ++ dktX0_cross_2
def dkwX0_cross_0 : List UInt8 := [27, 28, 160, 0, 9, 42, 2, 182, 0, 122, 172, 42, 27, 182, 0, 158, 153, 0, 11, 42, 28, 182, 0, 158]
abbrev dktX0_cross_0 : List UInt8 := dkwX0_cross_0 ++ dktX0_cross_1
theorem dksX0_cross_0 : cX0_cross.data.toList.drop 0 = dktX0_cross_0 := by decide +kernel
theorem dksX0_cross_1 : cX0_cross.data.toList.drop 24 = dktX0_cross_1 := dk_seg dksX0_cross_0 24 rfl rfl
theorem dksX0_cross_2 : cX0_cross.data.toList.drop 47 = dktX0_cross_2 := dk_seg dksX0_cross_1 23 rfl rfl
theorem dksX0_cross_3 : cX0_cross.data.toList.drop 71 = dktX0_cross_3 := dk_seg dksX0_cross_2 24 rfl rfl
theorem dksX0_cross_4 : cX0_cross.data.toList.drop 95 = dktX0_cross_4 := dk_seg dksX0_cross_3 24 rfl rfl
theorem dX0_cross_0 : decode cX0_cross 0 = .ok (.iload_n 1, 1) := dk_27 (dk_at dksX0_cross_0 0 rfl rfl)
theorem dX0_cross_1 : decode cX0_cross 1 = .ok (.iload_n 2, 1) := dk_28 (dk_at dksX0_cross_0 1 rfl rfl)
theorem dX0_cross_2 : decode cX0_cross 2 = .ok (.if_icmp .ne 9, 3) := dk_160 0 9 (dk_at dksX0_cross_0 2 rfl rfl)
theorem dX0_cross_5 : decode cX0_cross 5 = .ok (.aload_n 0, 1) := dk_42 (dk_at dksX0_cross_0 5 rfl rfl)
theorem dX0_cross_6 : decode cX0_cross 6 = .ok (.iconst (-1), 1) := dk_2 (dk_at dksX0_cross_0 6 rfl rfl)
theorem dX0_cross_7 : decode cX0_cross 7 = .ok (.invokevirtual 122, 3) := dk_182 0 122 (dk_at dksX0_cross_0 7 rfl rfl)
theorem dX0_cross_10 : decode cX0_cross 10 = .ok (.ireturn, 1) := dk_172 (dk_at dksX0_cross_0 10 rfl rfl)
theorem dX0_cross_11 : decode cX0_cross 11 = .ok (.aload_n 0, 1) := dk_42 (dk_at dksX0_cross_0 11 rfl rfl)
theorem dX0_cross_12 : decode cX0_cross 12 = .ok (.iload_n 1, 1) := dk_27 (dk_at dksX0_cross_0 12 rfl rfl)
theorem dX0_cross_13 : decode cX0_cross 13 = .ok (.invokevirtual 158, 3) := dk_182 0 158 (dk_at dksX0_cross_0 13 rfl rfl)
theorem dX0_cross_16 : decode cX0_cross 16 = .ok (.ifCond .eq 11, 3) := dk_153 0 11 (dk_at dksX0_cross_0 16 rfl rfl)
theorem dX0_cross_19 : decode cX0_cross 19 = .ok (.aload_n 0, 1) := dk_42 (dk_at dksX0_cross_0 19 rfl rfl)
theorem dX0_cross_20 : decode cX0_cross 20 = .ok (.iload_n 2, 1) := dk_28 (dk_at dksX0_cross_0 20 rfl rfl)
theorem dX0_cross_21 : decode cX0_cross 21 = .ok (.invokevirtual 158, 3) := dk_182 0 158 (dk_at dksX0_cross_0 21 rfl rfl)
theorem dX0_cross_24 : decode cX0_cross 24 = .ok (.ifCond .ne 10, 3) := dk_154 0 10 (dk_at dksX0_cross_1 0 rfl rfl)
theorem dX0_cross_27 : decode cX0_cross 27 = .ok (.aload_n 0, 1) := dk_42 (dk_at dksX0_cross_1 3 rfl rfl)
theorem dX0_cross_28 : decode cX0_cross 28 = .ok (.bipush (-2), 2) := dk_16 254 (dk_at dksX0_cross_1 4 rfl rfl)
theorem dX0_cross_30 : decode cX0_cross 30 = .ok (.invokevirtual 122, 3) := dk_182 0 122 (dk_at dksX0_cross_1 6 rfl rfl)
theorem dX0_cross_33 : decode cX0_cross 33 = .ok (.ireturn, 1) := dk_172 (dk_at dksX0_cross_1 9 rfl rfl)
theorem dX0_cross_34 : decode cX0_cross 34 = .ok (.aload_n 0, 1) := dk_42 (dk_at dksX0_cross_1 10 rfl rfl)
theorem dX0_cross_35 : decode cX0_cross 35 = .ok (.getfield 16, 3) := dk_180 0 16 (dk_at dksX0_cross_1 11 rfl rfl)
theorem dX0_cross_38 : decode cX0_cross 38 = .ok (.getfield 331, 3) := dk_180 1 75 (dk_at dksX0_cross_1 14 rfl rfl)
theorem dX0_cross_41 : decode cX0_cross 41 = .ok (.bipush 12, 2) := dk_16 12 (dk_at dksX0_cross_1 17 rfl rfl)
theorem dX0_cross_43 : decode cX0_cross 43 = .ok (.if_icmp .ne 10, 3) := dk_160 0 10 (dk_at dksX0_cross_1 19 rfl rfl)
theorem dX0_cross_46 : decode cX0_cross 46 = .ok (.aload_n 0, 1) := dk_42 (dk_at dksX0_cross_1 22 rfl rfl)
theorem dX0_cross_47 : decode cX0_cross 47 = .ok (.bipush (-5), 2) := dk_16 251 (dk_at dksX0_cross_2 0 rfl rfl)
theorem dX0_cross_49 : decode cX0_cross 49 = .ok (.invokevirtual 122, 3) := dk_182 0 122 (dk_at dksX0_cross_2 2 rfl rfl)
theorem dX0_cross_52 : decode cX0_cross 52 = .ok (.ireturn, 1) := dk_172 (dk_at dksX0_cross_2 5 rfl rfl)
theorem dX0_cross_53 : decode cX0_cross 53 = .ok (.aload_n 0, 1) := dk_42 (dk_at dksX0_cross_2 6 rfl rfl)
theorem dX0_cross_54 : decode cX0_cross 54 = .ok (.getfield 16, 3) := dk_180 0 16 (dk_at dksX0_cross_2 7 rfl rfl)
theorem dX0_cross_57 : decode cX0_cross 57 = .ok (.getfield 334, 3) := dk_180 1 78 (dk_at dksX0_cross_2 10 rfl rfl)
theorem dX0_cross_60 : decode cX0_cross 60 = .ok (.iconst 2, 1) := dk_5 (dk_at dksX0_cross_2 13 rfl rfl)
theorem dX0_cross_61 : decode cX0_cross 61 = .ok (.aload_n 0, 1) := dk_42 (dk_at dksX0_cross_2 14 rfl rfl)
theorem dX0_cross_62 : decode cX0_cross 62 = .ok (.getfield 16, 3) := dk_180 0 16 (dk_at dksX0_cross_2 15 rfl rfl)
theorem dX0_cross_65 : decode cX0_cross 65 = .ok (.getfield 331, 3) := dk_180 1 75 (dk_at dksX0_cross_2 18 rfl rfl)
theorem dX0_cross_68 : decode cX0_cross 68 = .ok (.imul, 1) := dk_104 (dk_at dksX0_cross_2 21 rfl rfl)
theorem dX0_cross_69 : decode cX0_cross 69 = .ok (.iload_n 1, 1) := dk_27 (dk_at dksX0_cross_2 22 rfl rfl)
theorem dX0_cross_70 : decode cX0_cross 70 = .ok (.iastore, 1) := dk_79 (dk_at dksX0_cross_2 23 rfl rfl)
theorem dX0_cross_71 : decode cX0_cross 71 = .ok (.aload_n 0, 1) := dk_42 (dk_at dksX0_cross_3 0 rfl rfl)
theorem dX0_cross_72 : decode cX0_cross 72 = .ok (.getfield 16, 3) := dk_180 0 16 (dk_at dksX0_cross_3 1 rfl rfl)
theorem dX0_cross_75 : decode cX0_cross 75 = .ok (.getfield 334, 3) := dk_180 1 78 (dk_at dksX0_cross_3 4 rfl rfl)
theorem dX0_cross_78 : decode cX0_cross 78 = .ok (.iconst 2, 1) := dk_5 (dk_at dksX0_cross_3 7 rfl rfl)
theorem dX0_cross_79 : decode cX0_cross 79 = .ok (.aload_n 0, 1) := dk_42 (dk_at dksX0_cross_3 8 rfl rfl)
theorem dX0_cross_80 : decode cX0_cross 80 = .ok (.getfield 16, 3) := dk_180 0 16 (dk_at dksX0_cross_3 9 rfl rfl)
theorem dX0_cross_83 : decode cX0_cross 83 = .ok (.getfield 331, 3) := dk_180 1 75 (dk_at dksX0_cross_3 12 rfl rfl)
theorem dX0_cross_86 : decode cX0_cross 86 = .ok (.imul, 1) := dk_104 (dk_at dksX0_cross_3 15 rfl rfl)
theorem dX0_cross_87 : decode cX0_cross 87 = .ok (.iconst 1, 1) := dk_4 (dk_at dksX0_cross_3 16 rfl rfl)
theorem dX0_cross_88 : decode cX0_cross 88 = .ok (.iadd, 1) := dk_96 (dk_at dksX0_cross_3 17 rfl rfl)
theorem dX0_cross_89 : decode cX0_cross 89 = .ok (.iload_n 2, 1) := dk_28 (dk_at dksX0_cross_3 18 rfl rfl)
theorem dX0_cross_90 : decode cX0_cross 90 = .ok (.iastore, 1) := dk_79 (dk_at dksX0_cross_3 19 rfl rfl)
theorem dX0_cross_91 : decode cX0_cross 91 = .ok (.aload_n 0, 1) := dk_42 (dk_at dksX0_cross_3 20 rfl rfl)
theorem dX0_cross_92 : decode cX0_cross 92 = .ok (.getfield 16, 3) := dk_180 0 16 (dk_at dksX0_cross_3 21 rfl rfl)
theorem dX0_cross_95 : decode cX0_cross 95 = .ok (.dup, 1) := dk_89 (dk_at dksX0_cross_4 0 rfl rfl)
theorem dX0_cross_96 : decode cX0_cross 96 = .ok (.getfield 331, 3) := dk_180 1 75 (dk_at dksX0_cross_4 1 rfl rfl)
theorem dX0_cross_99 : decode cX0_cross 99 = .ok (.iconst 1, 1) := dk_4 (dk_at dksX0_cross_4 4 rfl rfl)
theorem dX0_cross_100 : decode cX0_cross 100 = .ok (.iadd, 1) := dk_96 (dk_at dksX0_cross_4 5 rfl rfl)
theorem dX0_cross_101 : decode cX0_cross 101 = .ok (.putfield 331, 3) := dk_181 1 75 (dk_at dksX0_cross_4 6 rfl rfl)
theorem dX0_cross_104 : decode cX0_cross 104 = .ok (.aload_n 0, 1) := dk_42 (dk_at dksX0_cross_4 9 rfl rfl)
theorem dX0_cross_105 : decode cX0_cross 105 = .ok (.aload_n 0, 1) := dk_42 (dk_at dksX0_cross_4 10 rfl rfl)
theorem dX0_cross_106 : decode cX0_cross 106 = .ok (.getfield 16, 3) := dk_180 0 16 (dk_at dksX0_cross_4 11 rfl rfl)
theorem dX0_cross_109 : decode cX0_cross 109 = .ok (.getfield 331, 3) := dk_180 1 75 (dk_at dksX0_cross_4 14 rfl rfl)
theorem dX0_cross_112 : decode cX0_cross 112 = .ok (.invokevirtual 129, 3) := dk_182 0 129 (dk_at dksX0_cross_4 17 rfl rfl)
theorem dX0_cross_115 : decode cX0_cross 115 = .ok (.ireturn, 1) := dk_172 (dk_at dksX0_cross_4 20 rfl rfl)
abbrev cX0_drop : ByteArray := prog_1_method_53_code
def yX0_drop : MethodName := ⟨RX0, "drop", "(I)I"⟩
def dkwX0_drop_3 : List UInt8 := [180, 0, 16, 89, 180, 1, 75, 4, 100, 181, 1, 75, 42, 42, 180, 0, 16, 180, 1, 75, 182, 0, 129, 172]
abbrev dktX0_drop_3 : List UInt8 := dkwX0_drop_3 ++ []
def dkwX0_drop_2 : List UInt8 := [180, 1, 78, 28, 42, 180, 0, 16, 180, 1, 78, 28, 5, 96, 46, 79, 132, 2, 1, 167, 255, 218, 42]
abbrev dktX0_drop_2 : List UInt8 := dkwX0_drop_2 ++ dktX0_drop_3
def dkwX0_drop_1 : List UInt8 := [5, 27, 104, 61, 28, 5, 96, 5, 42, 180, 0, 16, 180, 1, 75, 104, 162, 0, 29, 42, 180, 0, 16]
abbrev dktX0_drop_1 : List UInt8 := dkwX0_drop_1 ++ dktX0_drop_2
def dkwX0_drop_0 : List UInt8 := [27, 3, 42, 180, 0, 16, 180, 1, 75, 4, 100, 184, 0, 112, 154, 0, 10, 42, 16, 254, 182, 0, 122, 172]
abbrev dktX0_drop_0 : List UInt8 := dkwX0_drop_0 ++ dktX0_drop_1
theorem dksX0_drop_0 : cX0_drop.data.toList.drop 0 = dktX0_drop_0 := by decide +kernel
theorem dksX0_drop_1 : cX0_drop.data.toList.drop 24 = dktX0_drop_1 := dk_seg dksX0_drop_0 24 rfl rfl
theorem dksX0_drop_2 : cX0_drop.data.toList.drop 47 = dktX0_drop_2 := dk_seg dksX0_drop_1 23 rfl rfl
theorem dksX0_drop_3 : cX0_drop.data.toList.drop 70 = dktX0_drop_3 := dk_seg dksX0_drop_2 23 rfl rfl
theorem dX0_drop_0 : decode cX0_drop 0 = .ok (.iload_n 1, 1) := dk_27 (dk_at dksX0_drop_0 0 rfl rfl)
theorem dX0_drop_1 : decode cX0_drop 1 = .ok (.iconst 0, 1) := dk_3 (dk_at dksX0_drop_0 1 rfl rfl)
theorem dX0_drop_2 : decode cX0_drop 2 = .ok (.aload_n 0, 1) := dk_42 (dk_at dksX0_drop_0 2 rfl rfl)
theorem dX0_drop_3 : decode cX0_drop 3 = .ok (.getfield 16, 3) := dk_180 0 16 (dk_at dksX0_drop_0 3 rfl rfl)
theorem dX0_drop_6 : decode cX0_drop 6 = .ok (.getfield 331, 3) := dk_180 1 75 (dk_at dksX0_drop_0 6 rfl rfl)
theorem dX0_drop_9 : decode cX0_drop 9 = .ok (.iconst 1, 1) := dk_4 (dk_at dksX0_drop_0 9 rfl rfl)
theorem dX0_drop_10 : decode cX0_drop 10 = .ok (.isub, 1) := dk_100 (dk_at dksX0_drop_0 10 rfl rfl)
theorem dX0_drop_11 : decode cX0_drop 11 = .ok (.invokestatic 112, 3) := dk_184 0 112 (dk_at dksX0_drop_0 11 rfl rfl)
theorem dX0_drop_14 : decode cX0_drop 14 = .ok (.ifCond .ne 10, 3) := dk_154 0 10 (dk_at dksX0_drop_0 14 rfl rfl)
theorem dX0_drop_17 : decode cX0_drop 17 = .ok (.aload_n 0, 1) := dk_42 (dk_at dksX0_drop_0 17 rfl rfl)
theorem dX0_drop_18 : decode cX0_drop 18 = .ok (.bipush (-2), 2) := dk_16 254 (dk_at dksX0_drop_0 18 rfl rfl)
theorem dX0_drop_20 : decode cX0_drop 20 = .ok (.invokevirtual 122, 3) := dk_182 0 122 (dk_at dksX0_drop_0 20 rfl rfl)
theorem dX0_drop_23 : decode cX0_drop 23 = .ok (.ireturn, 1) := dk_172 (dk_at dksX0_drop_0 23 rfl rfl)
theorem dX0_drop_24 : decode cX0_drop 24 = .ok (.iconst 2, 1) := dk_5 (dk_at dksX0_drop_1 0 rfl rfl)
theorem dX0_drop_25 : decode cX0_drop 25 = .ok (.iload_n 1, 1) := dk_27 (dk_at dksX0_drop_1 1 rfl rfl)
theorem dX0_drop_26 : decode cX0_drop 26 = .ok (.imul, 1) := dk_104 (dk_at dksX0_drop_1 2 rfl rfl)
theorem dX0_drop_27 : decode cX0_drop 27 = .ok (.istore_n 2, 1) := dk_61 (dk_at dksX0_drop_1 3 rfl rfl)
theorem dX0_drop_28 : decode cX0_drop 28 = .ok (.iload_n 2, 1) := dk_28 (dk_at dksX0_drop_1 4 rfl rfl)
theorem dX0_drop_29 : decode cX0_drop 29 = .ok (.iconst 2, 1) := dk_5 (dk_at dksX0_drop_1 5 rfl rfl)
theorem dX0_drop_30 : decode cX0_drop 30 = .ok (.iadd, 1) := dk_96 (dk_at dksX0_drop_1 6 rfl rfl)
theorem dX0_drop_31 : decode cX0_drop 31 = .ok (.iconst 2, 1) := dk_5 (dk_at dksX0_drop_1 7 rfl rfl)
theorem dX0_drop_32 : decode cX0_drop 32 = .ok (.aload_n 0, 1) := dk_42 (dk_at dksX0_drop_1 8 rfl rfl)
theorem dX0_drop_33 : decode cX0_drop 33 = .ok (.getfield 16, 3) := dk_180 0 16 (dk_at dksX0_drop_1 9 rfl rfl)
theorem dX0_drop_36 : decode cX0_drop 36 = .ok (.getfield 331, 3) := dk_180 1 75 (dk_at dksX0_drop_1 12 rfl rfl)
theorem dX0_drop_39 : decode cX0_drop 39 = .ok (.imul, 1) := dk_104 (dk_at dksX0_drop_1 15 rfl rfl)
theorem dX0_drop_40 : decode cX0_drop 40 = .ok (.if_icmp .ge 29, 3) := dk_162 0 29 (dk_at dksX0_drop_1 16 rfl rfl)
theorem dX0_drop_43 : decode cX0_drop 43 = .ok (.aload_n 0, 1) := dk_42 (dk_at dksX0_drop_1 19 rfl rfl)
theorem dX0_drop_44 : decode cX0_drop 44 = .ok (.getfield 16, 3) := dk_180 0 16 (dk_at dksX0_drop_1 20 rfl rfl)
theorem dX0_drop_47 : decode cX0_drop 47 = .ok (.getfield 334, 3) := dk_180 1 78 (dk_at dksX0_drop_2 0 rfl rfl)
theorem dX0_drop_50 : decode cX0_drop 50 = .ok (.iload_n 2, 1) := dk_28 (dk_at dksX0_drop_2 3 rfl rfl)
theorem dX0_drop_51 : decode cX0_drop 51 = .ok (.aload_n 0, 1) := dk_42 (dk_at dksX0_drop_2 4 rfl rfl)
theorem dX0_drop_52 : decode cX0_drop 52 = .ok (.getfield 16, 3) := dk_180 0 16 (dk_at dksX0_drop_2 5 rfl rfl)
theorem dX0_drop_55 : decode cX0_drop 55 = .ok (.getfield 334, 3) := dk_180 1 78 (dk_at dksX0_drop_2 8 rfl rfl)
theorem dX0_drop_58 : decode cX0_drop 58 = .ok (.iload_n 2, 1) := dk_28 (dk_at dksX0_drop_2 11 rfl rfl)
theorem dX0_drop_59 : decode cX0_drop 59 = .ok (.iconst 2, 1) := dk_5 (dk_at dksX0_drop_2 12 rfl rfl)
theorem dX0_drop_60 : decode cX0_drop 60 = .ok (.iadd, 1) := dk_96 (dk_at dksX0_drop_2 13 rfl rfl)
theorem dX0_drop_61 : decode cX0_drop 61 = .ok (.iaload, 1) := dk_46 (dk_at dksX0_drop_2 14 rfl rfl)
theorem dX0_drop_62 : decode cX0_drop 62 = .ok (.iastore, 1) := dk_79 (dk_at dksX0_drop_2 15 rfl rfl)
theorem dX0_drop_63 : decode cX0_drop 63 = .ok (.iinc 2 1, 3) := dk_132 2 1 (dk_at dksX0_drop_2 16 rfl rfl)
theorem dX0_drop_66 : decode cX0_drop 66 = .ok (.goto (-38), 3) := dk_167 255 218 (dk_at dksX0_drop_2 19 rfl rfl)
theorem dX0_drop_69 : decode cX0_drop 69 = .ok (.aload_n 0, 1) := dk_42 (dk_at dksX0_drop_2 22 rfl rfl)
theorem dX0_drop_70 : decode cX0_drop 70 = .ok (.getfield 16, 3) := dk_180 0 16 (dk_at dksX0_drop_3 0 rfl rfl)
theorem dX0_drop_73 : decode cX0_drop 73 = .ok (.dup, 1) := dk_89 (dk_at dksX0_drop_3 3 rfl rfl)
theorem dX0_drop_74 : decode cX0_drop 74 = .ok (.getfield 331, 3) := dk_180 1 75 (dk_at dksX0_drop_3 4 rfl rfl)
theorem dX0_drop_77 : decode cX0_drop 77 = .ok (.iconst 1, 1) := dk_4 (dk_at dksX0_drop_3 7 rfl rfl)
theorem dX0_drop_78 : decode cX0_drop 78 = .ok (.isub, 1) := dk_100 (dk_at dksX0_drop_3 8 rfl rfl)
theorem dX0_drop_79 : decode cX0_drop 79 = .ok (.putfield 331, 3) := dk_181 1 75 (dk_at dksX0_drop_3 9 rfl rfl)
theorem dX0_drop_82 : decode cX0_drop 82 = .ok (.aload_n 0, 1) := dk_42 (dk_at dksX0_drop_3 12 rfl rfl)
theorem dX0_drop_83 : decode cX0_drop 83 = .ok (.aload_n 0, 1) := dk_42 (dk_at dksX0_drop_3 13 rfl rfl)
theorem dX0_drop_84 : decode cX0_drop 84 = .ok (.getfield 16, 3) := dk_180 0 16 (dk_at dksX0_drop_3 14 rfl rfl)
theorem dX0_drop_87 : decode cX0_drop 87 = .ok (.getfield 331, 3) := dk_180 1 75 (dk_at dksX0_drop_3 17 rfl rfl)
theorem dX0_drop_90 : decode cX0_drop 90 = .ok (.invokevirtual 129, 3) := dk_182 0 129 (dk_at dksX0_drop_3 20 rfl rfl)
theorem dX0_drop_93 : decode cX0_drop 93 = .ok (.ireturn, 1) := dk_172 (dk_at dksX0_drop_3 23 rfl rfl)
abbrev cX0_orders : ByteArray := prog_1_method_54_code
def yX0_orders : MethodName := ⟨RX0, "orders", "(I)I"⟩
def dkwX0_orders_2 : List UInt8 := [27, 46, 167, 0, 4, 2, 172]
abbrev dktX0_orders_2 : List UInt8 := dkwX0_orders_2 ++ []
def dkwX0_orders_1 : List UInt8 := [180, 0, 87, 180, 1, 82, 158, 0, 23, 42, 27, 182, 0, 158, 153, 0, 15, 42, 180, 0, 87, 180, 1, 83]
abbrev dktX0_orders_1 : List UInt8 := dkwX0_orders_1 ++ dktX0_orders_2
def dkwX0_orders_0 : List UInt8 := [42, 180, 0, 87, 182, 1, 81, 27, 2, 160, 0, 13, 42, 180, 0, 87, 180, 1, 82, 167, 0, 34, 42]
abbrev dktX0_orders_0 : List UInt8 := dkwX0_orders_0 ++ dktX0_orders_1
theorem dksX0_orders_0 : cX0_orders.data.toList.drop 0 = dktX0_orders_0 := by decide +kernel
theorem dksX0_orders_1 : cX0_orders.data.toList.drop 23 = dktX0_orders_1 := dk_seg dksX0_orders_0 23 rfl rfl
theorem dksX0_orders_2 : cX0_orders.data.toList.drop 47 = dktX0_orders_2 := dk_seg dksX0_orders_1 24 rfl rfl
theorem dX0_orders_0 : decode cX0_orders 0 = .ok (.aload_n 0, 1) := dk_42 (dk_at dksX0_orders_0 0 rfl rfl)
theorem dX0_orders_1 : decode cX0_orders 1 = .ok (.getfield 87, 3) := dk_180 0 87 (dk_at dksX0_orders_0 1 rfl rfl)
theorem dX0_orders_4 : decode cX0_orders 4 = .ok (.invokevirtual 337, 3) := dk_182 1 81 (dk_at dksX0_orders_0 4 rfl rfl)
theorem dX0_orders_7 : decode cX0_orders 7 = .ok (.iload_n 1, 1) := dk_27 (dk_at dksX0_orders_0 7 rfl rfl)
theorem dX0_orders_8 : decode cX0_orders 8 = .ok (.iconst (-1), 1) := dk_2 (dk_at dksX0_orders_0 8 rfl rfl)
theorem dX0_orders_9 : decode cX0_orders 9 = .ok (.if_icmp .ne 13, 3) := dk_160 0 13 (dk_at dksX0_orders_0 9 rfl rfl)
theorem dX0_orders_12 : decode cX0_orders 12 = .ok (.aload_n 0, 1) := dk_42 (dk_at dksX0_orders_0 12 rfl rfl)
theorem dX0_orders_13 : decode cX0_orders 13 = .ok (.getfield 87, 3) := dk_180 0 87 (dk_at dksX0_orders_0 13 rfl rfl)
theorem dX0_orders_16 : decode cX0_orders 16 = .ok (.getfield 338, 3) := dk_180 1 82 (dk_at dksX0_orders_0 16 rfl rfl)
theorem dX0_orders_19 : decode cX0_orders 19 = .ok (.goto 34, 3) := dk_167 0 34 (dk_at dksX0_orders_0 19 rfl rfl)
theorem dX0_orders_22 : decode cX0_orders 22 = .ok (.aload_n 0, 1) := dk_42 (dk_at dksX0_orders_0 22 rfl rfl)
theorem dX0_orders_23 : decode cX0_orders 23 = .ok (.getfield 87, 3) := dk_180 0 87 (dk_at dksX0_orders_1 0 rfl rfl)
theorem dX0_orders_26 : decode cX0_orders 26 = .ok (.getfield 338, 3) := dk_180 1 82 (dk_at dksX0_orders_1 3 rfl rfl)
theorem dX0_orders_29 : decode cX0_orders 29 = .ok (.ifCond .le 23, 3) := dk_158 0 23 (dk_at dksX0_orders_1 6 rfl rfl)
theorem dX0_orders_32 : decode cX0_orders 32 = .ok (.aload_n 0, 1) := dk_42 (dk_at dksX0_orders_1 9 rfl rfl)
theorem dX0_orders_33 : decode cX0_orders 33 = .ok (.iload_n 1, 1) := dk_27 (dk_at dksX0_orders_1 10 rfl rfl)
theorem dX0_orders_34 : decode cX0_orders 34 = .ok (.invokevirtual 158, 3) := dk_182 0 158 (dk_at dksX0_orders_1 11 rfl rfl)
theorem dX0_orders_37 : decode cX0_orders 37 = .ok (.ifCond .eq 15, 3) := dk_153 0 15 (dk_at dksX0_orders_1 14 rfl rfl)
theorem dX0_orders_40 : decode cX0_orders 40 = .ok (.aload_n 0, 1) := dk_42 (dk_at dksX0_orders_1 17 rfl rfl)
theorem dX0_orders_41 : decode cX0_orders 41 = .ok (.getfield 87, 3) := dk_180 0 87 (dk_at dksX0_orders_1 18 rfl rfl)
theorem dX0_orders_44 : decode cX0_orders 44 = .ok (.getfield 339, 3) := dk_180 1 83 (dk_at dksX0_orders_1 21 rfl rfl)
theorem dX0_orders_47 : decode cX0_orders 47 = .ok (.iload_n 1, 1) := dk_27 (dk_at dksX0_orders_2 0 rfl rfl)
theorem dX0_orders_48 : decode cX0_orders 48 = .ok (.iaload, 1) := dk_46 (dk_at dksX0_orders_2 1 rfl rfl)
theorem dX0_orders_49 : decode cX0_orders 49 = .ok (.goto 4, 3) := dk_167 0 4 (dk_at dksX0_orders_2 2 rfl rfl)
theorem dX0_orders_52 : decode cX0_orders 52 = .ok (.iconst (-1), 1) := dk_2 (dk_at dksX0_orders_2 5 rfl rfl)
theorem dX0_orders_53 : decode cX0_orders 53 = .ok (.ireturn, 1) := dk_172 (dk_at dksX0_orders_2 6 rfl rfl)
abbrev cX0_sure : ByteArray := prog_1_method_55_code
def yX0_sure : MethodName := ⟨RX0, "sure", "(I)I"⟩
def dkwX0_sure_2 : List UInt8 := [160, 0, 10, 28, 184, 1, 90, 167, 0, 4, 2, 172]
abbrev dktX0_sure_2 : List UInt8 := dkwX0_sure_2 ++ []
def dkwX0_sure_1 : List UInt8 := [180, 0, 87, 180, 1, 84, 167, 0, 10, 42, 180, 0, 87, 180, 1, 87, 61, 28, 184, 1, 57, 4]
abbrev dktX0_sure_1 : List UInt8 := dkwX0_sure_1 ++ dktX0_sure_2
def dkwX0_sure_0 : List UInt8 := [27, 3, 4, 184, 0, 112, 154, 0, 5, 2, 172, 42, 180, 0, 87, 182, 1, 81, 27, 154, 0, 13, 42]
abbrev dktX0_sure_0 : List UInt8 := dkwX0_sure_0 ++ dktX0_sure_1
theorem dksX0_sure_0 : cX0_sure.data.toList.drop 0 = dktX0_sure_0 := by decide +kernel
theorem dksX0_sure_1 : cX0_sure.data.toList.drop 23 = dktX0_sure_1 := dk_seg dksX0_sure_0 23 rfl rfl
theorem dksX0_sure_2 : cX0_sure.data.toList.drop 45 = dktX0_sure_2 := dk_seg dksX0_sure_1 22 rfl rfl
theorem dX0_sure_0 : decode cX0_sure 0 = .ok (.iload_n 1, 1) := dk_27 (dk_at dksX0_sure_0 0 rfl rfl)
theorem dX0_sure_1 : decode cX0_sure 1 = .ok (.iconst 0, 1) := dk_3 (dk_at dksX0_sure_0 1 rfl rfl)
theorem dX0_sure_2 : decode cX0_sure 2 = .ok (.iconst 1, 1) := dk_4 (dk_at dksX0_sure_0 2 rfl rfl)
theorem dX0_sure_3 : decode cX0_sure 3 = .ok (.invokestatic 112, 3) := dk_184 0 112 (dk_at dksX0_sure_0 3 rfl rfl)
theorem dX0_sure_6 : decode cX0_sure 6 = .ok (.ifCond .ne 5, 3) := dk_154 0 5 (dk_at dksX0_sure_0 6 rfl rfl)
theorem dX0_sure_9 : decode cX0_sure 9 = .ok (.iconst (-1), 1) := dk_2 (dk_at dksX0_sure_0 9 rfl rfl)
theorem dX0_sure_10 : decode cX0_sure 10 = .ok (.ireturn, 1) := dk_172 (dk_at dksX0_sure_0 10 rfl rfl)
theorem dX0_sure_11 : decode cX0_sure 11 = .ok (.aload_n 0, 1) := dk_42 (dk_at dksX0_sure_0 11 rfl rfl)
theorem dX0_sure_12 : decode cX0_sure 12 = .ok (.getfield 87, 3) := dk_180 0 87 (dk_at dksX0_sure_0 12 rfl rfl)
theorem dX0_sure_15 : decode cX0_sure 15 = .ok (.invokevirtual 337, 3) := dk_182 1 81 (dk_at dksX0_sure_0 15 rfl rfl)
theorem dX0_sure_18 : decode cX0_sure 18 = .ok (.iload_n 1, 1) := dk_27 (dk_at dksX0_sure_0 18 rfl rfl)
theorem dX0_sure_19 : decode cX0_sure 19 = .ok (.ifCond .ne 13, 3) := dk_154 0 13 (dk_at dksX0_sure_0 19 rfl rfl)
theorem dX0_sure_22 : decode cX0_sure 22 = .ok (.aload_n 0, 1) := dk_42 (dk_at dksX0_sure_0 22 rfl rfl)
theorem dX0_sure_23 : decode cX0_sure 23 = .ok (.getfield 87, 3) := dk_180 0 87 (dk_at dksX0_sure_1 0 rfl rfl)
theorem dX0_sure_26 : decode cX0_sure 26 = .ok (.getfield 340, 3) := dk_180 1 84 (dk_at dksX0_sure_1 3 rfl rfl)
theorem dX0_sure_29 : decode cX0_sure 29 = .ok (.goto 10, 3) := dk_167 0 10 (dk_at dksX0_sure_1 6 rfl rfl)
theorem dX0_sure_32 : decode cX0_sure 32 = .ok (.aload_n 0, 1) := dk_42 (dk_at dksX0_sure_1 9 rfl rfl)
theorem dX0_sure_33 : decode cX0_sure 33 = .ok (.getfield 87, 3) := dk_180 0 87 (dk_at dksX0_sure_1 10 rfl rfl)
theorem dX0_sure_36 : decode cX0_sure 36 = .ok (.getfield 343, 3) := dk_180 1 87 (dk_at dksX0_sure_1 13 rfl rfl)
theorem dX0_sure_39 : decode cX0_sure 39 = .ok (.istore_n 2, 1) := dk_61 (dk_at dksX0_sure_1 16 rfl rfl)
theorem dX0_sure_40 : decode cX0_sure 40 = .ok (.iload_n 2, 1) := dk_28 (dk_at dksX0_sure_1 17 rfl rfl)
theorem dX0_sure_41 : decode cX0_sure 41 = .ok (.invokestatic 313, 3) := dk_184 1 57 (dk_at dksX0_sure_1 18 rfl rfl)
theorem dX0_sure_44 : decode cX0_sure 44 = .ok (.iconst 1, 1) := dk_4 (dk_at dksX0_sure_1 21 rfl rfl)
theorem dX0_sure_45 : decode cX0_sure 45 = .ok (.if_icmp .ne 10, 3) := dk_160 0 10 (dk_at dksX0_sure_2 0 rfl rfl)
theorem dX0_sure_48 : decode cX0_sure 48 = .ok (.iload_n 2, 1) := dk_28 (dk_at dksX0_sure_2 3 rfl rfl)
theorem dX0_sure_49 : decode cX0_sure 49 = .ok (.invokestatic 346, 3) := dk_184 1 90 (dk_at dksX0_sure_2 4 rfl rfl)
theorem dX0_sure_52 : decode cX0_sure 52 = .ok (.goto 4, 3) := dk_167 0 4 (dk_at dksX0_sure_2 7 rfl rfl)
theorem dX0_sure_55 : decode cX0_sure 55 = .ok (.iconst (-1), 1) := dk_2 (dk_at dksX0_sure_2 10 rfl rfl)
theorem dX0_sure_56 : decode cX0_sure 56 = .ok (.ireturn, 1) := dk_172 (dk_at dksX0_sure_2 11 rfl rfl)
abbrev cX0_ahead : ByteArray := prog_1_method_56_code
def yX0_ahead : MethodName := ⟨RX0, "ahead", "(II)I"⟩
def dkwX0_ahead_1 : List UInt8 := [180, 0, 87, 182, 1, 81, 42, 180, 0, 87, 180, 1, 93, 16, 6, 27, 104, 28, 96, 46, 172]
abbrev dktX0_ahead_1 : List UInt8 := dkwX0_ahead_1 ++ []
def dkwX0_ahead_0 : List UInt8 := [42, 27, 182, 0, 158, 153, 0, 16, 42, 28, 182, 0, 158, 153, 0, 8, 27, 28, 160, 0, 5, 2, 172, 42]
abbrev dktX0_ahead_0 : List UInt8 := dkwX0_ahead_0 ++ dktX0_ahead_1
theorem dksX0_ahead_0 : cX0_ahead.data.toList.drop 0 = dktX0_ahead_0 := by decide +kernel
theorem dksX0_ahead_1 : cX0_ahead.data.toList.drop 24 = dktX0_ahead_1 := dk_seg dksX0_ahead_0 24 rfl rfl
theorem dX0_ahead_0 : decode cX0_ahead 0 = .ok (.aload_n 0, 1) := dk_42 (dk_at dksX0_ahead_0 0 rfl rfl)
theorem dX0_ahead_1 : decode cX0_ahead 1 = .ok (.iload_n 1, 1) := dk_27 (dk_at dksX0_ahead_0 1 rfl rfl)
theorem dX0_ahead_2 : decode cX0_ahead 2 = .ok (.invokevirtual 158, 3) := dk_182 0 158 (dk_at dksX0_ahead_0 2 rfl rfl)
theorem dX0_ahead_5 : decode cX0_ahead 5 = .ok (.ifCond .eq 16, 3) := dk_153 0 16 (dk_at dksX0_ahead_0 5 rfl rfl)
theorem dX0_ahead_8 : decode cX0_ahead 8 = .ok (.aload_n 0, 1) := dk_42 (dk_at dksX0_ahead_0 8 rfl rfl)
theorem dX0_ahead_9 : decode cX0_ahead 9 = .ok (.iload_n 2, 1) := dk_28 (dk_at dksX0_ahead_0 9 rfl rfl)
theorem dX0_ahead_10 : decode cX0_ahead 10 = .ok (.invokevirtual 158, 3) := dk_182 0 158 (dk_at dksX0_ahead_0 10 rfl rfl)
theorem dX0_ahead_13 : decode cX0_ahead 13 = .ok (.ifCond .eq 8, 3) := dk_153 0 8 (dk_at dksX0_ahead_0 13 rfl rfl)
theorem dX0_ahead_16 : decode cX0_ahead 16 = .ok (.iload_n 1, 1) := dk_27 (dk_at dksX0_ahead_0 16 rfl rfl)
theorem dX0_ahead_17 : decode cX0_ahead 17 = .ok (.iload_n 2, 1) := dk_28 (dk_at dksX0_ahead_0 17 rfl rfl)
theorem dX0_ahead_18 : decode cX0_ahead 18 = .ok (.if_icmp .ne 5, 3) := dk_160 0 5 (dk_at dksX0_ahead_0 18 rfl rfl)
theorem dX0_ahead_21 : decode cX0_ahead 21 = .ok (.iconst (-1), 1) := dk_2 (dk_at dksX0_ahead_0 21 rfl rfl)
theorem dX0_ahead_22 : decode cX0_ahead 22 = .ok (.ireturn, 1) := dk_172 (dk_at dksX0_ahead_0 22 rfl rfl)
theorem dX0_ahead_23 : decode cX0_ahead 23 = .ok (.aload_n 0, 1) := dk_42 (dk_at dksX0_ahead_0 23 rfl rfl)
theorem dX0_ahead_24 : decode cX0_ahead 24 = .ok (.getfield 87, 3) := dk_180 0 87 (dk_at dksX0_ahead_1 0 rfl rfl)
theorem dX0_ahead_27 : decode cX0_ahead 27 = .ok (.invokevirtual 337, 3) := dk_182 1 81 (dk_at dksX0_ahead_1 3 rfl rfl)
theorem dX0_ahead_30 : decode cX0_ahead 30 = .ok (.aload_n 0, 1) := dk_42 (dk_at dksX0_ahead_1 6 rfl rfl)
theorem dX0_ahead_31 : decode cX0_ahead 31 = .ok (.getfield 87, 3) := dk_180 0 87 (dk_at dksX0_ahead_1 7 rfl rfl)
theorem dX0_ahead_34 : decode cX0_ahead 34 = .ok (.getfield 349, 3) := dk_180 1 93 (dk_at dksX0_ahead_1 10 rfl rfl)
theorem dX0_ahead_37 : decode cX0_ahead 37 = .ok (.bipush 6, 2) := dk_16 6 (dk_at dksX0_ahead_1 13 rfl rfl)
theorem dX0_ahead_39 : decode cX0_ahead 39 = .ok (.iload_n 1, 1) := dk_27 (dk_at dksX0_ahead_1 15 rfl rfl)
theorem dX0_ahead_40 : decode cX0_ahead 40 = .ok (.imul, 1) := dk_104 (dk_at dksX0_ahead_1 16 rfl rfl)
theorem dX0_ahead_41 : decode cX0_ahead 41 = .ok (.iload_n 2, 1) := dk_28 (dk_at dksX0_ahead_1 17 rfl rfl)
theorem dX0_ahead_42 : decode cX0_ahead 42 = .ok (.iadd, 1) := dk_96 (dk_at dksX0_ahead_1 18 rfl rfl)
theorem dX0_ahead_43 : decode cX0_ahead 43 = .ok (.iaload, 1) := dk_46 (dk_at dksX0_ahead_1 19 rfl rfl)
theorem dX0_ahead_44 : decode cX0_ahead 44 = .ok (.ireturn, 1) := dk_172 (dk_at dksX0_ahead_1 20 rfl rfl)
abbrev cX0_hunt : ByteArray := prog_1_method_58_code
def yX0_hunt : MethodName := ⟨RX0, "hunt", "(I)I"⟩
def dkwX0_hunt_8 : List UInt8 := [180, 1, 112, 184, 1, 57, 182, 0, 109, 172]
abbrev dktX0_hunt_8 : List UInt8 := dkwX0_hunt_8 ++ []
def dkwX0_hunt_7 : List UInt8 := [42, 180, 0, 94, 29, 28, 79, 132, 3, 1, 167, 255, 166, 132, 2, 1, 167, 255, 136, 42, 42, 180, 0, 91]
abbrev dktX0_hunt_7 : List UInt8 := dkwX0_hunt_7 ++ dktX0_hunt_8
def dkwX0_hunt_6 : List UInt8 := [182, 1, 118, 161, 0, 6, 167, 0, 25, 42, 180, 0, 91, 89, 180, 1, 112, 4, 29, 120, 128, 181, 1, 112]
abbrev dktX0_hunt_6 : List UInt8 := dkwX0_hunt_6 ++ dktX0_hunt_7
def dkwX0_hunt_5 : List UInt8 := [154, 0, 55, 42, 16, 100, 182, 1, 115, 42, 180, 0, 91, 29, 28, 42, 180, 0, 16, 180, 0, 170, 28, 46]
abbrev dktX0_hunt_5 : List UInt8 := dkwX0_hunt_5 ++ dktX0_hunt_6
def dkwX0_hunt_4 : List UInt8 := [180, 0, 91, 180, 0, 248, 29, 46, 2, 160, 0, 69, 42, 180, 0, 91, 180, 1, 112, 29, 184, 1, 45]
abbrev dktX0_hunt_4 : List UInt8 := dkwX0_hunt_4 ++ dktX0_hunt_5
def dkwX0_hunt_3 : List UInt8 := [28, 42, 180, 0, 16, 180, 0, 170, 28, 46, 182, 1, 109, 3, 62, 29, 42, 180, 1, 106, 162, 0, 88, 42]
abbrev dktX0_hunt_3 : List UInt8 := dkwX0_hunt_3 ++ dktX0_hunt_4
def dkwX0_hunt_2 : List UInt8 := [42, 180, 0, 94, 28, 2, 79, 132, 2, 1, 167, 255, 240, 3, 61, 28, 8, 162, 0, 121, 42, 180, 0, 91]
abbrev dktX0_hunt_2 : List UInt8 := dkwX0_hunt_2 ++ dktX0_hunt_3
def dkwX0_hunt_1 : List UInt8 := [180, 0, 16, 180, 0, 116, 181, 1, 106, 42, 180, 0, 91, 182, 0, 229, 3, 61, 28, 16, 6, 162, 0, 16]
abbrev dktX0_hunt_1 : List UInt8 := dkwX0_hunt_1 ++ dktX0_hunt_2
def dkwX0_hunt_0 : List UInt8 := [27, 3, 19, 1, 105, 184, 0, 112, 154, 0, 9, 42, 2, 182, 0, 122, 172, 42, 27, 181, 1, 96, 42, 42]
abbrev dktX0_hunt_0 : List UInt8 := dkwX0_hunt_0 ++ dktX0_hunt_1
theorem dksX0_hunt_0 : cX0_hunt.data.toList.drop 0 = dktX0_hunt_0 := by decide +kernel
theorem dksX0_hunt_1 : cX0_hunt.data.toList.drop 24 = dktX0_hunt_1 := dk_seg dksX0_hunt_0 24 rfl rfl
theorem dksX0_hunt_2 : cX0_hunt.data.toList.drop 48 = dktX0_hunt_2 := dk_seg dksX0_hunt_1 24 rfl rfl
theorem dksX0_hunt_3 : cX0_hunt.data.toList.drop 72 = dktX0_hunt_3 := dk_seg dksX0_hunt_2 24 rfl rfl
theorem dksX0_hunt_4 : cX0_hunt.data.toList.drop 96 = dktX0_hunt_4 := dk_seg dksX0_hunt_3 24 rfl rfl
theorem dksX0_hunt_5 : cX0_hunt.data.toList.drop 119 = dktX0_hunt_5 := dk_seg dksX0_hunt_4 23 rfl rfl
theorem dksX0_hunt_6 : cX0_hunt.data.toList.drop 143 = dktX0_hunt_6 := dk_seg dksX0_hunt_5 24 rfl rfl
theorem dksX0_hunt_7 : cX0_hunt.data.toList.drop 167 = dktX0_hunt_7 := dk_seg dksX0_hunt_6 24 rfl rfl
theorem dksX0_hunt_8 : cX0_hunt.data.toList.drop 191 = dktX0_hunt_8 := dk_seg dksX0_hunt_7 24 rfl rfl
theorem dX0_hunt_0 : decode cX0_hunt 0 = .ok (.iload_n 1, 1) := dk_27 (dk_at dksX0_hunt_0 0 rfl rfl)
theorem dX0_hunt_1 : decode cX0_hunt 1 = .ok (.iconst 0, 1) := dk_3 (dk_at dksX0_hunt_0 1 rfl rfl)
theorem dX0_hunt_2 : decode cX0_hunt 2 = .ok (.ldc_w 361, 3) := dk_19 1 105 (dk_at dksX0_hunt_0 2 rfl rfl)
theorem dX0_hunt_5 : decode cX0_hunt 5 = .ok (.invokestatic 112, 3) := dk_184 0 112 (dk_at dksX0_hunt_0 5 rfl rfl)
theorem dX0_hunt_8 : decode cX0_hunt 8 = .ok (.ifCond .ne 9, 3) := dk_154 0 9 (dk_at dksX0_hunt_0 8 rfl rfl)
theorem dX0_hunt_11 : decode cX0_hunt 11 = .ok (.aload_n 0, 1) := dk_42 (dk_at dksX0_hunt_0 11 rfl rfl)
theorem dX0_hunt_12 : decode cX0_hunt 12 = .ok (.iconst (-1), 1) := dk_2 (dk_at dksX0_hunt_0 12 rfl rfl)
theorem dX0_hunt_13 : decode cX0_hunt 13 = .ok (.invokevirtual 122, 3) := dk_182 0 122 (dk_at dksX0_hunt_0 13 rfl rfl)
theorem dX0_hunt_16 : decode cX0_hunt 16 = .ok (.ireturn, 1) := dk_172 (dk_at dksX0_hunt_0 16 rfl rfl)
theorem dX0_hunt_17 : decode cX0_hunt 17 = .ok (.aload_n 0, 1) := dk_42 (dk_at dksX0_hunt_0 17 rfl rfl)
theorem dX0_hunt_18 : decode cX0_hunt 18 = .ok (.iload_n 1, 1) := dk_27 (dk_at dksX0_hunt_0 18 rfl rfl)
theorem dX0_hunt_19 : decode cX0_hunt 19 = .ok (.putfield 352, 3) := dk_181 1 96 (dk_at dksX0_hunt_0 19 rfl rfl)
theorem dX0_hunt_22 : decode cX0_hunt 22 = .ok (.aload_n 0, 1) := dk_42 (dk_at dksX0_hunt_0 22 rfl rfl)
theorem dX0_hunt_23 : decode cX0_hunt 23 = .ok (.aload_n 0, 1) := dk_42 (dk_at dksX0_hunt_0 23 rfl rfl)
theorem dX0_hunt_24 : decode cX0_hunt 24 = .ok (.getfield 16, 3) := dk_180 0 16 (dk_at dksX0_hunt_1 0 rfl rfl)
theorem dX0_hunt_27 : decode cX0_hunt 27 = .ok (.getfield 116, 3) := dk_180 0 116 (dk_at dksX0_hunt_1 3 rfl rfl)
theorem dX0_hunt_30 : decode cX0_hunt 30 = .ok (.putfield 362, 3) := dk_181 1 106 (dk_at dksX0_hunt_1 6 rfl rfl)
theorem dX0_hunt_33 : decode cX0_hunt 33 = .ok (.aload_n 0, 1) := dk_42 (dk_at dksX0_hunt_1 9 rfl rfl)
theorem dX0_hunt_34 : decode cX0_hunt 34 = .ok (.getfield 91, 3) := dk_180 0 91 (dk_at dksX0_hunt_1 10 rfl rfl)
theorem dX0_hunt_37 : decode cX0_hunt 37 = .ok (.invokevirtual 229, 3) := dk_182 0 229 (dk_at dksX0_hunt_1 13 rfl rfl)
theorem dX0_hunt_40 : decode cX0_hunt 40 = .ok (.iconst 0, 1) := dk_3 (dk_at dksX0_hunt_1 16 rfl rfl)
theorem dX0_hunt_41 : decode cX0_hunt 41 = .ok (.istore_n 2, 1) := dk_61 (dk_at dksX0_hunt_1 17 rfl rfl)
theorem dX0_hunt_42 : decode cX0_hunt 42 = .ok (.iload_n 2, 1) := dk_28 (dk_at dksX0_hunt_1 18 rfl rfl)
theorem dX0_hunt_43 : decode cX0_hunt 43 = .ok (.bipush 6, 2) := dk_16 6 (dk_at dksX0_hunt_1 19 rfl rfl)
theorem dX0_hunt_45 : decode cX0_hunt 45 = .ok (.if_icmp .ge 16, 3) := dk_162 0 16 (dk_at dksX0_hunt_1 21 rfl rfl)
theorem dX0_hunt_48 : decode cX0_hunt 48 = .ok (.aload_n 0, 1) := dk_42 (dk_at dksX0_hunt_2 0 rfl rfl)
theorem dX0_hunt_49 : decode cX0_hunt 49 = .ok (.getfield 94, 3) := dk_180 0 94 (dk_at dksX0_hunt_2 1 rfl rfl)
theorem dX0_hunt_52 : decode cX0_hunt 52 = .ok (.iload_n 2, 1) := dk_28 (dk_at dksX0_hunt_2 4 rfl rfl)
theorem dX0_hunt_53 : decode cX0_hunt 53 = .ok (.iconst (-1), 1) := dk_2 (dk_at dksX0_hunt_2 5 rfl rfl)
theorem dX0_hunt_54 : decode cX0_hunt 54 = .ok (.iastore, 1) := dk_79 (dk_at dksX0_hunt_2 6 rfl rfl)
theorem dX0_hunt_55 : decode cX0_hunt 55 = .ok (.iinc 2 1, 3) := dk_132 2 1 (dk_at dksX0_hunt_2 7 rfl rfl)
theorem dX0_hunt_58 : decode cX0_hunt 58 = .ok (.goto (-16), 3) := dk_167 255 240 (dk_at dksX0_hunt_2 10 rfl rfl)
theorem dX0_hunt_61 : decode cX0_hunt 61 = .ok (.iconst 0, 1) := dk_3 (dk_at dksX0_hunt_2 13 rfl rfl)
theorem dX0_hunt_62 : decode cX0_hunt 62 = .ok (.istore_n 2, 1) := dk_61 (dk_at dksX0_hunt_2 14 rfl rfl)
theorem dX0_hunt_63 : decode cX0_hunt 63 = .ok (.iload_n 2, 1) := dk_28 (dk_at dksX0_hunt_2 15 rfl rfl)
theorem dX0_hunt_64 : decode cX0_hunt 64 = .ok (.iconst 5, 1) := dk_8 (dk_at dksX0_hunt_2 16 rfl rfl)
theorem dX0_hunt_65 : decode cX0_hunt 65 = .ok (.if_icmp .ge 121, 3) := dk_162 0 121 (dk_at dksX0_hunt_2 17 rfl rfl)
theorem dX0_hunt_68 : decode cX0_hunt 68 = .ok (.aload_n 0, 1) := dk_42 (dk_at dksX0_hunt_2 20 rfl rfl)
theorem dX0_hunt_69 : decode cX0_hunt 69 = .ok (.getfield 91, 3) := dk_180 0 91 (dk_at dksX0_hunt_2 21 rfl rfl)
theorem dX0_hunt_72 : decode cX0_hunt 72 = .ok (.iload_n 2, 1) := dk_28 (dk_at dksX0_hunt_3 0 rfl rfl)
theorem dX0_hunt_73 : decode cX0_hunt 73 = .ok (.aload_n 0, 1) := dk_42 (dk_at dksX0_hunt_3 1 rfl rfl)
theorem dX0_hunt_74 : decode cX0_hunt 74 = .ok (.getfield 16, 3) := dk_180 0 16 (dk_at dksX0_hunt_3 2 rfl rfl)
theorem dX0_hunt_77 : decode cX0_hunt 77 = .ok (.getfield 170, 3) := dk_180 0 170 (dk_at dksX0_hunt_3 5 rfl rfl)
theorem dX0_hunt_80 : decode cX0_hunt 80 = .ok (.iload_n 2, 1) := dk_28 (dk_at dksX0_hunt_3 8 rfl rfl)
theorem dX0_hunt_81 : decode cX0_hunt 81 = .ok (.iaload, 1) := dk_46 (dk_at dksX0_hunt_3 9 rfl rfl)
theorem dX0_hunt_82 : decode cX0_hunt 82 = .ok (.invokevirtual 365, 3) := dk_182 1 109 (dk_at dksX0_hunt_3 10 rfl rfl)
theorem dX0_hunt_85 : decode cX0_hunt 85 = .ok (.iconst 0, 1) := dk_3 (dk_at dksX0_hunt_3 13 rfl rfl)
theorem dX0_hunt_86 : decode cX0_hunt 86 = .ok (.istore_n 3, 1) := dk_62 (dk_at dksX0_hunt_3 14 rfl rfl)
theorem dX0_hunt_87 : decode cX0_hunt 87 = .ok (.iload_n 3, 1) := dk_29 (dk_at dksX0_hunt_3 15 rfl rfl)
theorem dX0_hunt_88 : decode cX0_hunt 88 = .ok (.aload_n 0, 1) := dk_42 (dk_at dksX0_hunt_3 16 rfl rfl)
theorem dX0_hunt_89 : decode cX0_hunt 89 = .ok (.getfield 362, 3) := dk_180 1 106 (dk_at dksX0_hunt_3 17 rfl rfl)
theorem dX0_hunt_92 : decode cX0_hunt 92 = .ok (.if_icmp .ge 88, 3) := dk_162 0 88 (dk_at dksX0_hunt_3 20 rfl rfl)
theorem dX0_hunt_95 : decode cX0_hunt 95 = .ok (.aload_n 0, 1) := dk_42 (dk_at dksX0_hunt_3 23 rfl rfl)
theorem dX0_hunt_96 : decode cX0_hunt 96 = .ok (.getfield 91, 3) := dk_180 0 91 (dk_at dksX0_hunt_4 0 rfl rfl)
theorem dX0_hunt_99 : decode cX0_hunt 99 = .ok (.getfield 248, 3) := dk_180 0 248 (dk_at dksX0_hunt_4 3 rfl rfl)
theorem dX0_hunt_102 : decode cX0_hunt 102 = .ok (.iload_n 3, 1) := dk_29 (dk_at dksX0_hunt_4 6 rfl rfl)
theorem dX0_hunt_103 : decode cX0_hunt 103 = .ok (.iaload, 1) := dk_46 (dk_at dksX0_hunt_4 7 rfl rfl)
theorem dX0_hunt_104 : decode cX0_hunt 104 = .ok (.iconst (-1), 1) := dk_2 (dk_at dksX0_hunt_4 8 rfl rfl)
theorem dX0_hunt_105 : decode cX0_hunt 105 = .ok (.if_icmp .ne 69, 3) := dk_160 0 69 (dk_at dksX0_hunt_4 9 rfl rfl)
theorem dX0_hunt_108 : decode cX0_hunt 108 = .ok (.aload_n 0, 1) := dk_42 (dk_at dksX0_hunt_4 12 rfl rfl)
theorem dX0_hunt_109 : decode cX0_hunt 109 = .ok (.getfield 91, 3) := dk_180 0 91 (dk_at dksX0_hunt_4 13 rfl rfl)
theorem dX0_hunt_112 : decode cX0_hunt 112 = .ok (.getfield 368, 3) := dk_180 1 112 (dk_at dksX0_hunt_4 16 rfl rfl)
theorem dX0_hunt_115 : decode cX0_hunt 115 = .ok (.iload_n 3, 1) := dk_29 (dk_at dksX0_hunt_4 19 rfl rfl)
theorem dX0_hunt_116 : decode cX0_hunt 116 = .ok (.invokestatic 301, 3) := dk_184 1 45 (dk_at dksX0_hunt_4 20 rfl rfl)
theorem dX0_hunt_119 : decode cX0_hunt 119 = .ok (.ifCond .ne 55, 3) := dk_154 0 55 (dk_at dksX0_hunt_5 0 rfl rfl)
theorem dX0_hunt_122 : decode cX0_hunt 122 = .ok (.aload_n 0, 1) := dk_42 (dk_at dksX0_hunt_5 3 rfl rfl)
theorem dX0_hunt_123 : decode cX0_hunt 123 = .ok (.bipush 100, 2) := dk_16 100 (dk_at dksX0_hunt_5 4 rfl rfl)
theorem dX0_hunt_125 : decode cX0_hunt 125 = .ok (.invokevirtual 371, 3) := dk_182 1 115 (dk_at dksX0_hunt_5 6 rfl rfl)
theorem dX0_hunt_128 : decode cX0_hunt 128 = .ok (.aload_n 0, 1) := dk_42 (dk_at dksX0_hunt_5 9 rfl rfl)
theorem dX0_hunt_129 : decode cX0_hunt 129 = .ok (.getfield 91, 3) := dk_180 0 91 (dk_at dksX0_hunt_5 10 rfl rfl)
theorem dX0_hunt_132 : decode cX0_hunt 132 = .ok (.iload_n 3, 1) := dk_29 (dk_at dksX0_hunt_5 13 rfl rfl)
theorem dX0_hunt_133 : decode cX0_hunt 133 = .ok (.iload_n 2, 1) := dk_28 (dk_at dksX0_hunt_5 14 rfl rfl)
theorem dX0_hunt_134 : decode cX0_hunt 134 = .ok (.aload_n 0, 1) := dk_42 (dk_at dksX0_hunt_5 15 rfl rfl)
theorem dX0_hunt_135 : decode cX0_hunt 135 = .ok (.getfield 16, 3) := dk_180 0 16 (dk_at dksX0_hunt_5 16 rfl rfl)
theorem dX0_hunt_138 : decode cX0_hunt 138 = .ok (.getfield 170, 3) := dk_180 0 170 (dk_at dksX0_hunt_5 19 rfl rfl)
theorem dX0_hunt_141 : decode cX0_hunt 141 = .ok (.iload_n 2, 1) := dk_28 (dk_at dksX0_hunt_5 22 rfl rfl)
theorem dX0_hunt_142 : decode cX0_hunt 142 = .ok (.iaload, 1) := dk_46 (dk_at dksX0_hunt_5 23 rfl rfl)
theorem dX0_hunt_143 : decode cX0_hunt 143 = .ok (.invokevirtual 374, 3) := dk_182 1 118 (dk_at dksX0_hunt_6 0 rfl rfl)
theorem dX0_hunt_146 : decode cX0_hunt 146 = .ok (.if_icmp .lt 6, 3) := dk_161 0 6 (dk_at dksX0_hunt_6 3 rfl rfl)
theorem dX0_hunt_149 : decode cX0_hunt 149 = .ok (.goto 25, 3) := dk_167 0 25 (dk_at dksX0_hunt_6 6 rfl rfl)
theorem dX0_hunt_152 : decode cX0_hunt 152 = .ok (.aload_n 0, 1) := dk_42 (dk_at dksX0_hunt_6 9 rfl rfl)
theorem dX0_hunt_153 : decode cX0_hunt 153 = .ok (.getfield 91, 3) := dk_180 0 91 (dk_at dksX0_hunt_6 10 rfl rfl)
theorem dX0_hunt_156 : decode cX0_hunt 156 = .ok (.dup, 1) := dk_89 (dk_at dksX0_hunt_6 13 rfl rfl)
theorem dX0_hunt_157 : decode cX0_hunt 157 = .ok (.getfield 368, 3) := dk_180 1 112 (dk_at dksX0_hunt_6 14 rfl rfl)
theorem dX0_hunt_160 : decode cX0_hunt 160 = .ok (.iconst 1, 1) := dk_4 (dk_at dksX0_hunt_6 17 rfl rfl)
theorem dX0_hunt_161 : decode cX0_hunt 161 = .ok (.iload_n 3, 1) := dk_29 (dk_at dksX0_hunt_6 18 rfl rfl)
theorem dX0_hunt_162 : decode cX0_hunt 162 = .ok (.ishl, 1) := dk_120 (dk_at dksX0_hunt_6 19 rfl rfl)
theorem dX0_hunt_163 : decode cX0_hunt 163 = .ok (.ior, 1) := dk_128 (dk_at dksX0_hunt_6 20 rfl rfl)
theorem dX0_hunt_164 : decode cX0_hunt 164 = .ok (.putfield 368, 3) := dk_181 1 112 (dk_at dksX0_hunt_6 21 rfl rfl)
theorem dX0_hunt_167 : decode cX0_hunt 167 = .ok (.aload_n 0, 1) := dk_42 (dk_at dksX0_hunt_7 0 rfl rfl)
theorem dX0_hunt_168 : decode cX0_hunt 168 = .ok (.getfield 94, 3) := dk_180 0 94 (dk_at dksX0_hunt_7 1 rfl rfl)
theorem dX0_hunt_171 : decode cX0_hunt 171 = .ok (.iload_n 3, 1) := dk_29 (dk_at dksX0_hunt_7 4 rfl rfl)
theorem dX0_hunt_172 : decode cX0_hunt 172 = .ok (.iload_n 2, 1) := dk_28 (dk_at dksX0_hunt_7 5 rfl rfl)
theorem dX0_hunt_173 : decode cX0_hunt 173 = .ok (.iastore, 1) := dk_79 (dk_at dksX0_hunt_7 6 rfl rfl)
theorem dX0_hunt_174 : decode cX0_hunt 174 = .ok (.iinc 3 1, 3) := dk_132 3 1 (dk_at dksX0_hunt_7 7 rfl rfl)
theorem dX0_hunt_177 : decode cX0_hunt 177 = .ok (.goto (-90), 3) := dk_167 255 166 (dk_at dksX0_hunt_7 10 rfl rfl)
theorem dX0_hunt_180 : decode cX0_hunt 180 = .ok (.iinc 2 1, 3) := dk_132 2 1 (dk_at dksX0_hunt_7 13 rfl rfl)
theorem dX0_hunt_183 : decode cX0_hunt 183 = .ok (.goto (-120), 3) := dk_167 255 136 (dk_at dksX0_hunt_7 16 rfl rfl)
theorem dX0_hunt_186 : decode cX0_hunt 186 = .ok (.aload_n 0, 1) := dk_42 (dk_at dksX0_hunt_7 19 rfl rfl)
theorem dX0_hunt_187 : decode cX0_hunt 187 = .ok (.aload_n 0, 1) := dk_42 (dk_at dksX0_hunt_7 20 rfl rfl)
theorem dX0_hunt_188 : decode cX0_hunt 188 = .ok (.getfield 91, 3) := dk_180 0 91 (dk_at dksX0_hunt_7 21 rfl rfl)
theorem dX0_hunt_191 : decode cX0_hunt 191 = .ok (.getfield 368, 3) := dk_180 1 112 (dk_at dksX0_hunt_8 0 rfl rfl)
theorem dX0_hunt_194 : decode cX0_hunt 194 = .ok (.invokestatic 313, 3) := dk_184 1 57 (dk_at dksX0_hunt_8 3 rfl rfl)
theorem dX0_hunt_197 : decode cX0_hunt 197 = .ok (.invokevirtual 109, 3) := dk_182 0 109 (dk_at dksX0_hunt_8 6 rfl rfl)
theorem dX0_hunt_200 : decode cX0_hunt 200 = .ok (.ireturn, 1) := dk_172 (dk_at dksX0_hunt_8 9 rfl rfl)
abbrev cX0_draw : ByteArray := prog_1_method_57_code
def yX0_draw : MethodName := ⟨RX0, "draw", "(I)I"⟩
def dkwX0_draw_1 : List UInt8 := [180, 1, 96, 27, 112, 172]
abbrev dktX0_draw_1 : List UInt8 := dkwX0_draw_1 ++ []
def dkwX0_draw_0 : List UInt8 := [42, 42, 180, 1, 96, 133, 20, 1, 99, 105, 20, 1, 101, 97, 20, 1, 103, 113, 136, 181, 1, 96, 42]
abbrev dktX0_draw_0 : List UInt8 := dkwX0_draw_0 ++ dktX0_draw_1
theorem dksX0_draw_0 : cX0_draw.data.toList.drop 0 = dktX0_draw_0 := by decide +kernel
theorem dksX0_draw_1 : cX0_draw.data.toList.drop 23 = dktX0_draw_1 := dk_seg dksX0_draw_0 23 rfl rfl
theorem dX0_draw_0 : decode cX0_draw 0 = .ok (.aload_n 0, 1) := dk_42 (dk_at dksX0_draw_0 0 rfl rfl)
theorem dX0_draw_1 : decode cX0_draw 1 = .ok (.aload_n 0, 1) := dk_42 (dk_at dksX0_draw_0 1 rfl rfl)
theorem dX0_draw_2 : decode cX0_draw 2 = .ok (.getfield 352, 3) := dk_180 1 96 (dk_at dksX0_draw_0 2 rfl rfl)
theorem dX0_draw_5 : decode cX0_draw 5 = .ok (.i2l, 1) := dk_133 (dk_at dksX0_draw_0 5 rfl rfl)
theorem dX0_draw_6 : decode cX0_draw 6 = .ok (.ldc2_w 355, 3) := dk_20 1 99 (dk_at dksX0_draw_0 6 rfl rfl)
theorem dX0_draw_9 : decode cX0_draw 9 = .ok (.lmul, 1) := dk_105 (dk_at dksX0_draw_0 9 rfl rfl)
theorem dX0_draw_10 : decode cX0_draw 10 = .ok (.ldc2_w 357, 3) := dk_20 1 101 (dk_at dksX0_draw_0 10 rfl rfl)
theorem dX0_draw_13 : decode cX0_draw 13 = .ok (.ladd, 1) := dk_97 (dk_at dksX0_draw_0 13 rfl rfl)
theorem dX0_draw_14 : decode cX0_draw 14 = .ok (.ldc2_w 359, 3) := dk_20 1 103 (dk_at dksX0_draw_0 14 rfl rfl)
theorem dX0_draw_17 : decode cX0_draw 17 = .ok (.lrem, 1) := dk_113 (dk_at dksX0_draw_0 17 rfl rfl)
theorem dX0_draw_18 : decode cX0_draw 18 = .ok (.l2i, 1) := dk_136 (dk_at dksX0_draw_0 18 rfl rfl)
theorem dX0_draw_19 : decode cX0_draw 19 = .ok (.putfield 352, 3) := dk_181 1 96 (dk_at dksX0_draw_0 19 rfl rfl)
theorem dX0_draw_22 : decode cX0_draw 22 = .ok (.aload_n 0, 1) := dk_42 (dk_at dksX0_draw_0 22 rfl rfl)
theorem dX0_draw_23 : decode cX0_draw 23 = .ok (.getfield 352, 3) := dk_180 1 96 (dk_at dksX0_draw_1 0 rfl rfl)
theorem dX0_draw_26 : decode cX0_draw 26 = .ok (.iload_n 1, 1) := dk_27 (dk_at dksX0_draw_1 3 rfl rfl)
theorem dX0_draw_27 : decode cX0_draw 27 = .ok (.irem, 1) := dk_112 (dk_at dksX0_draw_1 4 rfl rfl)
theorem dX0_draw_28 : decode cX0_draw 28 = .ok (.ireturn, 1) := dk_172 (dk_at dksX0_draw_1 5 rfl rfl)
abbrev cX0_hunted : ByteArray := prog_1_method_59_code
def yX0_hunted : MethodName := ⟨RX0, "hunted", "(II)I"⟩
def dkwX0_hunted_2 : List UInt8 := [180, 0, 91, 180, 0, 248, 27, 46, 167, 0, 12, 42, 180, 0, 91, 180, 0, 236, 27, 46, 172]
abbrev dktX0_hunted_2 : List UInt8 := dkwX0_hunted_2 ++ []
def dkwX0_hunted_1 : List UInt8 := [167, 0, 42, 28, 154, 0, 12, 42, 180, 0, 94, 27, 46, 167, 0, 29, 28, 4, 160, 0, 15, 42]
abbrev dktX0_hunted_1 : List UInt8 := dkwX0_hunted_1 ++ dktX0_hunted_2
def dkwX0_hunted_0 : List UInt8 := [27, 3, 42, 180, 1, 106, 4, 100, 184, 0, 112, 153, 0, 12, 28, 3, 5, 184, 0, 112, 154, 0, 7, 2]
abbrev dktX0_hunted_0 : List UInt8 := dkwX0_hunted_0 ++ dktX0_hunted_1
theorem dksX0_hunted_0 : cX0_hunted.data.toList.drop 0 = dktX0_hunted_0 := by decide +kernel
theorem dksX0_hunted_1 : cX0_hunted.data.toList.drop 24 = dktX0_hunted_1 := dk_seg dksX0_hunted_0 24 rfl rfl
theorem dksX0_hunted_2 : cX0_hunted.data.toList.drop 46 = dktX0_hunted_2 := dk_seg dksX0_hunted_1 22 rfl rfl
theorem dX0_hunted_0 : decode cX0_hunted 0 = .ok (.iload_n 1, 1) := dk_27 (dk_at dksX0_hunted_0 0 rfl rfl)
theorem dX0_hunted_1 : decode cX0_hunted 1 = .ok (.iconst 0, 1) := dk_3 (dk_at dksX0_hunted_0 1 rfl rfl)
theorem dX0_hunted_2 : decode cX0_hunted 2 = .ok (.aload_n 0, 1) := dk_42 (dk_at dksX0_hunted_0 2 rfl rfl)
theorem dX0_hunted_3 : decode cX0_hunted 3 = .ok (.getfield 362, 3) := dk_180 1 106 (dk_at dksX0_hunted_0 3 rfl rfl)
theorem dX0_hunted_6 : decode cX0_hunted 6 = .ok (.iconst 1, 1) := dk_4 (dk_at dksX0_hunted_0 6 rfl rfl)
theorem dX0_hunted_7 : decode cX0_hunted 7 = .ok (.isub, 1) := dk_100 (dk_at dksX0_hunted_0 7 rfl rfl)
theorem dX0_hunted_8 : decode cX0_hunted 8 = .ok (.invokestatic 112, 3) := dk_184 0 112 (dk_at dksX0_hunted_0 8 rfl rfl)
theorem dX0_hunted_11 : decode cX0_hunted 11 = .ok (.ifCond .eq 12, 3) := dk_153 0 12 (dk_at dksX0_hunted_0 11 rfl rfl)
theorem dX0_hunted_14 : decode cX0_hunted 14 = .ok (.iload_n 2, 1) := dk_28 (dk_at dksX0_hunted_0 14 rfl rfl)
theorem dX0_hunted_15 : decode cX0_hunted 15 = .ok (.iconst 0, 1) := dk_3 (dk_at dksX0_hunted_0 15 rfl rfl)
theorem dX0_hunted_16 : decode cX0_hunted 16 = .ok (.iconst 2, 1) := dk_5 (dk_at dksX0_hunted_0 16 rfl rfl)
theorem dX0_hunted_17 : decode cX0_hunted 17 = .ok (.invokestatic 112, 3) := dk_184 0 112 (dk_at dksX0_hunted_0 17 rfl rfl)
theorem dX0_hunted_20 : decode cX0_hunted 20 = .ok (.ifCond .ne 7, 3) := dk_154 0 7 (dk_at dksX0_hunted_0 20 rfl rfl)
theorem dX0_hunted_23 : decode cX0_hunted 23 = .ok (.iconst (-1), 1) := dk_2 (dk_at dksX0_hunted_0 23 rfl rfl)
theorem dX0_hunted_24 : decode cX0_hunted 24 = .ok (.goto 42, 3) := dk_167 0 42 (dk_at dksX0_hunted_1 0 rfl rfl)
theorem dX0_hunted_27 : decode cX0_hunted 27 = .ok (.iload_n 2, 1) := dk_28 (dk_at dksX0_hunted_1 3 rfl rfl)
theorem dX0_hunted_28 : decode cX0_hunted 28 = .ok (.ifCond .ne 12, 3) := dk_154 0 12 (dk_at dksX0_hunted_1 4 rfl rfl)
theorem dX0_hunted_31 : decode cX0_hunted 31 = .ok (.aload_n 0, 1) := dk_42 (dk_at dksX0_hunted_1 7 rfl rfl)
theorem dX0_hunted_32 : decode cX0_hunted 32 = .ok (.getfield 94, 3) := dk_180 0 94 (dk_at dksX0_hunted_1 8 rfl rfl)
theorem dX0_hunted_35 : decode cX0_hunted 35 = .ok (.iload_n 1, 1) := dk_27 (dk_at dksX0_hunted_1 11 rfl rfl)
theorem dX0_hunted_36 : decode cX0_hunted 36 = .ok (.iaload, 1) := dk_46 (dk_at dksX0_hunted_1 12 rfl rfl)
theorem dX0_hunted_37 : decode cX0_hunted 37 = .ok (.goto 29, 3) := dk_167 0 29 (dk_at dksX0_hunted_1 13 rfl rfl)
theorem dX0_hunted_40 : decode cX0_hunted 40 = .ok (.iload_n 2, 1) := dk_28 (dk_at dksX0_hunted_1 16 rfl rfl)
theorem dX0_hunted_41 : decode cX0_hunted 41 = .ok (.iconst 1, 1) := dk_4 (dk_at dksX0_hunted_1 17 rfl rfl)
theorem dX0_hunted_42 : decode cX0_hunted 42 = .ok (.if_icmp .ne 15, 3) := dk_160 0 15 (dk_at dksX0_hunted_1 18 rfl rfl)
theorem dX0_hunted_45 : decode cX0_hunted 45 = .ok (.aload_n 0, 1) := dk_42 (dk_at dksX0_hunted_1 21 rfl rfl)
theorem dX0_hunted_46 : decode cX0_hunted 46 = .ok (.getfield 91, 3) := dk_180 0 91 (dk_at dksX0_hunted_2 0 rfl rfl)
theorem dX0_hunted_49 : decode cX0_hunted 49 = .ok (.getfield 248, 3) := dk_180 0 248 (dk_at dksX0_hunted_2 3 rfl rfl)
theorem dX0_hunted_52 : decode cX0_hunted 52 = .ok (.iload_n 1, 1) := dk_27 (dk_at dksX0_hunted_2 6 rfl rfl)
theorem dX0_hunted_53 : decode cX0_hunted 53 = .ok (.iaload, 1) := dk_46 (dk_at dksX0_hunted_2 7 rfl rfl)
theorem dX0_hunted_54 : decode cX0_hunted 54 = .ok (.goto 12, 3) := dk_167 0 12 (dk_at dksX0_hunted_2 8 rfl rfl)
theorem dX0_hunted_57 : decode cX0_hunted 57 = .ok (.aload_n 0, 1) := dk_42 (dk_at dksX0_hunted_2 11 rfl rfl)
theorem dX0_hunted_58 : decode cX0_hunted 58 = .ok (.getfield 91, 3) := dk_180 0 91 (dk_at dksX0_hunted_2 12 rfl rfl)
theorem dX0_hunted_61 : decode cX0_hunted 61 = .ok (.getfield 236, 3) := dk_180 0 236 (dk_at dksX0_hunted_2 15 rfl rfl)
theorem dX0_hunted_64 : decode cX0_hunted 64 = .ok (.iload_n 1, 1) := dk_27 (dk_at dksX0_hunted_2 18 rfl rfl)
theorem dX0_hunted_65 : decode cX0_hunted 65 = .ok (.iaload, 1) := dk_46 (dk_at dksX0_hunted_2 19 rfl rfl)
theorem dX0_hunted_66 : decode cX0_hunted 66 = .ok (.ireturn, 1) := dk_172 (dk_at dksX0_hunted_2 20 rfl rfl)
abbrev cX0_count : ByteArray := prog_1_method_60_code
def yX0_count : MethodName := ⟨RX0, "count", "(I)I"⟩
def dkwX0_count_7 : List UInt8 := [180, 0, 221, 172, 42, 180, 0, 16, 180, 0, 173, 27, 16, 13, 100, 46, 172, 2, 172]
abbrev dktX0_count_7 : List UInt8 := dkwX0_count_7 ++ []
def dkwX0_count_6 : List UInt8 := [180, 0, 7, 27, 16, 6, 100, 46, 172, 42, 180, 0, 7, 27, 8, 100, 46, 172, 42, 180, 0, 16]
abbrev dktX0_count_6 : List UInt8 := dkwX0_count_6 ++ dktX0_count_7
def dkwX0_count_5 : List UInt8 := [182, 0, 190, 172, 42, 180, 0, 16, 180, 1, 75, 172, 28, 172, 29, 172, 42, 180, 0, 176, 172, 42]
abbrev dktX0_count_5 : List UInt8 := dkwX0_count_5 ++ dktX0_count_6
def dkwX0_count_4 : List UInt8 := [42, 180, 0, 16, 180, 0, 116, 172, 42, 180, 0, 16, 180, 0, 161, 172, 42, 180, 0, 16, 180, 0, 186]
abbrev dktX0_count_4 : List UInt8 := dkwX0_count_4 ++ dktX0_count_5
def dkwX0_count_3 : List UInt8 := [170, 0, 0, 0, 157, 0, 0, 0, 0, 0, 0, 0, 14, 0, 0, 0, 73, 0, 0, 0, 81, 0, 0, 0, 89, 0, 0, 0, 100, 0, 0, 0, 108, 0, 0, 0, 110, 0, 0, 0, 112, 0, 0, 0, 117, 0, 0, 0, 117, 0, 0, 0, 117, 0, 0, 0, 127, 0, 0, 0, 127, 0, 0, 0, 136, 0, 0, 0, 144, 0, 0, 0, 144]
abbrev dktX0_count_3 : List UInt8 := dkwX0_count_3 ++ dktX0_count_4
def dkwX0_count_2 : List UInt8 := [132, 4, 1, 167, 255, 212, 27]
abbrev dktX0_count_2 : List UInt8 := dkwX0_count_2 ++ dktX0_count_3
def dkwX0_count_1 : List UInt8 := [51, 153, 0, 7, 4, 167, 0, 4, 3, 96, 61, 29, 42, 180, 0, 16, 180, 0, 136, 21, 4, 46, 96, 62]
abbrev dktX0_count_1 : List UInt8 := dkwX0_count_1 ++ dktX0_count_2
def dkwX0_count_0 : List UInt8 := [3, 61, 3, 62, 3, 54, 4, 21, 4, 16, 96, 162, 0, 43, 28, 42, 180, 0, 16, 180, 0, 150, 21, 4]
abbrev dktX0_count_0 : List UInt8 := dkwX0_count_0 ++ dktX0_count_1
theorem dksX0_count_0 : cX0_count.data.toList.drop 0 = dktX0_count_0 := by decide +kernel
theorem dksX0_count_1 : cX0_count.data.toList.drop 24 = dktX0_count_1 := dk_seg dksX0_count_0 24 rfl rfl
theorem dksX0_count_2 : cX0_count.data.toList.drop 48 = dktX0_count_2 := dk_seg dksX0_count_1 24 rfl rfl
theorem dksX0_count_3 : cX0_count.data.toList.drop 55 = dktX0_count_3 := dk_seg dksX0_count_2 7 rfl rfl
theorem dksX0_count_4 : cX0_count.data.toList.drop 128 = dktX0_count_4 := dk_seg dksX0_count_3 73 rfl rfl
theorem dksX0_count_5 : cX0_count.data.toList.drop 151 = dktX0_count_5 := dk_seg dksX0_count_4 23 rfl rfl
theorem dksX0_count_6 : cX0_count.data.toList.drop 173 = dktX0_count_6 := dk_seg dksX0_count_5 22 rfl rfl
theorem dksX0_count_7 : cX0_count.data.toList.drop 195 = dktX0_count_7 := dk_seg dksX0_count_6 22 rfl rfl
theorem dX0_count_0 : decode cX0_count 0 = .ok (.iconst 0, 1) := dk_3 (dk_at dksX0_count_0 0 rfl rfl)
theorem dX0_count_1 : decode cX0_count 1 = .ok (.istore_n 2, 1) := dk_61 (dk_at dksX0_count_0 1 rfl rfl)
theorem dX0_count_2 : decode cX0_count 2 = .ok (.iconst 0, 1) := dk_3 (dk_at dksX0_count_0 2 rfl rfl)
theorem dX0_count_3 : decode cX0_count 3 = .ok (.istore_n 3, 1) := dk_62 (dk_at dksX0_count_0 3 rfl rfl)
theorem dX0_count_4 : decode cX0_count 4 = .ok (.iconst 0, 1) := dk_3 (dk_at dksX0_count_0 4 rfl rfl)
theorem dX0_count_5 : decode cX0_count 5 = .ok (.istore 4, 2) := dk_54 4 (dk_at dksX0_count_0 5 rfl rfl)
theorem dX0_count_7 : decode cX0_count 7 = .ok (.iload 4, 2) := dk_21 4 (dk_at dksX0_count_0 7 rfl rfl)
theorem dX0_count_9 : decode cX0_count 9 = .ok (.bipush 96, 2) := dk_16 96 (dk_at dksX0_count_0 9 rfl rfl)
theorem dX0_count_11 : decode cX0_count 11 = .ok (.if_icmp .ge 43, 3) := dk_162 0 43 (dk_at dksX0_count_0 11 rfl rfl)
theorem dX0_count_14 : decode cX0_count 14 = .ok (.iload_n 2, 1) := dk_28 (dk_at dksX0_count_0 14 rfl rfl)
theorem dX0_count_15 : decode cX0_count 15 = .ok (.aload_n 0, 1) := dk_42 (dk_at dksX0_count_0 15 rfl rfl)
theorem dX0_count_16 : decode cX0_count 16 = .ok (.getfield 16, 3) := dk_180 0 16 (dk_at dksX0_count_0 16 rfl rfl)
theorem dX0_count_19 : decode cX0_count 19 = .ok (.getfield 150, 3) := dk_180 0 150 (dk_at dksX0_count_0 19 rfl rfl)
theorem dX0_count_22 : decode cX0_count 22 = .ok (.iload 4, 2) := dk_21 4 (dk_at dksX0_count_0 22 rfl rfl)
theorem dX0_count_24 : decode cX0_count 24 = .ok (.baload, 1) := dk_51 (dk_at dksX0_count_1 0 rfl rfl)
theorem dX0_count_25 : decode cX0_count 25 = .ok (.ifCond .eq 7, 3) := dk_153 0 7 (dk_at dksX0_count_1 1 rfl rfl)
theorem dX0_count_28 : decode cX0_count 28 = .ok (.iconst 1, 1) := dk_4 (dk_at dksX0_count_1 4 rfl rfl)
theorem dX0_count_29 : decode cX0_count 29 = .ok (.goto 4, 3) := dk_167 0 4 (dk_at dksX0_count_1 5 rfl rfl)
theorem dX0_count_32 : decode cX0_count 32 = .ok (.iconst 0, 1) := dk_3 (dk_at dksX0_count_1 8 rfl rfl)
theorem dX0_count_33 : decode cX0_count 33 = .ok (.iadd, 1) := dk_96 (dk_at dksX0_count_1 9 rfl rfl)
theorem dX0_count_34 : decode cX0_count 34 = .ok (.istore_n 2, 1) := dk_61 (dk_at dksX0_count_1 10 rfl rfl)
theorem dX0_count_35 : decode cX0_count 35 = .ok (.iload_n 3, 1) := dk_29 (dk_at dksX0_count_1 11 rfl rfl)
theorem dX0_count_36 : decode cX0_count 36 = .ok (.aload_n 0, 1) := dk_42 (dk_at dksX0_count_1 12 rfl rfl)
theorem dX0_count_37 : decode cX0_count 37 = .ok (.getfield 16, 3) := dk_180 0 16 (dk_at dksX0_count_1 13 rfl rfl)
theorem dX0_count_40 : decode cX0_count 40 = .ok (.getfield 136, 3) := dk_180 0 136 (dk_at dksX0_count_1 16 rfl rfl)
theorem dX0_count_43 : decode cX0_count 43 = .ok (.iload 4, 2) := dk_21 4 (dk_at dksX0_count_1 19 rfl rfl)
theorem dX0_count_45 : decode cX0_count 45 = .ok (.iaload, 1) := dk_46 (dk_at dksX0_count_1 21 rfl rfl)
theorem dX0_count_46 : decode cX0_count 46 = .ok (.iadd, 1) := dk_96 (dk_at dksX0_count_1 22 rfl rfl)
theorem dX0_count_47 : decode cX0_count 47 = .ok (.istore_n 3, 1) := dk_62 (dk_at dksX0_count_1 23 rfl rfl)
theorem dX0_count_48 : decode cX0_count 48 = .ok (.iinc 4 1, 3) := dk_132 4 1 (dk_at dksX0_count_2 0 rfl rfl)
theorem dX0_count_51 : decode cX0_count 51 = .ok (.goto (-44), 3) := dk_167 255 212 (dk_at dksX0_count_2 3 rfl rfl)
theorem dX0_count_54 : decode cX0_count 54 = .ok (.iload_n 1, 1) := dk_27 (dk_at dksX0_count_2 6 rfl rfl)
theorem dX0_count_55 : decode cX0_count 55 = .ok (.tableswitch 157 0 14 #[73, 81, 89, 100, 108, 110, 112, 117, 117, 117, 127, 127, 136, 144, 144], 73) := by decide +kernel
theorem dX0_count_128 : decode cX0_count 128 = .ok (.aload_n 0, 1) := dk_42 (dk_at dksX0_count_4 0 rfl rfl)
theorem dX0_count_129 : decode cX0_count 129 = .ok (.getfield 16, 3) := dk_180 0 16 (dk_at dksX0_count_4 1 rfl rfl)
theorem dX0_count_132 : decode cX0_count 132 = .ok (.getfield 116, 3) := dk_180 0 116 (dk_at dksX0_count_4 4 rfl rfl)
theorem dX0_count_135 : decode cX0_count 135 = .ok (.ireturn, 1) := dk_172 (dk_at dksX0_count_4 7 rfl rfl)
theorem dX0_count_136 : decode cX0_count 136 = .ok (.aload_n 0, 1) := dk_42 (dk_at dksX0_count_4 8 rfl rfl)
theorem dX0_count_137 : decode cX0_count 137 = .ok (.getfield 16, 3) := dk_180 0 16 (dk_at dksX0_count_4 9 rfl rfl)
theorem dX0_count_140 : decode cX0_count 140 = .ok (.getfield 161, 3) := dk_180 0 161 (dk_at dksX0_count_4 12 rfl rfl)
theorem dX0_count_143 : decode cX0_count 143 = .ok (.ireturn, 1) := dk_172 (dk_at dksX0_count_4 15 rfl rfl)
theorem dX0_count_144 : decode cX0_count 144 = .ok (.aload_n 0, 1) := dk_42 (dk_at dksX0_count_4 16 rfl rfl)
theorem dX0_count_145 : decode cX0_count 145 = .ok (.getfield 16, 3) := dk_180 0 16 (dk_at dksX0_count_4 17 rfl rfl)
theorem dX0_count_148 : decode cX0_count 148 = .ok (.getfield 186, 3) := dk_180 0 186 (dk_at dksX0_count_4 20 rfl rfl)
theorem dX0_count_151 : decode cX0_count 151 = .ok (.invokevirtual 190, 3) := dk_182 0 190 (dk_at dksX0_count_5 0 rfl rfl)
theorem dX0_count_154 : decode cX0_count 154 = .ok (.ireturn, 1) := dk_172 (dk_at dksX0_count_5 3 rfl rfl)
theorem dX0_count_155 : decode cX0_count 155 = .ok (.aload_n 0, 1) := dk_42 (dk_at dksX0_count_5 4 rfl rfl)
theorem dX0_count_156 : decode cX0_count 156 = .ok (.getfield 16, 3) := dk_180 0 16 (dk_at dksX0_count_5 5 rfl rfl)
theorem dX0_count_159 : decode cX0_count 159 = .ok (.getfield 331, 3) := dk_180 1 75 (dk_at dksX0_count_5 8 rfl rfl)
theorem dX0_count_162 : decode cX0_count 162 = .ok (.ireturn, 1) := dk_172 (dk_at dksX0_count_5 11 rfl rfl)
theorem dX0_count_163 : decode cX0_count 163 = .ok (.iload_n 2, 1) := dk_28 (dk_at dksX0_count_5 12 rfl rfl)
theorem dX0_count_164 : decode cX0_count 164 = .ok (.ireturn, 1) := dk_172 (dk_at dksX0_count_5 13 rfl rfl)
theorem dX0_count_165 : decode cX0_count 165 = .ok (.iload_n 3, 1) := dk_29 (dk_at dksX0_count_5 14 rfl rfl)
theorem dX0_count_166 : decode cX0_count 166 = .ok (.ireturn, 1) := dk_172 (dk_at dksX0_count_5 15 rfl rfl)
theorem dX0_count_167 : decode cX0_count 167 = .ok (.aload_n 0, 1) := dk_42 (dk_at dksX0_count_5 16 rfl rfl)
theorem dX0_count_168 : decode cX0_count 168 = .ok (.getfield 176, 3) := dk_180 0 176 (dk_at dksX0_count_5 17 rfl rfl)
theorem dX0_count_171 : decode cX0_count 171 = .ok (.ireturn, 1) := dk_172 (dk_at dksX0_count_5 20 rfl rfl)
theorem dX0_count_172 : decode cX0_count 172 = .ok (.aload_n 0, 1) := dk_42 (dk_at dksX0_count_5 21 rfl rfl)
theorem dX0_count_173 : decode cX0_count 173 = .ok (.getfield 7, 3) := dk_180 0 7 (dk_at dksX0_count_6 0 rfl rfl)
theorem dX0_count_176 : decode cX0_count 176 = .ok (.iload_n 1, 1) := dk_27 (dk_at dksX0_count_6 3 rfl rfl)
theorem dX0_count_177 : decode cX0_count 177 = .ok (.bipush 6, 2) := dk_16 6 (dk_at dksX0_count_6 4 rfl rfl)
theorem dX0_count_179 : decode cX0_count 179 = .ok (.isub, 1) := dk_100 (dk_at dksX0_count_6 6 rfl rfl)
theorem dX0_count_180 : decode cX0_count 180 = .ok (.iaload, 1) := dk_46 (dk_at dksX0_count_6 7 rfl rfl)
theorem dX0_count_181 : decode cX0_count 181 = .ok (.ireturn, 1) := dk_172 (dk_at dksX0_count_6 8 rfl rfl)
theorem dX0_count_182 : decode cX0_count 182 = .ok (.aload_n 0, 1) := dk_42 (dk_at dksX0_count_6 9 rfl rfl)
theorem dX0_count_183 : decode cX0_count 183 = .ok (.getfield 7, 3) := dk_180 0 7 (dk_at dksX0_count_6 10 rfl rfl)
theorem dX0_count_186 : decode cX0_count 186 = .ok (.iload_n 1, 1) := dk_27 (dk_at dksX0_count_6 13 rfl rfl)
theorem dX0_count_187 : decode cX0_count 187 = .ok (.iconst 5, 1) := dk_8 (dk_at dksX0_count_6 14 rfl rfl)
theorem dX0_count_188 : decode cX0_count 188 = .ok (.isub, 1) := dk_100 (dk_at dksX0_count_6 15 rfl rfl)
theorem dX0_count_189 : decode cX0_count 189 = .ok (.iaload, 1) := dk_46 (dk_at dksX0_count_6 16 rfl rfl)
theorem dX0_count_190 : decode cX0_count 190 = .ok (.ireturn, 1) := dk_172 (dk_at dksX0_count_6 17 rfl rfl)
theorem dX0_count_191 : decode cX0_count 191 = .ok (.aload_n 0, 1) := dk_42 (dk_at dksX0_count_6 18 rfl rfl)
theorem dX0_count_192 : decode cX0_count 192 = .ok (.getfield 16, 3) := dk_180 0 16 (dk_at dksX0_count_6 19 rfl rfl)
theorem dX0_count_195 : decode cX0_count 195 = .ok (.getfield 221, 3) := dk_180 0 221 (dk_at dksX0_count_7 0 rfl rfl)
theorem dX0_count_198 : decode cX0_count 198 = .ok (.ireturn, 1) := dk_172 (dk_at dksX0_count_7 3 rfl rfl)
theorem dX0_count_199 : decode cX0_count 199 = .ok (.aload_n 0, 1) := dk_42 (dk_at dksX0_count_7 4 rfl rfl)
theorem dX0_count_200 : decode cX0_count 200 = .ok (.getfield 16, 3) := dk_180 0 16 (dk_at dksX0_count_7 5 rfl rfl)
theorem dX0_count_203 : decode cX0_count 203 = .ok (.getfield 173, 3) := dk_180 0 173 (dk_at dksX0_count_7 8 rfl rfl)
theorem dX0_count_206 : decode cX0_count 206 = .ok (.iload_n 1, 1) := dk_27 (dk_at dksX0_count_7 11 rfl rfl)
theorem dX0_count_207 : decode cX0_count 207 = .ok (.bipush 13, 2) := dk_16 13 (dk_at dksX0_count_7 12 rfl rfl)
theorem dX0_count_209 : decode cX0_count 209 = .ok (.isub, 1) := dk_100 (dk_at dksX0_count_7 14 rfl rfl)
theorem dX0_count_210 : decode cX0_count 210 = .ok (.iaload, 1) := dk_46 (dk_at dksX0_count_7 15 rfl rfl)
theorem dX0_count_211 : decode cX0_count 211 = .ok (.ireturn, 1) := dk_172 (dk_at dksX0_count_7 16 rfl rfl)
theorem dX0_count_212 : decode cX0_count 212 = .ok (.iconst (-1), 1) := dk_2 (dk_at dksX0_count_7 17 rfl rfl)
theorem dX0_count_213 : decode cX0_count 213 = .ok (.ireturn, 1) := dk_172 (dk_at dksX0_count_7 18 rfl rfl)
abbrev cX0_status : ByteArray := prog_1_method_61_code
def yX0_status : MethodName := ⟨RX0, "status", "()I"⟩
theorem dX0_status_0 : decode cX0_status 0 = .ok (.aload_n 0, 1) := by decide +kernel
theorem dX0_status_1 : decode cX0_status 1 = .ok (.getfield 97, 3) := by decide +kernel
theorem dX0_status_4 : decode cX0_status 4 = .ok (.ireturn, 1) := by decide +kernel
theorem q103 : (Jvm.Cond.initialized "SnailPost") ∈ lw_all := lw_g (lw_at lw_m1 1 rfl) rfl
theorem q141 : (Jvm.Cond.instantiable "SnailPost" (28 : Nat)) ∈ lw_all := lw_g (lw_at lw_m1 39 rfl) rfl
theorem q143 : (Jvm.Cond.instanceMethod ({ cls := "SnailPost", name := "<init>", desc := "()V" } : Jvm.MethodName)) ∈ lw_all := lw_g (lw_at lw_m1 41 rfl) rfl
theorem q144 : (Jvm.Cond.code ({ cls := "SnailPost", name := "<init>", desc := "()V" } : Jvm.MethodName) prog_1_method_1_code (1 : Nat) (Option.none : Option Jvm.ClassFile.FieldType)) ∈ lw_all := lw_g (lw_at lw_m1 42 rfl) rfl
theorem q145 : (Jvm.Cond.methodLink "SnailPost" (1 : Nat) ({ cls := "java/lang/Object", name := "<init>", desc := "()V" } : Jvm.MethodName)) ∈ lw_all := lw_g (lw_at lw_m1 43 rfl) rfl
theorem q148 : (Jvm.Cond.classLink "SnailPost" (13 : Nat) "SnailPost$State") ∈ lw_all := lw_g (lw_at lw_m1 46 rfl) rfl
theorem q150 : (Jvm.Cond.methodLinkNest "SnailPost" (15 : Nat) ({ cls := "SnailPost$State", name := "<init>", desc := "()V" } : Jvm.MethodName) "SnailPost") ∈ lw_tbl := lw_at lw_m1 48 rfl
theorem q186 : (Jvm.Cond.fieldLinkNest "SnailPost" (136 : Nat) "SnailPost$State" "damp" "[I" "SnailPost") ∈ lw_tbl := lw_at lw_m1 84 rfl
theorem q188 : (Jvm.Cond.fieldLinkNest "SnailPost" (119 : Nat) "SnailPost$State" "facts" "[I" "SnailPost") ∈ lw_tbl := lw_at lw_m1 86 rfl
theorem q191 : (Jvm.Cond.fieldLinkNest "SnailPost" (164 : Nat) "SnailPost$State" "spots" "[I" "SnailPost") ∈ lw_tbl := lw_at lw_m1 89 rfl
theorem q193 : (Jvm.Cond.fieldLinkNest "SnailPost" (170 : Nat) "SnailPost$State" "plan" "[I" "SnailPost") ∈ lw_tbl := lw_at lw_m1 91 rfl
theorem q196 : (Jvm.Cond.fieldLinkNest "SnailPost" (173 : Nat) "SnailPost$State" "terms" "[I" "SnailPost") ∈ lw_tbl := lw_at lw_m1 94 rfl
theorem q199 : (Jvm.Cond.fieldLinkNest "SnailPost" (334 : Nat) "SnailPost$State" "crossings" "[I" "SnailPost") ∈ lw_tbl := lw_at lw_m1 97 rfl
theorem q202 : (Jvm.Cond.fieldLinkNest "SnailPost" (150 : Nat) "SnailPost$State" "salt" "[Z" "SnailPost") ∈ lw_tbl := lw_at lw_m1 100 rfl
theorem q205 : (Jvm.Cond.fieldLinkNest "SnailPost" (186 : Nat) "SnailPost$State" "laws" "Ljava/util/ArrayList;" "SnailPost") ∈ lw_tbl := lw_at lw_m1 103 rfl
theorem q210 : (Jvm.Cond.fieldLinkNest "SnailPost" (116 : Nat) "SnailPost$State" "many" "I" "SnailPost") ∈ lw_tbl := lw_at lw_m1 108 rfl
theorem q213 : (Jvm.Cond.fieldLinkNest "SnailPost" (161 : Nat) "SnailPost$State" "spotMany" "I" "SnailPost") ∈ lw_tbl := lw_at lw_m1 111 rfl
theorem q216 : (Jvm.Cond.fieldLinkNest "SnailPost" (331 : Nat) "SnailPost$State" "crossMany" "I" "SnailPost") ∈ lw_tbl := lw_at lw_m1 114 rfl
theorem q219 : (Jvm.Cond.fieldLinkNest "SnailPost" (221 : Nat) "SnailPost$State" "force" "I" "SnailPost") ∈ lw_tbl := lw_at lw_m1 117 rfl
theorem q246 : (Jvm.Cond.classLink "SnailPost" (32 : Nat) "SnailPost$Setting") ∈ lw_all := lw_g (lw_at lw_m1 144 rfl) rfl
theorem q248 : (Jvm.Cond.methodLinkNest "SnailPost" (34 : Nat) ({ cls := "SnailPost$Setting", name := "<init>", desc := "()V" } : Jvm.MethodName) "SnailPost") ∈ lw_tbl := lw_at lw_m1 146 rfl
theorem q324 : (Jvm.Cond.classLink "SnailPost" (42 : Nat) "SnailPost$Walk") ∈ lw_all := lw_g (lw_at lw_m1 222 rfl) rfl
theorem q326 : (Jvm.Cond.methodLinkNest "SnailPost" (44 : Nat) ({ cls := "SnailPost$Walk", name := "<init>", desc := "(LSnailPost;)V" } : Jvm.MethodName) "SnailPost") ∈ lw_tbl := lw_at lw_m1 224 rfl
theorem q332 : (Jvm.Cond.fieldLinkNest "SnailPost" (236 : Nat) "SnailPost$Walk" "cells" "[I" "SnailPost") ∈ lw_tbl := lw_at lw_m1 230 rfl
theorem q335 : (Jvm.Cond.fieldLinkNest "SnailPost" (248 : Nat) "SnailPost$Walk" "came" "[I" "SnailPost") ∈ lw_tbl := lw_at lw_m1 233 rfl
theorem q337 : (Jvm.Cond.fieldLinkNest "SnailPost" (251 : Nat) "SnailPost$Walk" "stayed" "[I" "SnailPost") ∈ lw_tbl := lw_at lw_m1 235 rfl
theorem q339 : (Jvm.Cond.fieldLinkNest "SnailPost" (254 : Nat) "SnailPost$Walk" "been" "[I" "SnailPost") ∈ lw_tbl := lw_at lw_m1 237 rfl
theorem q341 : (Jvm.Cond.fieldLinkNest "SnailPost" (368 : Nat) "SnailPost$Walk" "eaten" "I" "SnailPost") ∈ lw_tbl := lw_at lw_m1 239 rfl
theorem q356 : (Jvm.Cond.classLink "SnailPost" (57 : Nat) "SnailPost$Lantern") ∈ lw_all := lw_g (lw_at lw_m2 14 rfl) rfl
theorem q358 : (Jvm.Cond.methodLinkNest "SnailPost" (59 : Nat) ({ cls := "SnailPost$Lantern", name := "<init>", desc := "(LSnailPost;)V" } : Jvm.MethodName) "SnailPost") ∈ lw_tbl := lw_at lw_m2 16 rfl
theorem q366 : (Jvm.Cond.fieldLinkNest "SnailPost" (281 : Nat) "SnailPost$Lantern" "walks" "[LSnailPost$Walk;" "SnailPost") ∈ lw_tbl := lw_at lw_m2 24 rfl
theorem q368 : (Jvm.Cond.fieldLinkNest "SnailPost" (292 : Nat) "SnailPost$Lantern" "row" "[I" "SnailPost") ∈ lw_tbl := lw_at lw_m2 26 rfl
theorem q370 : (Jvm.Cond.fieldLinkNest "SnailPost" (272 : Nat) "SnailPost$Lantern" "first" "[I" "SnailPost") ∈ lw_tbl := lw_at lw_m2 28 rfl
theorem q377 : (Jvm.Cond.fieldLinkNest "SnailPost" (265 : Nat) "SnailPost$Lantern" "most" "I" "SnailPost") ∈ lw_tbl := lw_at lw_m2 35 rfl
theorem q379 : (Jvm.Cond.fieldLinkNest "SnailPost" (268 : Nat) "SnailPost$Lantern" "least" "I" "SnailPost") ∈ lw_tbl := lw_at lw_m2 37 rfl
theorem q381 : (Jvm.Cond.fieldLinkNest "SnailPost" (271 : Nat) "SnailPost$Lantern" "many" "I" "SnailPost") ∈ lw_tbl := lw_at lw_m2 39 rfl
theorem q408 : (Jvm.Cond.classLink "SnailPost" (70 : Nat) "SnailPost$Span") ∈ lw_all := lw_g (lw_at lw_m2 66 rfl) rfl
theorem q410 : (Jvm.Cond.methodLinkNest "SnailPost" (72 : Nat) ({ cls := "SnailPost$Span", name := "<init>", desc := "()V" } : Jvm.MethodName) "SnailPost") ∈ lw_tbl := lw_at lw_m2 68 rfl
theorem q418 : (Jvm.Cond.classLink "SnailPost" (77 : Nat) "SnailPost$Shells") ∈ lw_all := lw_g (lw_at lw_m2 76 rfl) rfl
theorem q420 : (Jvm.Cond.methodLinkNest "SnailPost" (79 : Nat) ({ cls := "SnailPost$Shells", name := "<init>", desc := "(LSnailPost;)V" } : Jvm.MethodName) "SnailPost") ∈ lw_tbl := lw_at lw_m2 78 rfl
theorem q425 : (Jvm.Cond.fieldLinkNest "SnailPost" (330 : Nat) "SnailPost$Shells" "row" "[I" "SnailPost") ∈ lw_tbl := lw_at lw_m2 83 rfl
theorem q429 : (Jvm.Cond.fieldLinkNest "SnailPost" (328 : Nat) "SnailPost$Shells" "size" "I" "SnailPost") ∈ lw_tbl := lw_at lw_m2 87 rfl
theorem q445 : (Jvm.Cond.classLink "SnailPost" (84 : Nat) "SnailPost$Orders") ∈ lw_all := lw_g (lw_at lw_m2 103 rfl) rfl
theorem q447 : (Jvm.Cond.methodLinkNest "SnailPost" (86 : Nat) ({ cls := "SnailPost$Orders", name := "<init>", desc := "(LSnailPost;)V" } : Jvm.MethodName) "SnailPost") ∈ lw_tbl := lw_at lw_m2 105 rfl
theorem q453 : (Jvm.Cond.fieldLinkNest "SnailPost" (339 : Nat) "SnailPost$Orders" "first" "[I" "SnailPost") ∈ lw_tbl := lw_at lw_m2 111 rfl
theorem q455 : (Jvm.Cond.fieldLinkNest "SnailPost" (349 : Nat) "SnailPost$Orders" "ahead" "[I" "SnailPost") ∈ lw_tbl := lw_at lw_m2 113 rfl
theorem q458 : (Jvm.Cond.fieldLinkNest "SnailPost" (338 : Nat) "SnailPost$Orders" "many" "I" "SnailPost") ∈ lw_tbl := lw_at lw_m2 116 rfl
theorem q460 : (Jvm.Cond.fieldLinkNest "SnailPost" (340 : Nat) "SnailPost$Orders" "firsts" "I" "SnailPost") ∈ lw_tbl := lw_at lw_m2 118 rfl
theorem q462 : (Jvm.Cond.fieldLinkNest "SnailPost" (343 : Nat) "SnailPost$Orders" "lasts" "I" "SnailPost") ∈ lw_tbl := lw_at lw_m2 120 rfl
theorem q481 : (Jvm.Cond.fieldLink "SnailPost" (97 : Nat) "SnailPost" "status" "I") ∈ lw_all := lw_g (lw_at lw_m2 139 rfl) rfl
theorem q482 : (Jvm.Cond.fieldLink "SnailPost" (7 : Nat) "SnailPost" "refused" "[I") ∈ lw_all := lw_g (lw_at lw_m2 140 rfl) rfl
theorem q483 : (Jvm.Cond.fieldLink "SnailPost" (16 : Nat) "SnailPost" "state" "LSnailPost$State;") ∈ lw_all := lw_g (lw_at lw_m2 141 rfl) rfl
theorem q487 : (Jvm.Cond.fieldLink "SnailPost" (20 : Nat) "SnailPost" "images" "[LSnailPost$State;") ∈ lw_all := lw_g (lw_at lw_m2 145 rfl) rfl
theorem q488 : (Jvm.Cond.fieldLink "SnailPost" (24 : Nat) "SnailPost" "tape" "[B") ∈ lw_all := lw_g (lw_at lw_m2 146 rfl) rfl
theorem q489 : (Jvm.Cond.fieldLink "SnailPost" (176 : Nat) "SnailPost" "taped" "I") ∈ lw_all := lw_g (lw_at lw_m2 147 rfl) rfl
theorem q490 : (Jvm.Cond.fieldLink "SnailPost" (28 : Nat) "SnailPost" "fault" "I") ∈ lw_all := lw_g (lw_at lw_m2 148 rfl) rfl
theorem q491 : (Jvm.Cond.fieldLink "SnailPost" (183 : Nat) "SnailPost" "spilt" "I") ∈ lw_all := lw_g (lw_at lw_m2 149 rfl) rfl
theorem q494 : (Jvm.Cond.fieldLink "SnailPost" (106 : Nat) "SnailPost" "version" "I") ∈ lw_all := lw_g (lw_at lw_m2 152 rfl) rfl
theorem q495 : (Jvm.Cond.fieldLink "SnailPost" (35 : Nat) "SnailPost" "setting" "LSnailPost$Setting;") ∈ lw_all := lw_g (lw_at lw_m2 153 rfl) rfl
theorem q497 : (Jvm.Cond.fieldLink "SnailPost" (39 : Nat) "SnailPost" "around" "[I") ∈ lw_all := lw_g (lw_at lw_m2 155 rfl) rfl
theorem q499 : (Jvm.Cond.fieldLink "SnailPost" (47 : Nat) "SnailPost" "today" "LSnailPost$Walk;") ∈ lw_all := lw_g (lw_at lw_m2 157 rfl) rfl
theorem q500 : (Jvm.Cond.fieldLink "SnailPost" (51 : Nat) "SnailPost" "log" "[I") ∈ lw_all := lw_g (lw_at lw_m2 158 rfl) rfl
theorem q501 : (Jvm.Cond.fieldLink "SnailPost" (54 : Nat) "SnailPost" "dayMade" "I") ∈ lw_all := lw_g (lw_at lw_m2 159 rfl) rfl
theorem q502 : (Jvm.Cond.fieldLink "SnailPost" (60 : Nat) "SnailPost" "lantern" "LSnailPost$Lantern;") ∈ lw_all := lw_g (lw_at lw_m2 160 rfl) rfl
theorem q503 : (Jvm.Cond.fieldLink "SnailPost" (64 : Nat) "SnailPost" "dueling" "LSnailPost$Lantern;") ∈ lw_all := lw_g (lw_at lw_m2 161 rfl) rfl
theorem q504 : (Jvm.Cond.fieldLink "SnailPost" (67 : Nat) "SnailPost" "duelMade" "I") ∈ lw_all := lw_g (lw_at lw_m2 162 rfl) rfl
theorem q505 : (Jvm.Cond.fieldLink "SnailPost" (275 : Nat) "SnailPost" "duelHours" "I") ∈ lw_all := lw_g (lw_at lw_m2 163 rfl) rfl
theorem q506 : (Jvm.Cond.fieldLink "SnailPost" (278 : Nat) "SnailPost" "duelSnail" "I") ∈ lw_all := lw_g (lw_at lw_m2 164 rfl) rfl
theorem q507 : (Jvm.Cond.fieldLink "SnailPost" (289 : Nat) "SnailPost" "duelEnd" "I") ∈ lw_all := lw_g (lw_at lw_m2 165 rfl) rfl
theorem q508 : (Jvm.Cond.fieldLink "SnailPost" (295 : Nat) "SnailPost" "duelFirst" "I") ∈ lw_all := lw_g (lw_at lw_m2 166 rfl) rfl
theorem q509 : (Jvm.Cond.fieldLink "SnailPost" (73 : Nat) "SnailPost" "span" "LSnailPost$Span;") ∈ lw_all := lw_g (lw_at lw_m2 167 rfl) rfl
theorem q511 : (Jvm.Cond.fieldLink "SnailPost" (80 : Nat) "SnailPost" "shells" "LSnailPost$Shells;") ∈ lw_all := lw_g (lw_at lw_m2 169 rfl) rfl
theorem q512 : (Jvm.Cond.fieldLink "SnailPost" (87 : Nat) "SnailPost" "orders" "LSnailPost$Orders;") ∈ lw_all := lw_g (lw_at lw_m2 170 rfl) rfl
theorem q513 : (Jvm.Cond.fieldLink "SnailPost" (91 : Nat) "SnailPost" "hunted" "LSnailPost$Walk;") ∈ lw_all := lw_g (lw_at lw_m2 171 rfl) rfl
theorem q514 : (Jvm.Cond.fieldLink "SnailPost" (94 : Nat) "SnailPost" "eatenIn" "[I") ∈ lw_all := lw_g (lw_at lw_m2 172 rfl) rfl
theorem q515 : (Jvm.Cond.fieldLink "SnailPost" (362 : Nat) "SnailPost" "huntedMany" "I") ∈ lw_all := lw_g (lw_at lw_m2 173 rfl) rfl
theorem q516 : (Jvm.Cond.fieldLink "SnailPost" (352 : Nat) "SnailPost" "drawn" "I") ∈ lw_all := lw_g (lw_at lw_m2 174 rfl) rfl
theorem q517 : (Jvm.Cond.lays "SnailPost" "SnailPost" "status" "I") ∈ lw_all := lw_g (lw_at lw_m2 175 rfl) rfl
theorem q518 : (Jvm.Cond.soleField "SnailPost" "status") ∈ lw_all := lw_g (lw_at lw_m2 176 rfl) rfl
theorem q519 : (Jvm.Cond.laysFinal "SnailPost" "SnailPost" "refused" "[I") ∈ lw_all := lw_g (lw_at lw_m2 177 rfl) rfl
theorem q520 : (Jvm.Cond.soleField "SnailPost" "refused") ∈ lw_all := lw_g (lw_at lw_m2 178 rfl) rfl
theorem q521 : (Jvm.Cond.laysFinal "SnailPost" "SnailPost" "state" "LSnailPost$State;") ∈ lw_all := lw_g (lw_at lw_m2 179 rfl) rfl
theorem q522 : (Jvm.Cond.soleField "SnailPost" "state") ∈ lw_all := lw_g (lw_at lw_m2 180 rfl) rfl
theorem q523 : (Jvm.Cond.laysFinal "SnailPost" "SnailPost" "images" "[LSnailPost$State;") ∈ lw_all := lw_g (lw_at lw_m2 181 rfl) rfl
theorem q524 : (Jvm.Cond.soleField "SnailPost" "images") ∈ lw_all := lw_g (lw_at lw_m2 182 rfl) rfl
theorem q525 : (Jvm.Cond.laysFinal "SnailPost" "SnailPost" "tape" "[B") ∈ lw_all := lw_g (lw_at lw_m2 183 rfl) rfl
theorem q526 : (Jvm.Cond.soleField "SnailPost" "tape") ∈ lw_all := lw_g (lw_at lw_m2 184 rfl) rfl
theorem q527 : (Jvm.Cond.lays "SnailPost" "SnailPost" "taped" "I") ∈ lw_all := lw_g (lw_at lw_m2 185 rfl) rfl
theorem q528 : (Jvm.Cond.soleField "SnailPost" "taped") ∈ lw_all := lw_g (lw_at lw_m2 186 rfl) rfl
theorem q529 : (Jvm.Cond.lays "SnailPost" "SnailPost" "fault" "I") ∈ lw_all := lw_g (lw_at lw_m2 187 rfl) rfl
theorem q530 : (Jvm.Cond.soleField "SnailPost" "fault") ∈ lw_all := lw_g (lw_at lw_m2 188 rfl) rfl
theorem q531 : (Jvm.Cond.lays "SnailPost" "SnailPost" "spilt" "I") ∈ lw_all := lw_g (lw_at lw_m2 189 rfl) rfl
theorem q532 : (Jvm.Cond.soleField "SnailPost" "spilt") ∈ lw_all := lw_g (lw_at lw_m2 190 rfl) rfl
theorem q533 : (Jvm.Cond.lays "SnailPost" "SnailPost" "version" "I") ∈ lw_all := lw_g (lw_at lw_m2 191 rfl) rfl
theorem q534 : (Jvm.Cond.soleField "SnailPost" "version") ∈ lw_all := lw_g (lw_at lw_m2 192 rfl) rfl
theorem q535 : (Jvm.Cond.laysFinal "SnailPost" "SnailPost" "setting" "LSnailPost$Setting;") ∈ lw_all := lw_g (lw_at lw_m2 193 rfl) rfl
theorem q536 : (Jvm.Cond.soleField "SnailPost" "setting") ∈ lw_all := lw_g (lw_at lw_m2 194 rfl) rfl
theorem q537 : (Jvm.Cond.laysFinal "SnailPost" "SnailPost" "around" "[I") ∈ lw_all := lw_g (lw_at lw_m2 195 rfl) rfl
theorem q538 : (Jvm.Cond.soleField "SnailPost" "around") ∈ lw_all := lw_g (lw_at lw_m2 196 rfl) rfl
theorem q539 : (Jvm.Cond.laysFinal "SnailPost" "SnailPost" "today" "LSnailPost$Walk;") ∈ lw_all := lw_g (lw_at lw_m2 197 rfl) rfl
theorem q540 : (Jvm.Cond.soleField "SnailPost" "today") ∈ lw_all := lw_g (lw_at lw_m2 198 rfl) rfl
theorem q541 : (Jvm.Cond.laysFinal "SnailPost" "SnailPost" "log" "[I") ∈ lw_all := lw_g (lw_at lw_m2 199 rfl) rfl
theorem q542 : (Jvm.Cond.soleField "SnailPost" "log") ∈ lw_all := lw_g (lw_at lw_m2 200 rfl) rfl
theorem q543 : (Jvm.Cond.lays "SnailPost" "SnailPost" "dayMade" "I") ∈ lw_all := lw_g (lw_at lw_m2 201 rfl) rfl
theorem q544 : (Jvm.Cond.soleField "SnailPost" "dayMade") ∈ lw_all := lw_g (lw_at lw_m2 202 rfl) rfl
theorem q545 : (Jvm.Cond.laysFinal "SnailPost" "SnailPost" "lantern" "LSnailPost$Lantern;") ∈ lw_all := lw_g (lw_at lw_m2 203 rfl) rfl
theorem q546 : (Jvm.Cond.soleField "SnailPost" "lantern") ∈ lw_all := lw_g (lw_at lw_m2 204 rfl) rfl
theorem q547 : (Jvm.Cond.laysFinal "SnailPost" "SnailPost" "dueling" "LSnailPost$Lantern;") ∈ lw_all := lw_g (lw_at lw_m2 205 rfl) rfl
theorem q548 : (Jvm.Cond.soleField "SnailPost" "dueling") ∈ lw_all := lw_g (lw_at lw_m2 206 rfl) rfl
theorem q549 : (Jvm.Cond.lays "SnailPost" "SnailPost" "duelMade" "I") ∈ lw_all := lw_g (lw_at lw_m2 207 rfl) rfl
theorem q550 : (Jvm.Cond.soleField "SnailPost" "duelMade") ∈ lw_all := lw_g (lw_at lw_m2 208 rfl) rfl
theorem q551 : (Jvm.Cond.lays "SnailPost" "SnailPost" "duelHours" "I") ∈ lw_all := lw_g (lw_at lw_m2 209 rfl) rfl
theorem q552 : (Jvm.Cond.soleField "SnailPost" "duelHours") ∈ lw_all := lw_g (lw_at lw_m2 210 rfl) rfl
theorem q553 : (Jvm.Cond.lays "SnailPost" "SnailPost" "duelSnail" "I") ∈ lw_all := lw_g (lw_at lw_m2 211 rfl) rfl
theorem q554 : (Jvm.Cond.soleField "SnailPost" "duelSnail") ∈ lw_all := lw_g (lw_at lw_m2 212 rfl) rfl
theorem q555 : (Jvm.Cond.lays "SnailPost" "SnailPost" "duelEnd" "I") ∈ lw_all := lw_g (lw_at lw_m2 213 rfl) rfl
theorem q556 : (Jvm.Cond.soleField "SnailPost" "duelEnd") ∈ lw_all := lw_g (lw_at lw_m2 214 rfl) rfl
theorem q557 : (Jvm.Cond.lays "SnailPost" "SnailPost" "duelFirst" "I") ∈ lw_all := lw_g (lw_at lw_m2 215 rfl) rfl
theorem q558 : (Jvm.Cond.soleField "SnailPost" "duelFirst") ∈ lw_all := lw_g (lw_at lw_m2 216 rfl) rfl
theorem q559 : (Jvm.Cond.laysFinal "SnailPost" "SnailPost" "span" "LSnailPost$Span;") ∈ lw_all := lw_g (lw_at lw_m2 217 rfl) rfl
theorem q560 : (Jvm.Cond.soleField "SnailPost" "span") ∈ lw_all := lw_g (lw_at lw_m2 218 rfl) rfl
theorem q561 : (Jvm.Cond.laysFinal "SnailPost" "SnailPost" "shells" "LSnailPost$Shells;") ∈ lw_all := lw_g (lw_at lw_m2 219 rfl) rfl
theorem q562 : (Jvm.Cond.soleField "SnailPost" "shells") ∈ lw_all := lw_g (lw_at lw_m2 220 rfl) rfl
theorem q563 : (Jvm.Cond.laysFinal "SnailPost" "SnailPost" "orders" "LSnailPost$Orders;") ∈ lw_all := lw_g (lw_at lw_m2 221 rfl) rfl
theorem q564 : (Jvm.Cond.soleField "SnailPost" "orders") ∈ lw_all := lw_g (lw_at lw_m2 222 rfl) rfl
theorem q565 : (Jvm.Cond.laysFinal "SnailPost" "SnailPost" "hunted" "LSnailPost$Walk;") ∈ lw_all := lw_g (lw_at lw_m2 223 rfl) rfl
theorem q566 : (Jvm.Cond.soleField "SnailPost" "hunted") ∈ lw_all := lw_g (lw_at lw_m2 224 rfl) rfl
theorem q567 : (Jvm.Cond.laysFinal "SnailPost" "SnailPost" "eatenIn" "[I") ∈ lw_all := lw_g (lw_at lw_m2 225 rfl) rfl
theorem q568 : (Jvm.Cond.soleField "SnailPost" "eatenIn") ∈ lw_all := lw_g (lw_at lw_m2 226 rfl) rfl
theorem q569 : (Jvm.Cond.lays "SnailPost" "SnailPost" "huntedMany" "I") ∈ lw_all := lw_g (lw_at lw_m2 227 rfl) rfl
theorem q570 : (Jvm.Cond.soleField "SnailPost" "huntedMany") ∈ lw_all := lw_g (lw_at lw_m2 228 rfl) rfl
theorem q571 : (Jvm.Cond.lays "SnailPost" "SnailPost" "drawn" "I") ∈ lw_all := lw_g (lw_at lw_m2 229 rfl) rfl
theorem q572 : (Jvm.Cond.soleField "SnailPost" "drawn") ∈ lw_all := lw_g (lw_at lw_m2 230 rfl) rfl
theorem q573 : (Jvm.Cond.superclass "SnailPost" "java/lang/Object") ∈ lw_all := lw_g (lw_at lw_m2 231 rfl) rfl
theorem q575 : (Jvm.Cond.instanceMethod ({ cls := "SnailPost", name := "image", desc := "(I)I" } : Jvm.MethodName)) ∈ lw_all := lw_g (lw_at lw_m2 233 rfl) rfl
theorem q576 : (Jvm.Cond.selects "SnailPost" ({ cls := "SnailPost", name := "image", desc := "(I)I" } : Jvm.MethodName) ({ cls := "SnailPost", name := "image", desc := "(I)I" } : Jvm.MethodName)) ∈ lw_all := lw_g (lw_at lw_m2 234 rfl) rfl
theorem q577 : (Jvm.Cond.code ({ cls := "SnailPost", name := "image", desc := "(I)I" } : Jvm.MethodName) prog_1_method_13_code (2 : Nat) (Option.some Jvm.ClassFile.FieldType.int)) ∈ lw_all := lw_g (lw_at lw_m2 235 rfl) rfl
theorem q578 : (Jvm.Cond.methodLink "SnailPost" (112 : Nat) ({ cls := "SnailPost", name := "in", desc := "(III)Z" } : Jvm.MethodName)) ∈ lw_all := lw_g (lw_at lw_m2 236 rfl) rfl
theorem q579 : (Jvm.Cond.static ({ cls := "SnailPost", name := "in", desc := "(III)Z" } : Jvm.MethodName)) ∈ lw_all := lw_g (lw_at lw_m2 237 rfl) rfl
theorem q580 : (Jvm.Cond.code ({ cls := "SnailPost", name := "in", desc := "(III)Z" } : Jvm.MethodName) prog_1_method_4_code (3 : Nat) (Option.some Jvm.ClassFile.FieldType.boolean)) ∈ lw_all := lw_g (lw_at lw_m2 238 rfl) rfl
theorem q581 : (Jvm.Cond.methodLink "SnailPost" (122 : Nat) ({ cls := "SnailPost", name := "refuse", desc := "(I)I" } : Jvm.MethodName)) ∈ lw_all := lw_g (lw_at lw_m2 239 rfl) rfl
theorem q582 : (Jvm.Cond.privateMethod ({ cls := "SnailPost", name := "refuse", desc := "(I)I" } : Jvm.MethodName)) ∈ lw_tbl := lw_at lw_m3 0 rfl
theorem q583 : (Jvm.Cond.instanceMethod ({ cls := "SnailPost", name := "refuse", desc := "(I)I" } : Jvm.MethodName)) ∈ lw_all := lw_g (lw_at lw_m3 1 rfl) rfl
theorem q584 : (Jvm.Cond.code ({ cls := "SnailPost", name := "refuse", desc := "(I)I" } : Jvm.MethodName) prog_1_method_2_code (2 : Nat) (Option.some Jvm.ClassFile.FieldType.int)) ∈ lw_all := lw_g (lw_at lw_m3 2 rfl) rfl
theorem q585 : (Jvm.Cond.methodLink "SnailPost" (125 : Nat) ({ cls := "SnailPost$State", name := "takes", desc := "(LSnailPost$State;)V" } : Jvm.MethodName)) ∈ lw_all := lw_g (lw_at lw_m3 3 rfl) rfl
theorem q619 : (Jvm.Cond.selects "SnailPost" ({ cls := "java/lang/Object", name := "getClass", desc := "()Ljava/lang/Class;" } : Jvm.MethodName) ({ cls := "java/lang/Object", name := "getClass", desc := "()Ljava/lang/Class;" } : Jvm.MethodName)) ∈ lw_all := lw_g (lw_at lw_m3 37 rfl) rfl
theorem q668 : (Jvm.Cond.methodLink "SnailPost" (109 : Nat) ({ cls := "SnailPost", name := "done", desc := "(I)I" } : Jvm.MethodName)) ∈ lw_all := lw_g (lw_at lw_m3 86 rfl) rfl
theorem q669 : (Jvm.Cond.privateMethod ({ cls := "SnailPost", name := "done", desc := "(I)I" } : Jvm.MethodName)) ∈ lw_tbl := lw_at lw_m3 87 rfl
theorem q670 : (Jvm.Cond.instanceMethod ({ cls := "SnailPost", name := "done", desc := "(I)I" } : Jvm.MethodName)) ∈ lw_all := lw_g (lw_at lw_m3 88 rfl) rfl
theorem q671 : (Jvm.Cond.code ({ cls := "SnailPost", name := "done", desc := "(I)I" } : Jvm.MethodName) prog_1_method_3_code (2 : Nat) (Option.some Jvm.ClassFile.FieldType.int)) ∈ lw_all := lw_g (lw_at lw_m3 89 rfl) rfl
theorem q673 : (Jvm.Cond.instanceMethod ({ cls := "SnailPost", name := "back", desc := "(I)I" } : Jvm.MethodName)) ∈ lw_all := lw_g (lw_at lw_m3 91 rfl) rfl
theorem q674 : (Jvm.Cond.selects "SnailPost" ({ cls := "SnailPost", name := "back", desc := "(I)I" } : Jvm.MethodName) ({ cls := "SnailPost", name := "back", desc := "(I)I" } : Jvm.MethodName)) ∈ lw_all := lw_g (lw_at lw_m3 92 rfl) rfl
theorem q675 : (Jvm.Cond.code ({ cls := "SnailPost", name := "back", desc := "(I)I" } : Jvm.MethodName) prog_1_method_14_code (2 : Nat) (Option.some Jvm.ClassFile.FieldType.int)) ∈ lw_all := lw_g (lw_at lw_m3 93 rfl) rfl
theorem q676 : (Jvm.Cond.methodLink "SnailPost" (129 : Nat) ({ cls := "SnailPost", name := "told", desc := "(I)I" } : Jvm.MethodName)) ∈ lw_all := lw_g (lw_at lw_m3 94 rfl) rfl
theorem q677 : (Jvm.Cond.privateMethod ({ cls := "SnailPost", name := "told", desc := "(I)I" } : Jvm.MethodName)) ∈ lw_tbl := lw_at lw_m3 95 rfl
theorem q678 : (Jvm.Cond.instanceMethod ({ cls := "SnailPost", name := "told", desc := "(I)I" } : Jvm.MethodName)) ∈ lw_all := lw_g (lw_at lw_m3 96 rfl) rfl
theorem q679 : (Jvm.Cond.code ({ cls := "SnailPost", name := "told", desc := "(I)I" } : Jvm.MethodName) prog_1_method_7_code (2 : Nat) (Option.some Jvm.ClassFile.FieldType.int)) ∈ lw_all := lw_g (lw_at lw_m3 97 rfl) rfl
theorem q681 : (Jvm.Cond.instanceMethod ({ cls := "SnailPost", name := "damp", desc := "(II)I" } : Jvm.MethodName)) ∈ lw_all := lw_g (lw_at lw_m3 99 rfl) rfl
theorem q682 : (Jvm.Cond.selects "SnailPost" ({ cls := "SnailPost", name := "damp", desc := "(II)I" } : Jvm.MethodName) ({ cls := "SnailPost", name := "damp", desc := "(II)I" } : Jvm.MethodName)) ∈ lw_all := lw_g (lw_at lw_m3 100 rfl) rfl
theorem q683 : (Jvm.Cond.code ({ cls := "SnailPost", name := "damp", desc := "(II)I" } : Jvm.MethodName) prog_1_method_16_code (3 : Nat) (Option.some Jvm.ClassFile.FieldType.int)) ∈ lw_all := lw_g (lw_at lw_m3 101 rfl) rfl
theorem q684 : (Jvm.Cond.methodLink "SnailPost" (132 : Nat) ({ cls := "SnailPost", name := "isCell", desc := "(I)Z" } : Jvm.MethodName)) ∈ lw_all := lw_g (lw_at lw_m3 102 rfl) rfl
theorem q685 : (Jvm.Cond.static ({ cls := "SnailPost", name := "isCell", desc := "(I)Z" } : Jvm.MethodName)) ∈ lw_all := lw_g (lw_at lw_m3 103 rfl) rfl
theorem q686 : (Jvm.Cond.code ({ cls := "SnailPost", name := "isCell", desc := "(I)Z" } : Jvm.MethodName) prog_1_method_8_code (1 : Nat) (Option.some Jvm.ClassFile.FieldType.boolean)) ∈ lw_all := lw_g (lw_at lw_m3 104 rfl) rfl
theorem q687 : (Jvm.Cond.methodLink "SnailPost" (139 : Nat) ({ cls := "SnailPost", name := "replaces", desc := "([III)I" } : Jvm.MethodName)) ∈ lw_all := lw_g (lw_at lw_m3 105 rfl) rfl
theorem q688 : (Jvm.Cond.privateMethod ({ cls := "SnailPost", name := "replaces", desc := "([III)I" } : Jvm.MethodName)) ∈ lw_tbl := lw_at lw_m3 106 rfl
theorem q689 : (Jvm.Cond.instanceMethod ({ cls := "SnailPost", name := "replaces", desc := "([III)I" } : Jvm.MethodName)) ∈ lw_all := lw_g (lw_at lw_m3 107 rfl) rfl
theorem q690 : (Jvm.Cond.code ({ cls := "SnailPost", name := "replaces", desc := "([III)I" } : Jvm.MethodName) prog_1_method_15_code (5 : Nat) (Option.some Jvm.ClassFile.FieldType.int)) ∈ lw_all := lw_g (lw_at lw_m3 108 rfl) rfl
theorem q692 : (Jvm.Cond.instanceMethod ({ cls := "SnailPost", name := "salt", desc := "(II)I" } : Jvm.MethodName)) ∈ lw_all := lw_g (lw_at lw_m3 110 rfl) rfl
theorem q693 : (Jvm.Cond.selects "SnailPost" ({ cls := "SnailPost", name := "salt", desc := "(II)I" } : Jvm.MethodName) ({ cls := "SnailPost", name := "salt", desc := "(II)I" } : Jvm.MethodName)) ∈ lw_all := lw_g (lw_at lw_m3 111 rfl) rfl
theorem q694 : (Jvm.Cond.code ({ cls := "SnailPost", name := "salt", desc := "(II)I" } : Jvm.MethodName) prog_1_method_18_code (4 : Nat) (Option.some Jvm.ClassFile.FieldType.int)) ∈ lw_all := lw_g (lw_at lw_m3 112 rfl) rfl
theorem q695 : (Jvm.Cond.methodLink "SnailPost" (147 : Nat) ({ cls := "SnailPost", name := "isNeeded", desc := "(I)Z" } : Jvm.MethodName)) ∈ lw_all := lw_g (lw_at lw_m3 113 rfl) rfl
theorem q696 : (Jvm.Cond.privateMethod ({ cls := "SnailPost", name := "isNeeded", desc := "(I)Z" } : Jvm.MethodName)) ∈ lw_tbl := lw_at lw_m3 114 rfl
theorem q697 : (Jvm.Cond.instanceMethod ({ cls := "SnailPost", name := "isNeeded", desc := "(I)Z" } : Jvm.MethodName)) ∈ lw_all := lw_g (lw_at lw_m3 115 rfl) rfl
theorem q698 : (Jvm.Cond.code ({ cls := "SnailPost", name := "isNeeded", desc := "(I)Z" } : Jvm.MethodName) prog_1_method_17_code (3 : Nat) (Option.some Jvm.ClassFile.FieldType.boolean)) ∈ lw_all := lw_g (lw_at lw_m3 116 rfl) rfl
theorem q699 : (Jvm.Cond.methodLink "SnailPost" (143 : Nat) ({ cls := "SnailPost", name := "of0", desc := "(II)I" } : Jvm.MethodName)) ∈ lw_all := lw_g (lw_at lw_m3 117 rfl) rfl
theorem q700 : (Jvm.Cond.privateMethod ({ cls := "SnailPost", name := "of0", desc := "(II)I" } : Jvm.MethodName)) ∈ lw_tbl := lw_at lw_m3 118 rfl
theorem q701 : (Jvm.Cond.instanceMethod ({ cls := "SnailPost", name := "of0", desc := "(II)I" } : Jvm.MethodName)) ∈ lw_all := lw_g (lw_at lw_m3 119 rfl) rfl
theorem q702 : (Jvm.Cond.code ({ cls := "SnailPost", name := "of0", desc := "(II)I" } : Jvm.MethodName) prog_1_method_11_code (3 : Nat) (Option.some Jvm.ClassFile.FieldType.int)) ∈ lw_all := lw_g (lw_at lw_m3 120 rfl) rfl
theorem q704 : (Jvm.Cond.instanceMethod ({ cls := "SnailPost", name := "of", desc := "(II)I" } : Jvm.MethodName)) ∈ lw_all := lw_g (lw_at lw_m3 122 rfl) rfl
theorem q705 : (Jvm.Cond.selects "SnailPost" ({ cls := "SnailPost", name := "of", desc := "(II)I" } : Jvm.MethodName) ({ cls := "SnailPost", name := "of", desc := "(II)I" } : Jvm.MethodName)) ∈ lw_all := lw_g (lw_at lw_m3 123 rfl) rfl
theorem q706 : (Jvm.Cond.code ({ cls := "SnailPost", name := "of", desc := "(II)I" } : Jvm.MethodName) prog_1_method_19_code (3 : Nat) (Option.some Jvm.ClassFile.FieldType.int)) ∈ lw_all := lw_g (lw_at lw_m3 124 rfl) rfl
theorem q708 : (Jvm.Cond.instanceMethod ({ cls := "SnailPost", name := "snail", desc := "(IIII)I" } : Jvm.MethodName)) ∈ lw_all := lw_g (lw_at lw_m3 126 rfl) rfl
theorem q709 : (Jvm.Cond.selects "SnailPost" ({ cls := "SnailPost", name := "snail", desc := "(IIII)I" } : Jvm.MethodName) ({ cls := "SnailPost", name := "snail", desc := "(IIII)I" } : Jvm.MethodName)) ∈ lw_all := lw_g (lw_at lw_m3 127 rfl) rfl
theorem q710 : (Jvm.Cond.code ({ cls := "SnailPost", name := "snail", desc := "(IIII)I" } : Jvm.MethodName) prog_1_method_21_code (6 : Nat) (Option.some Jvm.ClassFile.FieldType.int)) ∈ lw_all := lw_g (lw_at lw_m3 128 rfl) rfl
theorem q711 : (Jvm.Cond.methodLink "SnailPost" (154 : Nat) ({ cls := "SnailPost", name := "isFact", desc := "(II)Z" } : Jvm.MethodName)) ∈ lw_all := lw_g (lw_at lw_m3 129 rfl) rfl
theorem q712 : (Jvm.Cond.static ({ cls := "SnailPost", name := "isFact", desc := "(II)Z" } : Jvm.MethodName)) ∈ lw_all := lw_g (lw_at lw_m3 130 rfl) rfl
theorem q713 : (Jvm.Cond.code ({ cls := "SnailPost", name := "isFact", desc := "(II)Z" } : Jvm.MethodName) prog_1_method_20_code (2 : Nat) (Option.some Jvm.ClassFile.FieldType.boolean)) ∈ lw_all := lw_g (lw_at lw_m3 131 rfl) rfl
theorem q715 : (Jvm.Cond.instanceMethod ({ cls := "SnailPost", name := "put", desc := "(III)I" } : Jvm.MethodName)) ∈ lw_all := lw_g (lw_at lw_m3 133 rfl) rfl
theorem q716 : (Jvm.Cond.selects "SnailPost" ({ cls := "SnailPost", name := "put", desc := "(III)I" } : Jvm.MethodName) ({ cls := "SnailPost", name := "put", desc := "(III)I" } : Jvm.MethodName)) ∈ lw_all := lw_g (lw_at lw_m3 134 rfl) rfl
theorem q717 : (Jvm.Cond.code ({ cls := "SnailPost", name := "put", desc := "(III)I" } : Jvm.MethodName) prog_1_method_22_code (4 : Nat) (Option.some Jvm.ClassFile.FieldType.int)) ∈ lw_all := lw_g (lw_at lw_m3 135 rfl) rfl
theorem q718 : (Jvm.Cond.methodLink "SnailPost" (158 : Nat) ({ cls := "SnailPost", name := "isSnail", desc := "(I)Z" } : Jvm.MethodName)) ∈ lw_all := lw_g (lw_at lw_m3 136 rfl) rfl
theorem q719 : (Jvm.Cond.privateMethod ({ cls := "SnailPost", name := "isSnail", desc := "(I)Z" } : Jvm.MethodName)) ∈ lw_tbl := lw_at lw_m3 137 rfl
theorem q720 : (Jvm.Cond.instanceMethod ({ cls := "SnailPost", name := "isSnail", desc := "(I)Z" } : Jvm.MethodName)) ∈ lw_all := lw_g (lw_at lw_m3 138 rfl) rfl
theorem q721 : (Jvm.Cond.code ({ cls := "SnailPost", name := "isSnail", desc := "(I)Z" } : Jvm.MethodName) prog_1_method_10_code (2 : Nat) (Option.some Jvm.ClassFile.FieldType.boolean)) ∈ lw_all := lw_g (lw_at lw_m3 139 rfl) rfl
theorem q723 : (Jvm.Cond.instanceMethod ({ cls := "SnailPost", name := "fact", desc := "(II)I" } : Jvm.MethodName)) ∈ lw_all := lw_g (lw_at lw_m3 141 rfl) rfl
theorem q724 : (Jvm.Cond.selects "SnailPost" ({ cls := "SnailPost", name := "fact", desc := "(II)I" } : Jvm.MethodName) ({ cls := "SnailPost", name := "fact", desc := "(II)I" } : Jvm.MethodName)) ∈ lw_all := lw_g (lw_at lw_m3 142 rfl) rfl
theorem q725 : (Jvm.Cond.code ({ cls := "SnailPost", name := "fact", desc := "(II)I" } : Jvm.MethodName) prog_1_method_23_code (3 : Nat) (Option.some Jvm.ClassFile.FieldType.int)) ∈ lw_all := lw_g (lw_at lw_m3 143 rfl) rfl
theorem q727 : (Jvm.Cond.instanceMethod ({ cls := "SnailPost", name := "spot", desc := "(I)I" } : Jvm.MethodName)) ∈ lw_all := lw_g (lw_at lw_m3 145 rfl) rfl
theorem q728 : (Jvm.Cond.selects "SnailPost" ({ cls := "SnailPost", name := "spot", desc := "(I)I" } : Jvm.MethodName) ({ cls := "SnailPost", name := "spot", desc := "(I)I" } : Jvm.MethodName)) ∈ lw_all := lw_g (lw_at lw_m3 146 rfl) rfl
theorem q729 : (Jvm.Cond.code ({ cls := "SnailPost", name := "spot", desc := "(I)I" } : Jvm.MethodName) prog_1_method_24_code (2 : Nat) (Option.some Jvm.ClassFile.FieldType.int)) ∈ lw_all := lw_g (lw_at lw_m3 147 rfl) rfl
theorem q731 : (Jvm.Cond.instanceMethod ({ cls := "SnailPost", name := "plan", desc := "(II)I" } : Jvm.MethodName)) ∈ lw_all := lw_g (lw_at lw_m3 149 rfl) rfl
theorem q732 : (Jvm.Cond.selects "SnailPost" ({ cls := "SnailPost", name := "plan", desc := "(II)I" } : Jvm.MethodName) ({ cls := "SnailPost", name := "plan", desc := "(II)I" } : Jvm.MethodName)) ∈ lw_all := lw_g (lw_at lw_m3 150 rfl) rfl
theorem q733 : (Jvm.Cond.code ({ cls := "SnailPost", name := "plan", desc := "(II)I" } : Jvm.MethodName) prog_1_method_25_code (3 : Nat) (Option.some Jvm.ClassFile.FieldType.int)) ∈ lw_all := lw_g (lw_at lw_m3 151 rfl) rfl
theorem q734 : (Jvm.Cond.methodLink "SnailPost" (167 : Nat) ({ cls := "SnailPost", name := "isHour", desc := "(I)Z" } : Jvm.MethodName)) ∈ lw_all := lw_g (lw_at lw_m3 152 rfl) rfl
theorem q735 : (Jvm.Cond.static ({ cls := "SnailPost", name := "isHour", desc := "(I)Z" } : Jvm.MethodName)) ∈ lw_all := lw_g (lw_at lw_m3 153 rfl) rfl
theorem q736 : (Jvm.Cond.code ({ cls := "SnailPost", name := "isHour", desc := "(I)Z" } : Jvm.MethodName) prog_1_method_9_code (1 : Nat) (Option.some Jvm.ClassFile.FieldType.boolean)) ∈ lw_all := lw_g (lw_at lw_m3 154 rfl) rfl
theorem q738 : (Jvm.Cond.instanceMethod ({ cls := "SnailPost", name := "terms", desc := "(II)I" } : Jvm.MethodName)) ∈ lw_all := lw_g (lw_at lw_m3 156 rfl) rfl
theorem q739 : (Jvm.Cond.selects "SnailPost" ({ cls := "SnailPost", name := "terms", desc := "(II)I" } : Jvm.MethodName) ({ cls := "SnailPost", name := "terms", desc := "(II)I" } : Jvm.MethodName)) ∈ lw_all := lw_g (lw_at lw_m3 157 rfl) rfl
theorem q740 : (Jvm.Cond.code ({ cls := "SnailPost", name := "terms", desc := "(II)I" } : Jvm.MethodName) prog_1_method_26_code (3 : Nat) (Option.some Jvm.ClassFile.FieldType.int)) ∈ lw_all := lw_g (lw_at lw_m3 158 rfl) rfl
theorem q742 : (Jvm.Cond.instanceMethod ({ cls := "SnailPost", name := "feed", desc := "(IIIII)I" } : Jvm.MethodName)) ∈ lw_all := lw_g (lw_at lw_m3 160 rfl) rfl
theorem q743 : (Jvm.Cond.selects "SnailPost" ({ cls := "SnailPost", name := "feed", desc := "(IIIII)I" } : Jvm.MethodName) ({ cls := "SnailPost", name := "feed", desc := "(IIIII)I" } : Jvm.MethodName)) ∈ lw_all := lw_g (lw_at lw_m3 161 rfl) rfl
theorem q744 : (Jvm.Cond.code ({ cls := "SnailPost", name := "feed", desc := "(IIIII)I" } : Jvm.MethodName) prog_1_method_27_code (6 : Nat) (Option.some Jvm.ClassFile.FieldType.int)) ∈ lw_all := lw_g (lw_at lw_m3 162 rfl) rfl
theorem q745 : (Jvm.Cond.methodLink "SnailPost" (179 : Nat) ({ cls := "SnailPost", name := "four", desc := "(I)V" } : Jvm.MethodName)) ∈ lw_all := lw_g (lw_at lw_m3 163 rfl) rfl
theorem q746 : (Jvm.Cond.privateMethod ({ cls := "SnailPost", name := "four", desc := "(I)V" } : Jvm.MethodName)) ∈ lw_tbl := lw_at lw_m3 164 rfl
theorem q747 : (Jvm.Cond.instanceMethod ({ cls := "SnailPost", name := "four", desc := "(I)V" } : Jvm.MethodName)) ∈ lw_all := lw_g (lw_at lw_m3 165 rfl) rfl
theorem q748 : (Jvm.Cond.code ({ cls := "SnailPost", name := "four", desc := "(I)V" } : Jvm.MethodName) prog_1_method_28_code (3 : Nat) (Option.none : Option Jvm.ClassFile.FieldType)) ∈ lw_all := lw_g (lw_at lw_m3 166 rfl) rfl
theorem q750 : (Jvm.Cond.instanceMethod ({ cls := "SnailPost", name := "end", desc := "(I)I" } : Jvm.MethodName)) ∈ lw_all := lw_g (lw_at lw_m3 168 rfl) rfl
theorem q751 : (Jvm.Cond.selects "SnailPost" ({ cls := "SnailPost", name := "end", desc := "(I)I" } : Jvm.MethodName) ({ cls := "SnailPost", name := "end", desc := "(I)I" } : Jvm.MethodName)) ∈ lw_all := lw_g (lw_at lw_m3 169 rfl) rfl
theorem q752 : (Jvm.Cond.code ({ cls := "SnailPost", name := "end", desc := "(I)I" } : Jvm.MethodName) prog_1_method_29_code (2 : Nat) (Option.some Jvm.ClassFile.FieldType.int)) ∈ lw_all := lw_g (lw_at lw_m3 170 rfl) rfl
theorem q754 : (Jvm.Cond.instanceMethod ({ cls := "SnailPost", name := "row", desc := "()I" } : Jvm.MethodName)) ∈ lw_all := lw_g (lw_at lw_m3 172 rfl) rfl
theorem q755 : (Jvm.Cond.selects "SnailPost" ({ cls := "SnailPost", name := "row", desc := "()I" } : Jvm.MethodName) ({ cls := "SnailPost", name := "row", desc := "()I" } : Jvm.MethodName)) ∈ lw_all := lw_g (lw_at lw_m3 173 rfl) rfl
theorem q756 : (Jvm.Cond.code ({ cls := "SnailPost", name := "row", desc := "()I" } : Jvm.MethodName) prog_1_method_30_code (6 : Nat) (Option.some Jvm.ClassFile.FieldType.int)) ∈ lw_all := lw_g (lw_at lw_m3 174 rfl) rfl
theorem q758 : (Jvm.Cond.instanceMethod ({ cls := "SnailPost", name := "spilt", desc := "()I" } : Jvm.MethodName)) ∈ lw_all := lw_g (lw_at lw_m3 176 rfl) rfl
theorem q759 : (Jvm.Cond.selects "SnailPost" ({ cls := "SnailPost", name := "spilt", desc := "()I" } : Jvm.MethodName) ({ cls := "SnailPost", name := "spilt", desc := "()I" } : Jvm.MethodName)) ∈ lw_all := lw_g (lw_at lw_m3 177 rfl) rfl
theorem q760 : (Jvm.Cond.code ({ cls := "SnailPost", name := "spilt", desc := "()I" } : Jvm.MethodName) prog_1_method_31_code (1 : Nat) (Option.some Jvm.ClassFile.FieldType.int)) ∈ lw_all := lw_g (lw_at lw_m3 178 rfl) rfl
theorem q762 : (Jvm.Cond.instanceMethod ({ cls := "SnailPost", name := "law", desc := "()I" } : Jvm.MethodName)) ∈ lw_all := lw_g (lw_at lw_m3 180 rfl) rfl
theorem q763 : (Jvm.Cond.selects "SnailPost" ({ cls := "SnailPost", name := "law", desc := "()I" } : Jvm.MethodName) ({ cls := "SnailPost", name := "law", desc := "()I" } : Jvm.MethodName)) ∈ lw_all := lw_g (lw_at lw_m3 181 rfl) rfl
theorem q764 : (Jvm.Cond.codeWith ({ cls := "SnailPost", name := "law", desc := "()I" } : Jvm.MethodName) prog_1_method_32_code (4 : Nat) (Option.some Jvm.ClassFile.FieldType.int) [((45 : Nat), (49 : Nat), (52 : Nat), (204 : Nat))]) ∈ lw_all := lw_g (lw_at lw_m3 182 rfl) rfl
theorem q765 : (Jvm.Cond.classLink "SnailPost" (204 : Nat) "SnailPost$Fault") ∈ lw_all := lw_g (lw_at lw_m3 183 rfl) rfl
theorem q766 : (Jvm.Cond.methodLink "SnailPost" (190 : Nat) ({ cls := "java/util/ArrayList", name := "size", desc := "()I" } : Jvm.MethodName)) ∈ lw_all := lw_g (lw_at lw_m3 184 rfl) rfl
theorem q770 : (Jvm.Cond.classLink "SnailPost" (196 : Nat) "SnailPost$Reader") ∈ lw_all := lw_g (lw_at lw_m3 188 rfl) rfl
theorem q772 : (Jvm.Cond.methodLink "SnailPost" (198 : Nat) ({ cls := "SnailPost$Reader", name := "<init>", desc := "([BI)V" } : Jvm.MethodName)) ∈ lw_all := lw_g (lw_at lw_m3 190 rfl) rfl
theorem q781 : (Jvm.Cond.fieldLinkNest "SnailPost" (211 : Nat) "SnailPost$Reader" "made" "Ljava/util/ArrayList;" "SnailPost") ∈ lw_tbl := lw_at lw_m3 199 rfl
theorem q801 : (Jvm.Cond.methodLink "SnailPost" (201 : Nat) ({ cls := "SnailPost$Reader", name := "read", desc := "()V" } : Jvm.MethodName)) ∈ lw_all := lw_g (lw_at lw_m3 219 rfl) rfl
theorem q887 : (Jvm.Cond.fieldLinkNest "SnailPost" (206 : Nat) "SnailPost$Fault" "place" "I" "SnailPost") ∈ lw_tbl := lw_at lw_m4 65 rfl
theorem q1085 : (Jvm.Cond.classLink "SnailPost" (209 : Nat) "SnailPost$Law") ∈ lw_all := lw_g (lw_at lw_m5 23 rfl) rfl
theorem q1087 : (Jvm.Cond.methodLink "SnailPost" (214 : Nat) ({ cls := "SnailPost$Law", name := "<init>", desc := "(Ljava/util/ArrayList;)V" } : Jvm.MethodName)) ∈ lw_all := lw_g (lw_at lw_m5 25 rfl) rfl
theorem q1095 : (Jvm.Cond.methodLink "SnailPost" (217 : Nat) ({ cls := "java/util/ArrayList", name := "add", desc := "(Ljava/lang/Object;)Z" } : Jvm.MethodName)) ∈ lw_all := lw_g (lw_at lw_m5 33 rfl) rfl
theorem q1097 : (Jvm.Cond.instanceMethod ({ cls := "SnailPost", name := "fault", desc := "()I" } : Jvm.MethodName)) ∈ lw_all := lw_g (lw_at lw_m5 35 rfl) rfl
theorem q1098 : (Jvm.Cond.selects "SnailPost" ({ cls := "SnailPost", name := "fault", desc := "()I" } : Jvm.MethodName) ({ cls := "SnailPost", name := "fault", desc := "()I" } : Jvm.MethodName)) ∈ lw_all := lw_g (lw_at lw_m5 36 rfl) rfl
theorem q1099 : (Jvm.Cond.code ({ cls := "SnailPost", name := "fault", desc := "()I" } : Jvm.MethodName) prog_1_method_33_code (1 : Nat) (Option.some Jvm.ClassFile.FieldType.int)) ∈ lw_all := lw_g (lw_at lw_m5 37 rfl) rfl
theorem q1101 : (Jvm.Cond.instanceMethod ({ cls := "SnailPost", name := "force", desc := "(I)I" } : Jvm.MethodName)) ∈ lw_all := lw_g (lw_at lw_m5 39 rfl) rfl
theorem q1102 : (Jvm.Cond.selects "SnailPost" ({ cls := "SnailPost", name := "force", desc := "(I)I" } : Jvm.MethodName) ({ cls := "SnailPost", name := "force", desc := "(I)I" } : Jvm.MethodName)) ∈ lw_all := lw_g (lw_at lw_m5 40 rfl) rfl
theorem q1103 : (Jvm.Cond.code ({ cls := "SnailPost", name := "force", desc := "(I)I" } : Jvm.MethodName) prog_1_method_34_code (3 : Nat) (Option.some Jvm.ClassFile.FieldType.int)) ∈ lw_all := lw_g (lw_at lw_m5 41 rfl) rfl
theorem q1105 : (Jvm.Cond.instanceMethod ({ cls := "SnailPost", name := "where", desc := "(II)I" } : Jvm.MethodName)) ∈ lw_all := lw_g (lw_at lw_m5 43 rfl) rfl
theorem q1106 : (Jvm.Cond.selects "SnailPost" ({ cls := "SnailPost", name := "where", desc := "(II)I" } : Jvm.MethodName) ({ cls := "SnailPost", name := "where", desc := "(II)I" } : Jvm.MethodName)) ∈ lw_all := lw_g (lw_at lw_m5 44 rfl) rfl
theorem q1107 : (Jvm.Cond.code ({ cls := "SnailPost", name := "where", desc := "(II)I" } : Jvm.MethodName) prog_1_method_37_code (3 : Nat) (Option.some Jvm.ClassFile.FieldType.int)) ∈ lw_all := lw_g (lw_at lw_m5 45 rfl) rfl
theorem q1108 : (Jvm.Cond.methodLink "SnailPost" (245 : Nat) ({ cls := "SnailPost", name := "looks", desc := "()V" } : Jvm.MethodName)) ∈ lw_all := lw_g (lw_at lw_m5 46 rfl) rfl
theorem q1109 : (Jvm.Cond.privateMethod ({ cls := "SnailPost", name := "looks", desc := "()V" } : Jvm.MethodName)) ∈ lw_tbl := lw_at lw_m5 47 rfl
theorem q1110 : (Jvm.Cond.instanceMethod ({ cls := "SnailPost", name := "looks", desc := "()V" } : Jvm.MethodName)) ∈ lw_all := lw_g (lw_at lw_m5 48 rfl) rfl
theorem q1111 : (Jvm.Cond.code ({ cls := "SnailPost", name := "looks", desc := "()V" } : Jvm.MethodName) prog_1_method_36_code (2 : Nat) (Option.none : Option Jvm.ClassFile.FieldType)) ∈ lw_all := lw_g (lw_at lw_m5 49 rfl) rfl
theorem q1112 : (Jvm.Cond.methodLink "SnailPost" (229 : Nat) ({ cls := "SnailPost$Walk", name := "begins", desc := "()V" } : Jvm.MethodName)) ∈ lw_all := lw_g (lw_at lw_m5 50 rfl) rfl
theorem q1117 : (Jvm.Cond.methodLink "SnailPost" (232 : Nat) ({ cls := "SnailPost$Walk", name := "minute", desc := "(II)V" } : Jvm.MethodName)) ∈ lw_all := lw_g (lw_at lw_m5 55 rfl) rfl
theorem q1122 : (Jvm.Cond.static ({ cls := "SnailPost", name := "isOf", desc := "(II)Z" } : Jvm.MethodName)) ∈ lw_all := lw_g (lw_at lw_m5 60 rfl) rfl
theorem q1123 : (Jvm.Cond.code ({ cls := "SnailPost", name := "isOf", desc := "(II)Z" } : Jvm.MethodName) prog_1_method_5_code (2 : Nat) (Option.some Jvm.ClassFile.FieldType.boolean)) ∈ lw_all := lw_g (lw_at lw_m5 61 rfl) rfl
theorem q1134 : (Jvm.Cond.static ({ cls := "SnailPost", name := "apart", desc := "(II)I" } : Jvm.MethodName)) ∈ lw_all := lw_g (lw_at lw_m5 72 rfl) rfl
theorem q1135 : (Jvm.Cond.code ({ cls := "SnailPost", name := "apart", desc := "(II)I" } : Jvm.MethodName) prog_1_method_35_code (2 : Nat) (Option.some Jvm.ClassFile.FieldType.int)) ∈ lw_all := lw_g (lw_at lw_m5 73 rfl) rfl
theorem q1136 : (Jvm.Cond.methodLink "SnailPost" (224 : Nat) ({ cls := "java/lang/Math", name := "abs", desc := "(I)I" } : Jvm.MethodName)) ∈ lw_all := lw_g (lw_at lw_m5 74 rfl) rfl
theorem q1141 : (Jvm.Cond.static ({ cls := "SnailPost", name := "ones", desc := "(I)I" } : Jvm.MethodName)) ∈ lw_all := lw_g (lw_at lw_m5 79 rfl) rfl
theorem q1142 : (Jvm.Cond.code ({ cls := "SnailPost", name := "ones", desc := "(I)I" } : Jvm.MethodName) prog_1_method_6_code (1 : Nat) (Option.some Jvm.ClassFile.FieldType.int)) ∈ lw_all := lw_g (lw_at lw_m5 80 rfl) rfl
theorem q1143 : (Jvm.Cond.methodLink "SnailPost" (100 : Nat) ({ cls := "java/lang/Integer", name := "bitCount", desc := "(I)I" } : Jvm.MethodName)) ∈ lw_all := lw_g (lw_at lw_m5 81 rfl) rfl
theorem q1217 : (Jvm.Cond.methodLink "SnailPost" (239 : Nat) ({ cls := "java/lang/System", name := "arraycopy", desc := "(Ljava/lang/Object;ILjava/lang/Object;II)V" } : Jvm.MethodName)) ∈ lw_all := lw_g (lw_at lw_m5 155 rfl) rfl
theorem q1219 : (Jvm.Cond.instanceMethod ({ cls := "SnailPost", name := "day", desc := "(II)I" } : Jvm.MethodName)) ∈ lw_all := lw_g (lw_at lw_m5 157 rfl) rfl
theorem q1220 : (Jvm.Cond.selects "SnailPost" ({ cls := "SnailPost", name := "day", desc := "(II)I" } : Jvm.MethodName) ({ cls := "SnailPost", name := "day", desc := "(II)I" } : Jvm.MethodName)) ∈ lw_all := lw_g (lw_at lw_m5 158 rfl) rfl
theorem q1221 : (Jvm.Cond.code ({ cls := "SnailPost", name := "day", desc := "(II)I" } : Jvm.MethodName) prog_1_method_38_code (5 : Nat) (Option.some Jvm.ClassFile.FieldType.int)) ∈ lw_all := lw_g (lw_at lw_m5 159 rfl) rfl
theorem q1223 : (Jvm.Cond.instanceMethod ({ cls := "SnailPost", name := "trail", desc := "(I)I" } : Jvm.MethodName)) ∈ lw_all := lw_g (lw_at lw_m5 161 rfl) rfl
theorem q1224 : (Jvm.Cond.selects "SnailPost" ({ cls := "SnailPost", name := "trail", desc := "(I)I" } : Jvm.MethodName) ({ cls := "SnailPost", name := "trail", desc := "(I)I" } : Jvm.MethodName)) ∈ lw_all := lw_g (lw_at lw_m5 162 rfl) rfl
theorem q1225 : (Jvm.Cond.code ({ cls := "SnailPost", name := "trail", desc := "(I)I" } : Jvm.MethodName) prog_1_method_39_code (2 : Nat) (Option.some Jvm.ClassFile.FieldType.int)) ∈ lw_all := lw_g (lw_at lw_m5 163 rfl) rfl
theorem q1227 : (Jvm.Cond.instanceMethod ({ cls := "SnailPost", name := "best", desc := "(III)I" } : Jvm.MethodName)) ∈ lw_all := lw_g (lw_at lw_m5 165 rfl) rfl
theorem q1228 : (Jvm.Cond.selects "SnailPost" ({ cls := "SnailPost", name := "best", desc := "(III)I" } : Jvm.MethodName) ({ cls := "SnailPost", name := "best", desc := "(III)I" } : Jvm.MethodName)) ∈ lw_all := lw_g (lw_at lw_m5 166 rfl) rfl
theorem q1229 : (Jvm.Cond.code ({ cls := "SnailPost", name := "best", desc := "(III)I" } : Jvm.MethodName) prog_1_method_41_code (4 : Nat) (Option.some Jvm.ClassFile.FieldType.int)) ∈ lw_all := lw_g (lw_at lw_m5 167 rfl) rfl
theorem q1230 : (Jvm.Cond.methodLink "SnailPost" (260 : Nat) ({ cls := "SnailPost", name := "isBest", desc := "(II)Z" } : Jvm.MethodName)) ∈ lw_all := lw_g (lw_at lw_m5 168 rfl) rfl
theorem q1231 : (Jvm.Cond.privateMethod ({ cls := "SnailPost", name := "isBest", desc := "(II)Z" } : Jvm.MethodName)) ∈ lw_tbl := lw_at lw_m5 169 rfl
theorem q1232 : (Jvm.Cond.instanceMethod ({ cls := "SnailPost", name := "isBest", desc := "(II)Z" } : Jvm.MethodName)) ∈ lw_all := lw_g (lw_at lw_m5 170 rfl) rfl
theorem q1233 : (Jvm.Cond.code ({ cls := "SnailPost", name := "isBest", desc := "(II)Z" } : Jvm.MethodName) prog_1_method_40_code (3 : Nat) (Option.some Jvm.ClassFile.FieldType.boolean)) ∈ lw_all := lw_g (lw_at lw_m5 171 rfl) rfl
theorem q1234 : (Jvm.Cond.methodLink "SnailPost" (257 : Nat) ({ cls := "SnailPost", name := "everyone", desc := "()I" } : Jvm.MethodName)) ∈ lw_all := lw_g (lw_at lw_m5 172 rfl) rfl
theorem q1235 : (Jvm.Cond.privateMethod ({ cls := "SnailPost", name := "everyone", desc := "()I" } : Jvm.MethodName)) ∈ lw_tbl := lw_at lw_m5 173 rfl
theorem q1236 : (Jvm.Cond.instanceMethod ({ cls := "SnailPost", name := "everyone", desc := "()I" } : Jvm.MethodName)) ∈ lw_all := lw_g (lw_at lw_m5 174 rfl) rfl
theorem q1237 : (Jvm.Cond.code ({ cls := "SnailPost", name := "everyone", desc := "()I" } : Jvm.MethodName) prog_1_method_12_code (1 : Nat) (Option.some Jvm.ClassFile.FieldType.int)) ∈ lw_all := lw_g (lw_at lw_m5 175 rfl) rfl
theorem q1238 : (Jvm.Cond.methodLink "SnailPost" (263 : Nat) ({ cls := "SnailPost$Lantern", name := "looks", desc := "(II)V" } : Jvm.MethodName)) ∈ lw_all := lw_g (lw_at lw_m5 176 rfl) rfl
theorem q1268 : (Jvm.Cond.instanceMethod ({ cls := "SnailPost", name := "light", desc := "(II)I" } : Jvm.MethodName)) ∈ lw_all := lw_g (lw_at lw_m5 206 rfl) rfl
theorem q1269 : (Jvm.Cond.selects "SnailPost" ({ cls := "SnailPost", name := "light", desc := "(II)I" } : Jvm.MethodName) ({ cls := "SnailPost", name := "light", desc := "(II)I" } : Jvm.MethodName)) ∈ lw_all := lw_g (lw_at lw_m5 207 rfl) rfl
theorem q1270 : (Jvm.Cond.code ({ cls := "SnailPost", name := "light", desc := "(II)I" } : Jvm.MethodName) prog_1_method_42_code (4 : Nat) (Option.some Jvm.ClassFile.FieldType.int)) ∈ lw_all := lw_g (lw_at lw_m5 208 rfl) rfl
theorem q1272 : (Jvm.Cond.instanceMethod ({ cls := "SnailPost", name := "duel", desc := "(III)I" } : Jvm.MethodName)) ∈ lw_all := lw_g (lw_at lw_m5 210 rfl) rfl
theorem q1273 : (Jvm.Cond.selects "SnailPost" ({ cls := "SnailPost", name := "duel", desc := "(III)I" } : Jvm.MethodName) ({ cls := "SnailPost", name := "duel", desc := "(III)I" } : Jvm.MethodName)) ∈ lw_all := lw_g (lw_at lw_m5 211 rfl) rfl
theorem q1274 : (Jvm.Cond.code ({ cls := "SnailPost", name := "duel", desc := "(III)I" } : Jvm.MethodName) prog_1_method_43_code (4 : Nat) (Option.some Jvm.ClassFile.FieldType.int)) ∈ lw_all := lw_g (lw_at lw_m5 212 rfl) rfl
theorem q1275 : (Jvm.Cond.methodLink "SnailPost" (285 : Nat) ({ cls := "SnailPost$Lantern", name := "duel", desc := "(III)I" } : Jvm.MethodName)) ∈ lw_all := lw_g (lw_at lw_m5 213 rfl) rfl
theorem q1283 : (Jvm.Cond.instanceMethod ({ cls := "SnailPost", name := "read", desc := "(I)I" } : Jvm.MethodName)) ∈ lw_all := lw_g (lw_at lw_m5 221 rfl) rfl
theorem q1284 : (Jvm.Cond.selects "SnailPost" ({ cls := "SnailPost", name := "read", desc := "(I)I" } : Jvm.MethodName) ({ cls := "SnailPost", name := "read", desc := "(I)I" } : Jvm.MethodName)) ∈ lw_all := lw_g (lw_at lw_m5 222 rfl) rfl
theorem q1285 : (Jvm.Cond.code ({ cls := "SnailPost", name := "read", desc := "(I)I" } : Jvm.MethodName) prog_1_method_45_code (2 : Nat) (Option.some Jvm.ClassFile.FieldType.int)) ∈ lw_all := lw_g (lw_at lw_m5 223 rfl) rfl
theorem q1286 : (Jvm.Cond.methodLink "SnailPost" (310 : Nat) ({ cls := "SnailPost", name := "isRead", desc := "(I)Z" } : Jvm.MethodName)) ∈ lw_all := lw_g (lw_at lw_m5 224 rfl) rfl
theorem q1287 : (Jvm.Cond.privateMethod ({ cls := "SnailPost", name := "isRead", desc := "(I)Z" } : Jvm.MethodName)) ∈ lw_tbl := lw_at lw_m5 225 rfl
theorem q1288 : (Jvm.Cond.instanceMethod ({ cls := "SnailPost", name := "isRead", desc := "(I)Z" } : Jvm.MethodName)) ∈ lw_all := lw_g (lw_at lw_m5 226 rfl) rfl
theorem q1289 : (Jvm.Cond.code ({ cls := "SnailPost", name := "isRead", desc := "(I)Z" } : Jvm.MethodName) prog_1_method_44_code (3 : Nat) (Option.some Jvm.ClassFile.FieldType.boolean)) ∈ lw_all := lw_g (lw_at lw_m5 227 rfl) rfl
theorem q1290 : (Jvm.Cond.methodLink "SnailPost" (298 : Nat) ({ cls := "SnailPost$Span", name := "clears", desc := "()V" } : Jvm.MethodName)) ∈ lw_all := lw_g (lw_at lw_m5 228 rfl) rfl
theorem q1294 : (Jvm.Cond.methodLink "SnailPost" (301 : Nat) ({ cls := "SnailPost", name := "isOf", desc := "(II)Z" } : Jvm.MethodName)) ∈ lw_all := lw_g (lw_at lw_m5 232 rfl) rfl
theorem q1295 : (Jvm.Cond.methodLink "SnailPost" (304 : Nat) ({ cls := "SnailPost$Span", name := "adds", desc := "(I)V" } : Jvm.MethodName)) ∈ lw_all := lw_g (lw_at lw_m5 233 rfl) rfl
theorem q1308 : (Jvm.Cond.methodLink "SnailPost" (307 : Nat) ({ cls := "SnailPost$Span", name := "tells", desc := "(I)Z" } : Jvm.MethodName)) ∈ lw_all := lw_g (lw_at lw_m6 6 rfl) rfl
theorem q1313 : (Jvm.Cond.instanceMethod ({ cls := "SnailPost", name := "safe", desc := "()I" } : Jvm.MethodName)) ∈ lw_all := lw_g (lw_at lw_m6 11 rfl) rfl
theorem q1314 : (Jvm.Cond.selects "SnailPost" ({ cls := "SnailPost", name := "safe", desc := "()I" } : Jvm.MethodName) ({ cls := "SnailPost", name := "safe", desc := "()I" } : Jvm.MethodName)) ∈ lw_all := lw_g (lw_at lw_m6 12 rfl) rfl
theorem q1315 : (Jvm.Cond.code ({ cls := "SnailPost", name := "safe", desc := "()I" } : Jvm.MethodName) prog_1_method_46_code (3 : Nat) (Option.some Jvm.ClassFile.FieldType.int)) ∈ lw_all := lw_g (lw_at lw_m6 13 rfl) rfl
theorem q1316 : (Jvm.Cond.methodLink "SnailPost" (313 : Nat) ({ cls := "SnailPost", name := "ones", desc := "(I)I" } : Jvm.MethodName)) ∈ lw_all := lw_g (lw_at lw_m6 14 rfl) rfl
theorem q1317 : (Jvm.Cond.methodLink "SnailPost" (316 : Nat) ({ cls := "java/lang/Math", name := "min", desc := "(II)I" } : Jvm.MethodName)) ∈ lw_all := lw_g (lw_at lw_m6 15 rfl) rfl
theorem q1319 : (Jvm.Cond.instanceMethod ({ cls := "SnailPost", name := "odds", desc := "()J" } : Jvm.MethodName)) ∈ lw_all := lw_g (lw_at lw_m6 17 rfl) rfl
theorem q1320 : (Jvm.Cond.selects "SnailPost" ({ cls := "SnailPost", name := "odds", desc := "()J" } : Jvm.MethodName) ({ cls := "SnailPost", name := "odds", desc := "()J" } : Jvm.MethodName)) ∈ lw_all := lw_g (lw_at lw_m6 18 rfl) rfl
theorem q1321 : (Jvm.Cond.code ({ cls := "SnailPost", name := "odds", desc := "()J" } : Jvm.MethodName) prog_1_method_48_code (1 : Nat) (Option.some Jvm.ClassFile.FieldType.long)) ∈ lw_all := lw_g (lw_at lw_m6 19 rfl) rfl
theorem q1322 : (Jvm.Cond.methodLink "SnailPost" (319 : Nat) ({ cls := "SnailPost", name := "oddsOf", desc := "(I)J" } : Jvm.MethodName)) ∈ lw_all := lw_g (lw_at lw_m6 20 rfl) rfl
theorem q1323 : (Jvm.Cond.privateMethod ({ cls := "SnailPost", name := "oddsOf", desc := "(I)J" } : Jvm.MethodName)) ∈ lw_tbl := lw_at lw_m6 21 rfl
theorem q1324 : (Jvm.Cond.instanceMethod ({ cls := "SnailPost", name := "oddsOf", desc := "(I)J" } : Jvm.MethodName)) ∈ lw_all := lw_g (lw_at lw_m6 22 rfl) rfl
theorem q1325 : (Jvm.Cond.code ({ cls := "SnailPost", name := "oddsOf", desc := "(I)J" } : Jvm.MethodName) prog_1_method_47_code (8 : Nat) (Option.some Jvm.ClassFile.FieldType.long)) ∈ lw_all := lw_g (lw_at lw_m6 23 rfl) rfl
theorem q1327 : (Jvm.Cond.instanceMethod ({ cls := "SnailPost", name := "keys", desc := "()I" } : Jvm.MethodName)) ∈ lw_all := lw_g (lw_at lw_m6 25 rfl) rfl
theorem q1328 : (Jvm.Cond.selects "SnailPost" ({ cls := "SnailPost", name := "keys", desc := "()I" } : Jvm.MethodName) ({ cls := "SnailPost", name := "keys", desc := "()I" } : Jvm.MethodName)) ∈ lw_all := lw_g (lw_at lw_m6 26 rfl) rfl
theorem q1329 : (Jvm.Cond.code ({ cls := "SnailPost", name := "keys", desc := "()I" } : Jvm.MethodName) prog_1_method_49_code (3 : Nat) (Option.some Jvm.ClassFile.FieldType.int)) ∈ lw_all := lw_g (lw_at lw_m6 27 rfl) rfl
theorem q1331 : (Jvm.Cond.instanceMethod ({ cls := "SnailPost", name := "send", desc := "(I)I" } : Jvm.MethodName)) ∈ lw_all := lw_g (lw_at lw_m6 29 rfl) rfl
theorem q1332 : (Jvm.Cond.selects "SnailPost" ({ cls := "SnailPost", name := "send", desc := "(I)I" } : Jvm.MethodName) ({ cls := "SnailPost", name := "send", desc := "(I)I" } : Jvm.MethodName)) ∈ lw_all := lw_g (lw_at lw_m6 30 rfl) rfl
theorem q1333 : (Jvm.Cond.code ({ cls := "SnailPost", name := "send", desc := "(I)I" } : Jvm.MethodName) prog_1_method_50_code (10 : Nat) (Option.some Jvm.ClassFile.FieldType.int)) ∈ lw_all := lw_g (lw_at lw_m6 31 rfl) rfl
theorem q1334 : (Jvm.Cond.constantLong "SnailPost" (323 : Nat) (100 : Int64)) ∈ lw_all := lw_g (lw_at lw_m6 32 rfl) rfl
theorem q1336 : (Jvm.Cond.instanceMethod ({ cls := "SnailPost", name := "shells", desc := "(III)I" } : Jvm.MethodName)) ∈ lw_all := lw_g (lw_at lw_m6 34 rfl) rfl
theorem q1337 : (Jvm.Cond.selects "SnailPost" ({ cls := "SnailPost", name := "shells", desc := "(III)I" } : Jvm.MethodName) ({ cls := "SnailPost", name := "shells", desc := "(III)I" } : Jvm.MethodName)) ∈ lw_all := lw_g (lw_at lw_m6 35 rfl) rfl
theorem q1338 : (Jvm.Cond.code ({ cls := "SnailPost", name := "shells", desc := "(III)I" } : Jvm.MethodName) prog_1_method_51_code (4 : Nat) (Option.some Jvm.ClassFile.FieldType.int)) ∈ lw_all := lw_g (lw_at lw_m6 36 rfl) rfl
theorem q1339 : (Jvm.Cond.methodLink "SnailPost" (325 : Nat) ({ cls := "SnailPost$Shells", name := "finds", desc := "(II)V" } : Jvm.MethodName)) ∈ lw_all := lw_g (lw_at lw_m6 37 rfl) rfl
theorem q1358 : (Jvm.Cond.instanceMethod ({ cls := "SnailPost", name := "cross", desc := "(II)I" } : Jvm.MethodName)) ∈ lw_all := lw_g (lw_at lw_m6 56 rfl) rfl
theorem q1359 : (Jvm.Cond.selects "SnailPost" ({ cls := "SnailPost", name := "cross", desc := "(II)I" } : Jvm.MethodName) ({ cls := "SnailPost", name := "cross", desc := "(II)I" } : Jvm.MethodName)) ∈ lw_all := lw_g (lw_at lw_m6 57 rfl) rfl
theorem q1360 : (Jvm.Cond.code ({ cls := "SnailPost", name := "cross", desc := "(II)I" } : Jvm.MethodName) prog_1_method_52_code (3 : Nat) (Option.some Jvm.ClassFile.FieldType.int)) ∈ lw_all := lw_g (lw_at lw_m6 58 rfl) rfl
theorem q1362 : (Jvm.Cond.instanceMethod ({ cls := "SnailPost", name := "drop", desc := "(I)I" } : Jvm.MethodName)) ∈ lw_all := lw_g (lw_at lw_m6 60 rfl) rfl
theorem q1363 : (Jvm.Cond.selects "SnailPost" ({ cls := "SnailPost", name := "drop", desc := "(I)I" } : Jvm.MethodName) ({ cls := "SnailPost", name := "drop", desc := "(I)I" } : Jvm.MethodName)) ∈ lw_all := lw_g (lw_at lw_m6 61 rfl) rfl
theorem q1364 : (Jvm.Cond.code ({ cls := "SnailPost", name := "drop", desc := "(I)I" } : Jvm.MethodName) prog_1_method_53_code (3 : Nat) (Option.some Jvm.ClassFile.FieldType.int)) ∈ lw_all := lw_g (lw_at lw_m6 62 rfl) rfl
theorem q1366 : (Jvm.Cond.instanceMethod ({ cls := "SnailPost", name := "orders", desc := "(I)I" } : Jvm.MethodName)) ∈ lw_all := lw_g (lw_at lw_m6 64 rfl) rfl
theorem q1367 : (Jvm.Cond.selects "SnailPost" ({ cls := "SnailPost", name := "orders", desc := "(I)I" } : Jvm.MethodName) ({ cls := "SnailPost", name := "orders", desc := "(I)I" } : Jvm.MethodName)) ∈ lw_all := lw_g (lw_at lw_m6 65 rfl) rfl
theorem q1368 : (Jvm.Cond.code ({ cls := "SnailPost", name := "orders", desc := "(I)I" } : Jvm.MethodName) prog_1_method_54_code (2 : Nat) (Option.some Jvm.ClassFile.FieldType.int)) ∈ lw_all := lw_g (lw_at lw_m6 66 rfl) rfl
theorem q1369 : (Jvm.Cond.methodLink "SnailPost" (337 : Nat) ({ cls := "SnailPost$Orders", name := "looks", desc := "()V" } : Jvm.MethodName)) ∈ lw_all := lw_g (lw_at lw_m6 67 rfl) rfl
theorem q1388 : (Jvm.Cond.instanceMethod ({ cls := "SnailPost", name := "sure", desc := "(I)I" } : Jvm.MethodName)) ∈ lw_all := lw_g (lw_at lw_m6 86 rfl) rfl
theorem q1389 : (Jvm.Cond.selects "SnailPost" ({ cls := "SnailPost", name := "sure", desc := "(I)I" } : Jvm.MethodName) ({ cls := "SnailPost", name := "sure", desc := "(I)I" } : Jvm.MethodName)) ∈ lw_all := lw_g (lw_at lw_m6 87 rfl) rfl
theorem q1390 : (Jvm.Cond.code ({ cls := "SnailPost", name := "sure", desc := "(I)I" } : Jvm.MethodName) prog_1_method_55_code (3 : Nat) (Option.some Jvm.ClassFile.FieldType.int)) ∈ lw_all := lw_g (lw_at lw_m6 88 rfl) rfl
theorem q1391 : (Jvm.Cond.methodLink "SnailPost" (346 : Nat) ({ cls := "java/lang/Integer", name := "numberOfTrailingZeros", desc := "(I)I" } : Jvm.MethodName)) ∈ lw_all := lw_g (lw_at lw_m6 89 rfl) rfl
theorem q1395 : (Jvm.Cond.instanceMethod ({ cls := "SnailPost", name := "ahead", desc := "(II)I" } : Jvm.MethodName)) ∈ lw_all := lw_g (lw_at lw_m6 93 rfl) rfl
theorem q1396 : (Jvm.Cond.selects "SnailPost" ({ cls := "SnailPost", name := "ahead", desc := "(II)I" } : Jvm.MethodName) ({ cls := "SnailPost", name := "ahead", desc := "(II)I" } : Jvm.MethodName)) ∈ lw_all := lw_g (lw_at lw_m6 94 rfl) rfl
theorem q1397 : (Jvm.Cond.code ({ cls := "SnailPost", name := "ahead", desc := "(II)I" } : Jvm.MethodName) prog_1_method_56_code (3 : Nat) (Option.some Jvm.ClassFile.FieldType.int)) ∈ lw_all := lw_g (lw_at lw_m6 95 rfl) rfl
theorem q1399 : (Jvm.Cond.instanceMethod ({ cls := "SnailPost", name := "hunt", desc := "(I)I" } : Jvm.MethodName)) ∈ lw_all := lw_g (lw_at lw_m6 97 rfl) rfl
theorem q1400 : (Jvm.Cond.selects "SnailPost" ({ cls := "SnailPost", name := "hunt", desc := "(I)I" } : Jvm.MethodName) ({ cls := "SnailPost", name := "hunt", desc := "(I)I" } : Jvm.MethodName)) ∈ lw_all := lw_g (lw_at lw_m6 98 rfl) rfl
theorem q1401 : (Jvm.Cond.code ({ cls := "SnailPost", name := "hunt", desc := "(I)I" } : Jvm.MethodName) prog_1_method_58_code (4 : Nat) (Option.some Jvm.ClassFile.FieldType.int)) ∈ lw_all := lw_g (lw_at lw_m6 99 rfl) rfl
theorem q1402 : (Jvm.Cond.constant "SnailPost" (361 : Nat) (1000000 : Int32)) ∈ lw_all := lw_g (lw_at lw_m6 100 rfl) rfl
theorem q1403 : (Jvm.Cond.methodLink "SnailPost" (365 : Nat) ({ cls := "SnailPost$Walk", name := "hour", desc := "(II)V" } : Jvm.MethodName)) ∈ lw_all := lw_g (lw_at lw_m6 101 rfl) rfl
theorem q1404 : (Jvm.Cond.methodLink "SnailPost" (371 : Nat) ({ cls := "SnailPost", name := "draw", desc := "(I)I" } : Jvm.MethodName)) ∈ lw_all := lw_g (lw_at lw_m6 102 rfl) rfl
theorem q1405 : (Jvm.Cond.privateMethod ({ cls := "SnailPost", name := "draw", desc := "(I)I" } : Jvm.MethodName)) ∈ lw_tbl := lw_at lw_m6 103 rfl
theorem q1406 : (Jvm.Cond.instanceMethod ({ cls := "SnailPost", name := "draw", desc := "(I)I" } : Jvm.MethodName)) ∈ lw_all := lw_g (lw_at lw_m6 104 rfl) rfl
theorem q1407 : (Jvm.Cond.code ({ cls := "SnailPost", name := "draw", desc := "(I)I" } : Jvm.MethodName) prog_1_method_57_code (2 : Nat) (Option.some Jvm.ClassFile.FieldType.int)) ∈ lw_all := lw_g (lw_at lw_m6 105 rfl) rfl
theorem q1408 : (Jvm.Cond.constantLong "SnailPost" (355 : Nat) (1103 : Int64)) ∈ lw_all := lw_g (lw_at lw_m6 106 rfl) rfl
theorem q1409 : (Jvm.Cond.constantLong "SnailPost" (357 : Nat) (12345 : Int64)) ∈ lw_all := lw_g (lw_at lw_m6 107 rfl) rfl
theorem q1410 : (Jvm.Cond.constantLong "SnailPost" (359 : Nat) (1000003 : Int64)) ∈ lw_all := lw_g (lw_at lw_m6 108 rfl) rfl
theorem q1411 : (Jvm.Cond.methodLink "SnailPost" (374 : Nat) ({ cls := "SnailPost$Walk", name := "eats", desc := "(III)I" } : Jvm.MethodName)) ∈ lw_all := lw_g (lw_at lw_m6 109 rfl) rfl
theorem q1423 : (Jvm.Cond.instanceMethod ({ cls := "SnailPost", name := "hunted", desc := "(II)I" } : Jvm.MethodName)) ∈ lw_all := lw_g (lw_at lw_m6 121 rfl) rfl
theorem q1424 : (Jvm.Cond.selects "SnailPost" ({ cls := "SnailPost", name := "hunted", desc := "(II)I" } : Jvm.MethodName) ({ cls := "SnailPost", name := "hunted", desc := "(II)I" } : Jvm.MethodName)) ∈ lw_all := lw_g (lw_at lw_m6 122 rfl) rfl
theorem q1425 : (Jvm.Cond.code ({ cls := "SnailPost", name := "hunted", desc := "(II)I" } : Jvm.MethodName) prog_1_method_59_code (3 : Nat) (Option.some Jvm.ClassFile.FieldType.int)) ∈ lw_all := lw_g (lw_at lw_m6 123 rfl) rfl
theorem q1427 : (Jvm.Cond.instanceMethod ({ cls := "SnailPost", name := "count", desc := "(I)I" } : Jvm.MethodName)) ∈ lw_all := lw_g (lw_at lw_m6 125 rfl) rfl
theorem q1428 : (Jvm.Cond.selects "SnailPost" ({ cls := "SnailPost", name := "count", desc := "(I)I" } : Jvm.MethodName) ({ cls := "SnailPost", name := "count", desc := "(I)I" } : Jvm.MethodName)) ∈ lw_all := lw_g (lw_at lw_m6 126 rfl) rfl
theorem q1429 : (Jvm.Cond.code ({ cls := "SnailPost", name := "count", desc := "(I)I" } : Jvm.MethodName) prog_1_method_60_code (5 : Nat) (Option.some Jvm.ClassFile.FieldType.int)) ∈ lw_all := lw_g (lw_at lw_m6 127 rfl) rfl
theorem q1431 : (Jvm.Cond.instanceMethod ({ cls := "SnailPost", name := "status", desc := "()I" } : Jvm.MethodName)) ∈ lw_all := lw_g (lw_at lw_m6 129 rfl) rfl
theorem q1432 : (Jvm.Cond.selects "SnailPost" ({ cls := "SnailPost", name := "status", desc := "()I" } : Jvm.MethodName) ({ cls := "SnailPost", name := "status", desc := "()I" } : Jvm.MethodName)) ∈ lw_all := lw_g (lw_at lw_m6 130 rfl) rfl
theorem q1433 : (Jvm.Cond.code ({ cls := "SnailPost", name := "status", desc := "()I" } : Jvm.MethodName) prog_1_method_61_code (1 : Nat) (Option.some Jvm.ClassFile.FieldType.int)) ∈ lw_all := lw_g (lw_at lw_m6 131 rfl) rfl
theorem q2076 : (Jvm.Cond.castable "SnailPost" "java/lang/Object") ∈ lw_tbl := lw_at lw_m9 54 rfl
theorem in_X0 : ∀ w ∈ wsX00, w ∈ lw_all := lw_in wsX00 [517, 519, 521, 523, 525, 527, 529, 531, 533, 535, 537, 539, 541, 543, 545, 547, 549, 551, 553, 555, 557, 559, 561, 563, 565, 567, 569, 571] (by decide +kernel) (by decide +kernel)
/-! SnailPost$State -/
set_option maxRecDepth 100000
def RX1 : String := "SnailPost$State"
def TX1 : u_T := fun k => match k with
  | 0 => ("SnailPost$State", "damp", "[I", true)
  | 1 => ("SnailPost$State", "facts", "[I", true)
  | 2 => ("SnailPost$State", "spots", "[I", true)
  | 3 => ("SnailPost$State", "plan", "[I", true)
  | 4 => ("SnailPost$State", "terms", "[I", true)
  | 5 => ("SnailPost$State", "crossings", "[I", true)
  | 6 => ("SnailPost$State", "salt", "[Z", true)
  | 7 => ("SnailPost$State", "laws", "Ljava/util/ArrayList;", true)
  | 8 => ("SnailPost$State", "many", "I", false)
  | 9 => ("SnailPost$State", "spotMany", "I", false)
  | 10 => ("SnailPost$State", "crossMany", "I", false)
  | _ => ("SnailPost$State", "force", "I", false)
def tyX1 : Nat → FieldType := fun k => match k with
  | 0 => .array .int
  | 1 => .array .int
  | 2 => .array .int
  | 3 => .array .int
  | 4 => .array .int
  | 5 => .array .int
  | 6 => .array .boolean
  | 7 => .object "java/util/ArrayList"
  | 8 => .int
  | 9 => .int
  | 10 => .int
  | _ => .int
abbrev wsX10 : List Cond := u_ws RX1 TX1 12
theorem nmX1 : ∀ a, a < 12 → ∀ b, b < 12 → a ≠ b → (TX1 a).2.1 ≠ (TX1 b).2.1 := by decide +kernel
theorem tyX1_ok : ∀ k, k < 12 → parseFieldDescriptor (TX1 k).2.2.1 = some (tyX1 k) := by decide +kernel
abbrev cX1_init : ByteArray := prog_16_method_1_code
def yX1_init : MethodName := ⟨RX1, "<init>", "()V"⟩
def dkwX1_init_4 : List UInt8 := [181, 0, 39, 42, 2, 181, 0, 43, 177]
abbrev dktX1_init_4 : List UInt8 := dkwX1_init_4 ++ []
def dkwX1_init_3 : List UInt8 := [16, 24, 188, 10, 181, 0, 27, 42, 16, 96, 188, 4, 181, 0, 30, 42, 187, 0, 34, 89, 5, 183, 0, 36]
abbrev dktX1_init_3 : List UInt8 := dkwX1_init_3 ++ dktX1_init_4
def dkwX1_init_2 : List UInt8 := [7, 2, 79, 181, 0, 21, 42, 5, 188, 10, 89, 3, 4, 79, 89, 4, 16, 9, 79, 181, 0, 24, 42]
abbrev dktX1_init_2 : List UInt8 := dkwX1_init_2 ++ dktX1_init_3
def dkwX1_init_1 : List UInt8 := [181, 0, 18, 42, 8, 188, 10, 89, 3, 2, 79, 89, 4, 2, 79, 89, 5, 2, 79, 89, 6, 2, 79, 89]
abbrev dktX1_init_1 : List UInt8 := dkwX1_init_1 ++ dktX1_init_2
def dkwX1_init_0 : List UInt8 := [42, 183, 0, 3, 42, 16, 96, 188, 10, 181, 0, 9, 42, 16, 36, 188, 10, 181, 0, 15, 42, 7, 188, 10]
abbrev dktX1_init_0 : List UInt8 := dkwX1_init_0 ++ dktX1_init_1
theorem dksX1_init_0 : cX1_init.data.toList.drop 0 = dktX1_init_0 := by decide +kernel
theorem dksX1_init_1 : cX1_init.data.toList.drop 24 = dktX1_init_1 := dk_seg dksX1_init_0 24 rfl rfl
theorem dksX1_init_2 : cX1_init.data.toList.drop 48 = dktX1_init_2 := dk_seg dksX1_init_1 24 rfl rfl
theorem dksX1_init_3 : cX1_init.data.toList.drop 71 = dktX1_init_3 := dk_seg dksX1_init_2 23 rfl rfl
theorem dksX1_init_4 : cX1_init.data.toList.drop 95 = dktX1_init_4 := dk_seg dksX1_init_3 24 rfl rfl
theorem dX1_init_0 : decode cX1_init 0 = .ok (.aload_n 0, 1) := dk_42 (dk_at dksX1_init_0 0 rfl rfl)
theorem dX1_init_1 : decode cX1_init 1 = .ok (.invokespecial 3, 3) := dk_183 0 3 (dk_at dksX1_init_0 1 rfl rfl)
theorem dX1_init_4 : decode cX1_init 4 = .ok (.aload_n 0, 1) := dk_42 (dk_at dksX1_init_0 4 rfl rfl)
theorem dX1_init_5 : decode cX1_init 5 = .ok (.bipush 96, 2) := dk_16 96 (dk_at dksX1_init_0 5 rfl rfl)
theorem dX1_init_7 : decode cX1_init 7 = .ok (.newarray .int, 2) := dk_188_10 (dk_at dksX1_init_0 7 rfl rfl)
theorem dX1_init_9 : decode cX1_init 9 = .ok (.putfield 9, 3) := dk_181 0 9 (dk_at dksX1_init_0 9 rfl rfl)
theorem dX1_init_12 : decode cX1_init 12 = .ok (.aload_n 0, 1) := dk_42 (dk_at dksX1_init_0 12 rfl rfl)
theorem dX1_init_13 : decode cX1_init 13 = .ok (.bipush 36, 2) := dk_16 36 (dk_at dksX1_init_0 13 rfl rfl)
theorem dX1_init_15 : decode cX1_init 15 = .ok (.newarray .int, 2) := dk_188_10 (dk_at dksX1_init_0 15 rfl rfl)
theorem dX1_init_17 : decode cX1_init 17 = .ok (.putfield 15, 3) := dk_181 0 15 (dk_at dksX1_init_0 17 rfl rfl)
theorem dX1_init_20 : decode cX1_init 20 = .ok (.aload_n 0, 1) := dk_42 (dk_at dksX1_init_0 20 rfl rfl)
theorem dX1_init_21 : decode cX1_init 21 = .ok (.iconst 4, 1) := dk_7 (dk_at dksX1_init_0 21 rfl rfl)
theorem dX1_init_22 : decode cX1_init 22 = .ok (.newarray .int, 2) := dk_188_10 (dk_at dksX1_init_0 22 rfl rfl)
theorem dX1_init_24 : decode cX1_init 24 = .ok (.putfield 18, 3) := dk_181 0 18 (dk_at dksX1_init_1 0 rfl rfl)
theorem dX1_init_27 : decode cX1_init 27 = .ok (.aload_n 0, 1) := dk_42 (dk_at dksX1_init_1 3 rfl rfl)
theorem dX1_init_28 : decode cX1_init 28 = .ok (.iconst 5, 1) := dk_8 (dk_at dksX1_init_1 4 rfl rfl)
theorem dX1_init_29 : decode cX1_init 29 = .ok (.newarray .int, 2) := dk_188_10 (dk_at dksX1_init_1 5 rfl rfl)
theorem dX1_init_31 : decode cX1_init 31 = .ok (.dup, 1) := dk_89 (dk_at dksX1_init_1 7 rfl rfl)
theorem dX1_init_32 : decode cX1_init 32 = .ok (.iconst 0, 1) := dk_3 (dk_at dksX1_init_1 8 rfl rfl)
theorem dX1_init_33 : decode cX1_init 33 = .ok (.iconst (-1), 1) := dk_2 (dk_at dksX1_init_1 9 rfl rfl)
theorem dX1_init_34 : decode cX1_init 34 = .ok (.iastore, 1) := dk_79 (dk_at dksX1_init_1 10 rfl rfl)
theorem dX1_init_35 : decode cX1_init 35 = .ok (.dup, 1) := dk_89 (dk_at dksX1_init_1 11 rfl rfl)
theorem dX1_init_36 : decode cX1_init 36 = .ok (.iconst 1, 1) := dk_4 (dk_at dksX1_init_1 12 rfl rfl)
theorem dX1_init_37 : decode cX1_init 37 = .ok (.iconst (-1), 1) := dk_2 (dk_at dksX1_init_1 13 rfl rfl)
theorem dX1_init_38 : decode cX1_init 38 = .ok (.iastore, 1) := dk_79 (dk_at dksX1_init_1 14 rfl rfl)
theorem dX1_init_39 : decode cX1_init 39 = .ok (.dup, 1) := dk_89 (dk_at dksX1_init_1 15 rfl rfl)
theorem dX1_init_40 : decode cX1_init 40 = .ok (.iconst 2, 1) := dk_5 (dk_at dksX1_init_1 16 rfl rfl)
theorem dX1_init_41 : decode cX1_init 41 = .ok (.iconst (-1), 1) := dk_2 (dk_at dksX1_init_1 17 rfl rfl)
theorem dX1_init_42 : decode cX1_init 42 = .ok (.iastore, 1) := dk_79 (dk_at dksX1_init_1 18 rfl rfl)
theorem dX1_init_43 : decode cX1_init 43 = .ok (.dup, 1) := dk_89 (dk_at dksX1_init_1 19 rfl rfl)
theorem dX1_init_44 : decode cX1_init 44 = .ok (.iconst 3, 1) := dk_6 (dk_at dksX1_init_1 20 rfl rfl)
theorem dX1_init_45 : decode cX1_init 45 = .ok (.iconst (-1), 1) := dk_2 (dk_at dksX1_init_1 21 rfl rfl)
theorem dX1_init_46 : decode cX1_init 46 = .ok (.iastore, 1) := dk_79 (dk_at dksX1_init_1 22 rfl rfl)
theorem dX1_init_47 : decode cX1_init 47 = .ok (.dup, 1) := dk_89 (dk_at dksX1_init_1 23 rfl rfl)
theorem dX1_init_48 : decode cX1_init 48 = .ok (.iconst 4, 1) := dk_7 (dk_at dksX1_init_2 0 rfl rfl)
theorem dX1_init_49 : decode cX1_init 49 = .ok (.iconst (-1), 1) := dk_2 (dk_at dksX1_init_2 1 rfl rfl)
theorem dX1_init_50 : decode cX1_init 50 = .ok (.iastore, 1) := dk_79 (dk_at dksX1_init_2 2 rfl rfl)
theorem dX1_init_51 : decode cX1_init 51 = .ok (.putfield 21, 3) := dk_181 0 21 (dk_at dksX1_init_2 3 rfl rfl)
theorem dX1_init_54 : decode cX1_init 54 = .ok (.aload_n 0, 1) := dk_42 (dk_at dksX1_init_2 6 rfl rfl)
theorem dX1_init_55 : decode cX1_init 55 = .ok (.iconst 2, 1) := dk_5 (dk_at dksX1_init_2 7 rfl rfl)
theorem dX1_init_56 : decode cX1_init 56 = .ok (.newarray .int, 2) := dk_188_10 (dk_at dksX1_init_2 8 rfl rfl)
theorem dX1_init_58 : decode cX1_init 58 = .ok (.dup, 1) := dk_89 (dk_at dksX1_init_2 10 rfl rfl)
theorem dX1_init_59 : decode cX1_init 59 = .ok (.iconst 0, 1) := dk_3 (dk_at dksX1_init_2 11 rfl rfl)
theorem dX1_init_60 : decode cX1_init 60 = .ok (.iconst 1, 1) := dk_4 (dk_at dksX1_init_2 12 rfl rfl)
theorem dX1_init_61 : decode cX1_init 61 = .ok (.iastore, 1) := dk_79 (dk_at dksX1_init_2 13 rfl rfl)
theorem dX1_init_62 : decode cX1_init 62 = .ok (.dup, 1) := dk_89 (dk_at dksX1_init_2 14 rfl rfl)
theorem dX1_init_63 : decode cX1_init 63 = .ok (.iconst 1, 1) := dk_4 (dk_at dksX1_init_2 15 rfl rfl)
theorem dX1_init_64 : decode cX1_init 64 = .ok (.bipush 9, 2) := dk_16 9 (dk_at dksX1_init_2 16 rfl rfl)
theorem dX1_init_66 : decode cX1_init 66 = .ok (.iastore, 1) := dk_79 (dk_at dksX1_init_2 18 rfl rfl)
theorem dX1_init_67 : decode cX1_init 67 = .ok (.putfield 24, 3) := dk_181 0 24 (dk_at dksX1_init_2 19 rfl rfl)
theorem dX1_init_70 : decode cX1_init 70 = .ok (.aload_n 0, 1) := dk_42 (dk_at dksX1_init_2 22 rfl rfl)
theorem dX1_init_71 : decode cX1_init 71 = .ok (.bipush 24, 2) := dk_16 24 (dk_at dksX1_init_3 0 rfl rfl)
theorem dX1_init_73 : decode cX1_init 73 = .ok (.newarray .int, 2) := dk_188_10 (dk_at dksX1_init_3 2 rfl rfl)
theorem dX1_init_75 : decode cX1_init 75 = .ok (.putfield 27, 3) := dk_181 0 27 (dk_at dksX1_init_3 4 rfl rfl)
theorem dX1_init_78 : decode cX1_init 78 = .ok (.aload_n 0, 1) := dk_42 (dk_at dksX1_init_3 7 rfl rfl)
theorem dX1_init_79 : decode cX1_init 79 = .ok (.bipush 96, 2) := dk_16 96 (dk_at dksX1_init_3 8 rfl rfl)
theorem dX1_init_81 : decode cX1_init 81 = .ok (.newarray .boolean, 2) := dk_188_4 (dk_at dksX1_init_3 10 rfl rfl)
theorem dX1_init_83 : decode cX1_init 83 = .ok (.putfield 30, 3) := dk_181 0 30 (dk_at dksX1_init_3 12 rfl rfl)
theorem dX1_init_86 : decode cX1_init 86 = .ok (.aload_n 0, 1) := dk_42 (dk_at dksX1_init_3 15 rfl rfl)
theorem dX1_init_87 : decode cX1_init 87 = .ok (.new 34, 3) := dk_187 0 34 (dk_at dksX1_init_3 16 rfl rfl)
theorem dX1_init_90 : decode cX1_init 90 = .ok (.dup, 1) := dk_89 (dk_at dksX1_init_3 19 rfl rfl)
theorem dX1_init_91 : decode cX1_init 91 = .ok (.iconst 2, 1) := dk_5 (dk_at dksX1_init_3 20 rfl rfl)
theorem dX1_init_92 : decode cX1_init 92 = .ok (.invokespecial 36, 3) := dk_183 0 36 (dk_at dksX1_init_3 21 rfl rfl)
theorem dX1_init_95 : decode cX1_init 95 = .ok (.putfield 39, 3) := dk_181 0 39 (dk_at dksX1_init_4 0 rfl rfl)
theorem dX1_init_98 : decode cX1_init 98 = .ok (.aload_n 0, 1) := dk_42 (dk_at dksX1_init_4 3 rfl rfl)
theorem dX1_init_99 : decode cX1_init 99 = .ok (.iconst (-1), 1) := dk_2 (dk_at dksX1_init_4 4 rfl rfl)
theorem dX1_init_100 : decode cX1_init 100 = .ok (.putfield 43, 3) := dk_181 0 43 (dk_at dksX1_init_4 5 rfl rfl)
theorem dX1_init_103 : decode cX1_init 103 = .ok (.return_, 1) := dk_177 (dk_at dksX1_init_4 8 rfl rfl)
abbrev cX1_takes : ByteArray := prog_16_method_3_code
def yX1_takes : MethodName := ⟨RX1, "takes", "(LSnailPost$State;)V"⟩
def dkwX1_takes_5 : List UInt8 := [181, 0, 67, 42, 43, 180, 0, 70, 181, 0, 70, 42, 43, 180, 0, 43, 181, 0, 43, 177]
abbrev dktX1_takes_5 : List UInt8 := dkwX1_takes_5 ++ []
def dkwX1_takes_4 : List UInt8 := [180, 0, 39, 43, 180, 0, 39, 182, 0, 60, 87, 42, 43, 180, 0, 64, 181, 0, 64, 42, 43, 180, 0, 67]
abbrev dktX1_takes_4 : List UInt8 := dkwX1_takes_4 ++ dktX1_takes_5
def dkwX1_takes_3 : List UInt8 := [180, 0, 30, 3, 42, 180, 0, 30, 3, 16, 96, 184, 0, 47, 42, 180, 0, 39, 182, 0, 57, 42]
abbrev dktX1_takes_3 : List UInt8 := dkwX1_takes_3 ++ dktX1_takes_4
def dkwX1_takes_2 : List UInt8 := [180, 0, 24, 43, 180, 0, 24, 184, 0, 53, 42, 180, 0, 27, 43, 180, 0, 27, 184, 0, 53, 43]
abbrev dktX1_takes_2 : List UInt8 := dkwX1_takes_2 ++ dktX1_takes_3
def dkwX1_takes_1 : List UInt8 := [180, 0, 18, 43, 180, 0, 18, 184, 0, 53, 42, 180, 0, 21, 43, 180, 0, 21, 184, 0, 53, 42]
abbrev dktX1_takes_1 : List UInt8 := dkwX1_takes_1 ++ dktX1_takes_2
def dkwX1_takes_0 : List UInt8 := [42, 180, 0, 9, 43, 180, 0, 9, 184, 0, 53, 42, 180, 0, 15, 43, 180, 0, 15, 184, 0, 53, 42]
abbrev dktX1_takes_0 : List UInt8 := dkwX1_takes_0 ++ dktX1_takes_1
theorem dksX1_takes_0 : cX1_takes.data.toList.drop 0 = dktX1_takes_0 := by decide +kernel
theorem dksX1_takes_1 : cX1_takes.data.toList.drop 23 = dktX1_takes_1 := dk_seg dksX1_takes_0 23 rfl rfl
theorem dksX1_takes_2 : cX1_takes.data.toList.drop 45 = dktX1_takes_2 := dk_seg dksX1_takes_1 22 rfl rfl
theorem dksX1_takes_3 : cX1_takes.data.toList.drop 67 = dktX1_takes_3 := dk_seg dksX1_takes_2 22 rfl rfl
theorem dksX1_takes_4 : cX1_takes.data.toList.drop 89 = dktX1_takes_4 := dk_seg dksX1_takes_3 22 rfl rfl
theorem dksX1_takes_5 : cX1_takes.data.toList.drop 113 = dktX1_takes_5 := dk_seg dksX1_takes_4 24 rfl rfl
theorem dX1_takes_0 : decode cX1_takes 0 = .ok (.aload_n 0, 1) := dk_42 (dk_at dksX1_takes_0 0 rfl rfl)
theorem dX1_takes_1 : decode cX1_takes 1 = .ok (.getfield 9, 3) := dk_180 0 9 (dk_at dksX1_takes_0 1 rfl rfl)
theorem dX1_takes_4 : decode cX1_takes 4 = .ok (.aload_n 1, 1) := dk_43 (dk_at dksX1_takes_0 4 rfl rfl)
theorem dX1_takes_5 : decode cX1_takes 5 = .ok (.getfield 9, 3) := dk_180 0 9 (dk_at dksX1_takes_0 5 rfl rfl)
theorem dX1_takes_8 : decode cX1_takes 8 = .ok (.invokestatic 53, 3) := dk_184 0 53 (dk_at dksX1_takes_0 8 rfl rfl)
theorem dX1_takes_11 : decode cX1_takes 11 = .ok (.aload_n 0, 1) := dk_42 (dk_at dksX1_takes_0 11 rfl rfl)
theorem dX1_takes_12 : decode cX1_takes 12 = .ok (.getfield 15, 3) := dk_180 0 15 (dk_at dksX1_takes_0 12 rfl rfl)
theorem dX1_takes_15 : decode cX1_takes 15 = .ok (.aload_n 1, 1) := dk_43 (dk_at dksX1_takes_0 15 rfl rfl)
theorem dX1_takes_16 : decode cX1_takes 16 = .ok (.getfield 15, 3) := dk_180 0 15 (dk_at dksX1_takes_0 16 rfl rfl)
theorem dX1_takes_19 : decode cX1_takes 19 = .ok (.invokestatic 53, 3) := dk_184 0 53 (dk_at dksX1_takes_0 19 rfl rfl)
theorem dX1_takes_22 : decode cX1_takes 22 = .ok (.aload_n 0, 1) := dk_42 (dk_at dksX1_takes_0 22 rfl rfl)
theorem dX1_takes_23 : decode cX1_takes 23 = .ok (.getfield 18, 3) := dk_180 0 18 (dk_at dksX1_takes_1 0 rfl rfl)
theorem dX1_takes_26 : decode cX1_takes 26 = .ok (.aload_n 1, 1) := dk_43 (dk_at dksX1_takes_1 3 rfl rfl)
theorem dX1_takes_27 : decode cX1_takes 27 = .ok (.getfield 18, 3) := dk_180 0 18 (dk_at dksX1_takes_1 4 rfl rfl)
theorem dX1_takes_30 : decode cX1_takes 30 = .ok (.invokestatic 53, 3) := dk_184 0 53 (dk_at dksX1_takes_1 7 rfl rfl)
theorem dX1_takes_33 : decode cX1_takes 33 = .ok (.aload_n 0, 1) := dk_42 (dk_at dksX1_takes_1 10 rfl rfl)
theorem dX1_takes_34 : decode cX1_takes 34 = .ok (.getfield 21, 3) := dk_180 0 21 (dk_at dksX1_takes_1 11 rfl rfl)
theorem dX1_takes_37 : decode cX1_takes 37 = .ok (.aload_n 1, 1) := dk_43 (dk_at dksX1_takes_1 14 rfl rfl)
theorem dX1_takes_38 : decode cX1_takes 38 = .ok (.getfield 21, 3) := dk_180 0 21 (dk_at dksX1_takes_1 15 rfl rfl)
theorem dX1_takes_41 : decode cX1_takes 41 = .ok (.invokestatic 53, 3) := dk_184 0 53 (dk_at dksX1_takes_1 18 rfl rfl)
theorem dX1_takes_44 : decode cX1_takes 44 = .ok (.aload_n 0, 1) := dk_42 (dk_at dksX1_takes_1 21 rfl rfl)
theorem dX1_takes_45 : decode cX1_takes 45 = .ok (.getfield 24, 3) := dk_180 0 24 (dk_at dksX1_takes_2 0 rfl rfl)
theorem dX1_takes_48 : decode cX1_takes 48 = .ok (.aload_n 1, 1) := dk_43 (dk_at dksX1_takes_2 3 rfl rfl)
theorem dX1_takes_49 : decode cX1_takes 49 = .ok (.getfield 24, 3) := dk_180 0 24 (dk_at dksX1_takes_2 4 rfl rfl)
theorem dX1_takes_52 : decode cX1_takes 52 = .ok (.invokestatic 53, 3) := dk_184 0 53 (dk_at dksX1_takes_2 7 rfl rfl)
theorem dX1_takes_55 : decode cX1_takes 55 = .ok (.aload_n 0, 1) := dk_42 (dk_at dksX1_takes_2 10 rfl rfl)
theorem dX1_takes_56 : decode cX1_takes 56 = .ok (.getfield 27, 3) := dk_180 0 27 (dk_at dksX1_takes_2 11 rfl rfl)
theorem dX1_takes_59 : decode cX1_takes 59 = .ok (.aload_n 1, 1) := dk_43 (dk_at dksX1_takes_2 14 rfl rfl)
theorem dX1_takes_60 : decode cX1_takes 60 = .ok (.getfield 27, 3) := dk_180 0 27 (dk_at dksX1_takes_2 15 rfl rfl)
theorem dX1_takes_63 : decode cX1_takes 63 = .ok (.invokestatic 53, 3) := dk_184 0 53 (dk_at dksX1_takes_2 18 rfl rfl)
theorem dX1_takes_66 : decode cX1_takes 66 = .ok (.aload_n 1, 1) := dk_43 (dk_at dksX1_takes_2 21 rfl rfl)
theorem dX1_takes_67 : decode cX1_takes 67 = .ok (.getfield 30, 3) := dk_180 0 30 (dk_at dksX1_takes_3 0 rfl rfl)
theorem dX1_takes_70 : decode cX1_takes 70 = .ok (.iconst 0, 1) := dk_3 (dk_at dksX1_takes_3 3 rfl rfl)
theorem dX1_takes_71 : decode cX1_takes 71 = .ok (.aload_n 0, 1) := dk_42 (dk_at dksX1_takes_3 4 rfl rfl)
theorem dX1_takes_72 : decode cX1_takes 72 = .ok (.getfield 30, 3) := dk_180 0 30 (dk_at dksX1_takes_3 5 rfl rfl)
theorem dX1_takes_75 : decode cX1_takes 75 = .ok (.iconst 0, 1) := dk_3 (dk_at dksX1_takes_3 8 rfl rfl)
theorem dX1_takes_76 : decode cX1_takes 76 = .ok (.bipush 96, 2) := dk_16 96 (dk_at dksX1_takes_3 9 rfl rfl)
theorem dX1_takes_78 : decode cX1_takes 78 = .ok (.invokestatic 47, 3) := dk_184 0 47 (dk_at dksX1_takes_3 11 rfl rfl)
theorem dX1_takes_81 : decode cX1_takes 81 = .ok (.aload_n 0, 1) := dk_42 (dk_at dksX1_takes_3 14 rfl rfl)
theorem dX1_takes_82 : decode cX1_takes 82 = .ok (.getfield 39, 3) := dk_180 0 39 (dk_at dksX1_takes_3 15 rfl rfl)
theorem dX1_takes_85 : decode cX1_takes 85 = .ok (.invokevirtual 57, 3) := dk_182 0 57 (dk_at dksX1_takes_3 18 rfl rfl)
theorem dX1_takes_88 : decode cX1_takes 88 = .ok (.aload_n 0, 1) := dk_42 (dk_at dksX1_takes_3 21 rfl rfl)
theorem dX1_takes_89 : decode cX1_takes 89 = .ok (.getfield 39, 3) := dk_180 0 39 (dk_at dksX1_takes_4 0 rfl rfl)
theorem dX1_takes_92 : decode cX1_takes 92 = .ok (.aload_n 1, 1) := dk_43 (dk_at dksX1_takes_4 3 rfl rfl)
theorem dX1_takes_93 : decode cX1_takes 93 = .ok (.getfield 39, 3) := dk_180 0 39 (dk_at dksX1_takes_4 4 rfl rfl)
theorem dX1_takes_96 : decode cX1_takes 96 = .ok (.invokevirtual 60, 3) := dk_182 0 60 (dk_at dksX1_takes_4 7 rfl rfl)
theorem dX1_takes_99 : decode cX1_takes 99 = .ok (.pop, 1) := dk_87 (dk_at dksX1_takes_4 10 rfl rfl)
theorem dX1_takes_100 : decode cX1_takes 100 = .ok (.aload_n 0, 1) := dk_42 (dk_at dksX1_takes_4 11 rfl rfl)
theorem dX1_takes_101 : decode cX1_takes 101 = .ok (.aload_n 1, 1) := dk_43 (dk_at dksX1_takes_4 12 rfl rfl)
theorem dX1_takes_102 : decode cX1_takes 102 = .ok (.getfield 64, 3) := dk_180 0 64 (dk_at dksX1_takes_4 13 rfl rfl)
theorem dX1_takes_105 : decode cX1_takes 105 = .ok (.putfield 64, 3) := dk_181 0 64 (dk_at dksX1_takes_4 16 rfl rfl)
theorem dX1_takes_108 : decode cX1_takes 108 = .ok (.aload_n 0, 1) := dk_42 (dk_at dksX1_takes_4 19 rfl rfl)
theorem dX1_takes_109 : decode cX1_takes 109 = .ok (.aload_n 1, 1) := dk_43 (dk_at dksX1_takes_4 20 rfl rfl)
theorem dX1_takes_110 : decode cX1_takes 110 = .ok (.getfield 67, 3) := dk_180 0 67 (dk_at dksX1_takes_4 21 rfl rfl)
theorem dX1_takes_113 : decode cX1_takes 113 = .ok (.putfield 67, 3) := dk_181 0 67 (dk_at dksX1_takes_5 0 rfl rfl)
theorem dX1_takes_116 : decode cX1_takes 116 = .ok (.aload_n 0, 1) := dk_42 (dk_at dksX1_takes_5 3 rfl rfl)
theorem dX1_takes_117 : decode cX1_takes 117 = .ok (.aload_n 1, 1) := dk_43 (dk_at dksX1_takes_5 4 rfl rfl)
theorem dX1_takes_118 : decode cX1_takes 118 = .ok (.getfield 70, 3) := dk_180 0 70 (dk_at dksX1_takes_5 5 rfl rfl)
theorem dX1_takes_121 : decode cX1_takes 121 = .ok (.putfield 70, 3) := dk_181 0 70 (dk_at dksX1_takes_5 8 rfl rfl)
theorem dX1_takes_124 : decode cX1_takes 124 = .ok (.aload_n 0, 1) := dk_42 (dk_at dksX1_takes_5 11 rfl rfl)
theorem dX1_takes_125 : decode cX1_takes 125 = .ok (.aload_n 1, 1) := dk_43 (dk_at dksX1_takes_5 12 rfl rfl)
theorem dX1_takes_126 : decode cX1_takes 126 = .ok (.getfield 43, 3) := dk_180 0 43 (dk_at dksX1_takes_5 13 rfl rfl)
theorem dX1_takes_129 : decode cX1_takes 129 = .ok (.putfield 43, 3) := dk_181 0 43 (dk_at dksX1_takes_5 16 rfl rfl)
theorem dX1_takes_132 : decode cX1_takes 132 = .ok (.return_, 1) := dk_177 (dk_at dksX1_takes_5 19 rfl rfl)
abbrev cX1_rows : ByteArray := prog_16_method_2_code
def yX1_rows : MethodName := ⟨RX1, "rows", "([I[I)V"⟩
def dkwX1_rows_0 : List UInt8 := [43, 3, 42, 3, 42, 190, 184, 0, 47, 177]
abbrev dktX1_rows_0 : List UInt8 := dkwX1_rows_0 ++ []
theorem dksX1_rows_0 : cX1_rows.data.toList.drop 0 = dktX1_rows_0 := by decide +kernel
theorem dX1_rows_0 : decode cX1_rows 0 = .ok (.aload_n 1, 1) := dk_43 (dk_at dksX1_rows_0 0 rfl rfl)
theorem dX1_rows_1 : decode cX1_rows 1 = .ok (.iconst 0, 1) := dk_3 (dk_at dksX1_rows_0 1 rfl rfl)
theorem dX1_rows_2 : decode cX1_rows 2 = .ok (.aload_n 0, 1) := dk_42 (dk_at dksX1_rows_0 2 rfl rfl)
theorem dX1_rows_3 : decode cX1_rows 3 = .ok (.iconst 0, 1) := dk_3 (dk_at dksX1_rows_0 3 rfl rfl)
theorem dX1_rows_4 : decode cX1_rows 4 = .ok (.aload_n 0, 1) := dk_42 (dk_at dksX1_rows_0 4 rfl rfl)
theorem dX1_rows_5 : decode cX1_rows 5 = .ok (.arraylength, 1) := dk_190 (dk_at dksX1_rows_0 5 rfl rfl)
theorem dX1_rows_6 : decode cX1_rows 6 = .ok (.invokestatic 47, 3) := dk_184 0 47 (dk_at dksX1_rows_0 6 rfl rfl)
theorem dX1_rows_9 : decode cX1_rows 9 = .ok (.return_, 1) := dk_177 (dk_at dksX1_rows_0 9 rfl rfl)
theorem q104 : (Jvm.Cond.initialized "SnailPost$State") ∈ lw_all := lw_g (lw_at lw_m1 2 rfl) rfl
theorem q149 : (Jvm.Cond.instantiable "SnailPost$State" (12 : Nat)) ∈ lw_all := lw_g (lw_at lw_m1 47 rfl) rfl
theorem q151 : (Jvm.Cond.instanceMethod ({ cls := "SnailPost$State", name := "<init>", desc := "()V" } : Jvm.MethodName)) ∈ lw_all := lw_g (lw_at lw_m1 49 rfl) rfl
theorem q152 : (Jvm.Cond.code ({ cls := "SnailPost$State", name := "<init>", desc := "()V" } : Jvm.MethodName) prog_16_method_1_code (1 : Nat) (Option.none : Option Jvm.ClassFile.FieldType)) ∈ lw_all := lw_g (lw_at lw_m1 50 rfl) rfl
theorem q153 : (Jvm.Cond.methodLink "SnailPost$State" (3 : Nat) ({ cls := "java/lang/Object", name := "<init>", desc := "()V" } : Jvm.MethodName)) ∈ lw_all := lw_g (lw_at lw_m1 51 rfl) rfl
theorem q154 : (Jvm.Cond.classLink "SnailPost$State" (34 : Nat) "java/util/ArrayList") ∈ lw_all := lw_g (lw_at lw_m1 52 rfl) rfl
theorem q156 : (Jvm.Cond.methodLink "SnailPost$State" (36 : Nat) ({ cls := "java/util/ArrayList", name := "<init>", desc := "(I)V" } : Jvm.MethodName)) ∈ lw_all := lw_g (lw_at lw_m1 54 rfl) rfl
theorem q184 : (Jvm.Cond.fieldLink "SnailPost$State" (9 : Nat) "SnailPost$State" "damp" "[I") ∈ lw_all := lw_g (lw_at lw_m1 82 rfl) rfl
theorem q187 : (Jvm.Cond.fieldLink "SnailPost$State" (15 : Nat) "SnailPost$State" "facts" "[I") ∈ lw_all := lw_g (lw_at lw_m1 85 rfl) rfl
theorem q189 : (Jvm.Cond.fieldLink "SnailPost$State" (18 : Nat) "SnailPost$State" "spots" "[I") ∈ lw_all := lw_g (lw_at lw_m1 87 rfl) rfl
theorem q192 : (Jvm.Cond.fieldLink "SnailPost$State" (21 : Nat) "SnailPost$State" "plan" "[I") ∈ lw_all := lw_g (lw_at lw_m1 90 rfl) rfl
theorem q194 : (Jvm.Cond.fieldLink "SnailPost$State" (24 : Nat) "SnailPost$State" "terms" "[I") ∈ lw_all := lw_g (lw_at lw_m1 92 rfl) rfl
theorem q197 : (Jvm.Cond.fieldLink "SnailPost$State" (27 : Nat) "SnailPost$State" "crossings" "[I") ∈ lw_all := lw_g (lw_at lw_m1 95 rfl) rfl
theorem q200 : (Jvm.Cond.fieldLink "SnailPost$State" (30 : Nat) "SnailPost$State" "salt" "[Z") ∈ lw_all := lw_g (lw_at lw_m1 98 rfl) rfl
theorem q203 : (Jvm.Cond.fieldLink "SnailPost$State" (39 : Nat) "SnailPost$State" "laws" "Ljava/util/ArrayList;") ∈ lw_all := lw_g (lw_at lw_m1 101 rfl) rfl
theorem q208 : (Jvm.Cond.fieldLink "SnailPost$State" (64 : Nat) "SnailPost$State" "many" "I") ∈ lw_all := lw_g (lw_at lw_m1 106 rfl) rfl
theorem q212 : (Jvm.Cond.fieldLink "SnailPost$State" (67 : Nat) "SnailPost$State" "spotMany" "I") ∈ lw_all := lw_g (lw_at lw_m1 110 rfl) rfl
theorem q214 : (Jvm.Cond.fieldLink "SnailPost$State" (70 : Nat) "SnailPost$State" "crossMany" "I") ∈ lw_all := lw_g (lw_at lw_m1 112 rfl) rfl
theorem q217 : (Jvm.Cond.fieldLink "SnailPost$State" (43 : Nat) "SnailPost$State" "force" "I") ∈ lw_all := lw_g (lw_at lw_m1 115 rfl) rfl
theorem q220 : (Jvm.Cond.laysFinal "SnailPost$State" "SnailPost$State" "damp" "[I") ∈ lw_all := lw_g (lw_at lw_m1 118 rfl) rfl
theorem q221 : (Jvm.Cond.soleField "SnailPost$State" "damp") ∈ lw_all := lw_g (lw_at lw_m1 119 rfl) rfl
theorem q222 : (Jvm.Cond.laysFinal "SnailPost$State" "SnailPost$State" "facts" "[I") ∈ lw_all := lw_g (lw_at lw_m1 120 rfl) rfl
theorem q223 : (Jvm.Cond.soleField "SnailPost$State" "facts") ∈ lw_all := lw_g (lw_at lw_m1 121 rfl) rfl
theorem q224 : (Jvm.Cond.laysFinal "SnailPost$State" "SnailPost$State" "spots" "[I") ∈ lw_all := lw_g (lw_at lw_m1 122 rfl) rfl
theorem q225 : (Jvm.Cond.soleField "SnailPost$State" "spots") ∈ lw_all := lw_g (lw_at lw_m1 123 rfl) rfl
theorem q226 : (Jvm.Cond.laysFinal "SnailPost$State" "SnailPost$State" "plan" "[I") ∈ lw_all := lw_g (lw_at lw_m1 124 rfl) rfl
theorem q227 : (Jvm.Cond.soleField "SnailPost$State" "plan") ∈ lw_all := lw_g (lw_at lw_m1 125 rfl) rfl
theorem q228 : (Jvm.Cond.laysFinal "SnailPost$State" "SnailPost$State" "terms" "[I") ∈ lw_all := lw_g (lw_at lw_m1 126 rfl) rfl
theorem q229 : (Jvm.Cond.soleField "SnailPost$State" "terms") ∈ lw_all := lw_g (lw_at lw_m1 127 rfl) rfl
theorem q230 : (Jvm.Cond.laysFinal "SnailPost$State" "SnailPost$State" "crossings" "[I") ∈ lw_all := lw_g (lw_at lw_m1 128 rfl) rfl
theorem q231 : (Jvm.Cond.soleField "SnailPost$State" "crossings") ∈ lw_all := lw_g (lw_at lw_m1 129 rfl) rfl
theorem q232 : (Jvm.Cond.laysFinal "SnailPost$State" "SnailPost$State" "salt" "[Z") ∈ lw_all := lw_g (lw_at lw_m1 130 rfl) rfl
theorem q233 : (Jvm.Cond.soleField "SnailPost$State" "salt") ∈ lw_all := lw_g (lw_at lw_m1 131 rfl) rfl
theorem q234 : (Jvm.Cond.laysFinal "SnailPost$State" "SnailPost$State" "laws" "Ljava/util/ArrayList;") ∈ lw_all := lw_g (lw_at lw_m1 132 rfl) rfl
theorem q235 : (Jvm.Cond.soleField "SnailPost$State" "laws") ∈ lw_all := lw_g (lw_at lw_m1 133 rfl) rfl
theorem q236 : (Jvm.Cond.lays "SnailPost$State" "SnailPost$State" "many" "I") ∈ lw_all := lw_g (lw_at lw_m1 134 rfl) rfl
theorem q237 : (Jvm.Cond.soleField "SnailPost$State" "many") ∈ lw_all := lw_g (lw_at lw_m1 135 rfl) rfl
theorem q238 : (Jvm.Cond.lays "SnailPost$State" "SnailPost$State" "spotMany" "I") ∈ lw_all := lw_g (lw_at lw_m1 136 rfl) rfl
theorem q239 : (Jvm.Cond.soleField "SnailPost$State" "spotMany") ∈ lw_all := lw_g (lw_at lw_m1 137 rfl) rfl
theorem q240 : (Jvm.Cond.lays "SnailPost$State" "SnailPost$State" "crossMany" "I") ∈ lw_all := lw_g (lw_at lw_m1 138 rfl) rfl
theorem q241 : (Jvm.Cond.soleField "SnailPost$State" "crossMany") ∈ lw_all := lw_g (lw_at lw_m1 139 rfl) rfl
theorem q242 : (Jvm.Cond.lays "SnailPost$State" "SnailPost$State" "force" "I") ∈ lw_all := lw_g (lw_at lw_m1 140 rfl) rfl
theorem q243 : (Jvm.Cond.soleField "SnailPost$State" "force") ∈ lw_all := lw_g (lw_at lw_m1 141 rfl) rfl
theorem q244 : (Jvm.Cond.superclass "SnailPost$State" "java/lang/Object") ∈ lw_all := lw_g (lw_at lw_m1 142 rfl) rfl
theorem q586 : (Jvm.Cond.instanceMethod ({ cls := "SnailPost$State", name := "takes", desc := "(LSnailPost$State;)V" } : Jvm.MethodName)) ∈ lw_all := lw_g (lw_at lw_m3 4 rfl) rfl
theorem q587 : (Jvm.Cond.selects "SnailPost$State" ({ cls := "SnailPost$State", name := "takes", desc := "(LSnailPost$State;)V" } : Jvm.MethodName) ({ cls := "SnailPost$State", name := "takes", desc := "(LSnailPost$State;)V" } : Jvm.MethodName)) ∈ lw_all := lw_g (lw_at lw_m3 5 rfl) rfl
theorem q588 : (Jvm.Cond.code ({ cls := "SnailPost$State", name := "takes", desc := "(LSnailPost$State;)V" } : Jvm.MethodName) prog_16_method_3_code (2 : Nat) (Option.none : Option Jvm.ClassFile.FieldType)) ∈ lw_all := lw_g (lw_at lw_m3 6 rfl) rfl
theorem q589 : (Jvm.Cond.methodLink "SnailPost$State" (53 : Nat) ({ cls := "SnailPost$State", name := "rows", desc := "([I[I)V" } : Jvm.MethodName)) ∈ lw_all := lw_g (lw_at lw_m3 7 rfl) rfl
theorem q590 : (Jvm.Cond.static ({ cls := "SnailPost$State", name := "rows", desc := "([I[I)V" } : Jvm.MethodName)) ∈ lw_all := lw_g (lw_at lw_m3 8 rfl) rfl
theorem q591 : (Jvm.Cond.code ({ cls := "SnailPost$State", name := "rows", desc := "([I[I)V" } : Jvm.MethodName) prog_16_method_2_code (2 : Nat) (Option.none : Option Jvm.ClassFile.FieldType)) ∈ lw_all := lw_g (lw_at lw_m3 9 rfl) rfl
theorem q592 : (Jvm.Cond.methodLink "SnailPost$State" (47 : Nat) ({ cls := "java/lang/System", name := "arraycopy", desc := "(Ljava/lang/Object;ILjava/lang/Object;II)V" } : Jvm.MethodName)) ∈ lw_all := lw_g (lw_at lw_m3 10 rfl) rfl
theorem q595 : (Jvm.Cond.methodLink "SnailPost$State" (57 : Nat) ({ cls := "java/util/ArrayList", name := "clear", desc := "()V" } : Jvm.MethodName)) ∈ lw_all := lw_g (lw_at lw_m3 13 rfl) rfl
theorem q599 : (Jvm.Cond.methodLink "SnailPost$State" (60 : Nat) ({ cls := "java/util/ArrayList", name := "addAll", desc := "(Ljava/util/Collection;)Z" } : Jvm.MethodName)) ∈ lw_all := lw_g (lw_at lw_m3 17 rfl) rfl
theorem q634 : (Jvm.Cond.selects "SnailPost$State" ({ cls := "java/lang/Object", name := "getClass", desc := "()Ljava/lang/Class;" } : Jvm.MethodName) ({ cls := "java/lang/Object", name := "getClass", desc := "()Ljava/lang/Class;" } : Jvm.MethodName)) ∈ lw_all := lw_g (lw_at lw_m3 52 rfl) rfl
theorem q2074 : (Jvm.Cond.castable "SnailPost$State" "java/lang/Object") ∈ lw_tbl := lw_at lw_m9 52 rfl
theorem in_X1 : ∀ w ∈ wsX10, w ∈ lw_all := lw_in wsX10 [220, 222, 224, 226, 228, 230, 232, 234, 236, 238, 240, 242] (by decide +kernel) (by decide +kernel)
/-! SnailPost$Setting -/
set_option maxRecDepth 100000
def RX2 : String := "SnailPost$Setting"
def TX2 : u_T := fun k => match k with
  | 0 => ("SnailPost$Setting", "broken", "LSnailPost$Broken;", true)
  | _ => ("SnailPost$Setting", "values", "[J", true)
def tyX2 : Nat → FieldType := fun k => match k with
  | 0 => .object "SnailPost$Broken"
  | _ => .array .long
abbrev wsX20 : List Cond := u_ws RX2 TX2 2
theorem nmX2 : ∀ a, a < 2 → ∀ b, b < 2 → a ≠ b → (TX2 a).2.1 ≠ (TX2 b).2.1 := by decide +kernel
theorem tyX2_ok : ∀ k, k < 2 → parseFieldDescriptor (TX2 k).2.2.1 = some (tyX2 k) := by decide +kernel
abbrev cX2_init : ByteArray := prog_12_method_1_code
def yX2_init : MethodName := ⟨RX2, "<init>", "()V"⟩
def dkwX2_init_0 : List UInt8 := [42, 183, 0, 3, 42, 187, 0, 9, 89, 183, 0, 11, 181, 0, 12, 42, 16, 10, 188, 11, 181, 0, 18, 177]
abbrev dktX2_init_0 : List UInt8 := dkwX2_init_0 ++ []
theorem dksX2_init_0 : cX2_init.data.toList.drop 0 = dktX2_init_0 := by decide +kernel
theorem dX2_init_0 : decode cX2_init 0 = .ok (.aload_n 0, 1) := dk_42 (dk_at dksX2_init_0 0 rfl rfl)
theorem dX2_init_1 : decode cX2_init 1 = .ok (.invokespecial 3, 3) := dk_183 0 3 (dk_at dksX2_init_0 1 rfl rfl)
theorem dX2_init_4 : decode cX2_init 4 = .ok (.aload_n 0, 1) := dk_42 (dk_at dksX2_init_0 4 rfl rfl)
theorem dX2_init_5 : decode cX2_init 5 = .ok (.new 9, 3) := dk_187 0 9 (dk_at dksX2_init_0 5 rfl rfl)
theorem dX2_init_8 : decode cX2_init 8 = .ok (.dup, 1) := dk_89 (dk_at dksX2_init_0 8 rfl rfl)
theorem dX2_init_9 : decode cX2_init 9 = .ok (.invokespecial 11, 3) := dk_183 0 11 (dk_at dksX2_init_0 9 rfl rfl)
theorem dX2_init_12 : decode cX2_init 12 = .ok (.putfield 12, 3) := dk_181 0 12 (dk_at dksX2_init_0 12 rfl rfl)
theorem dX2_init_15 : decode cX2_init 15 = .ok (.aload_n 0, 1) := dk_42 (dk_at dksX2_init_0 15 rfl rfl)
theorem dX2_init_16 : decode cX2_init 16 = .ok (.bipush 10, 2) := dk_16 10 (dk_at dksX2_init_0 16 rfl rfl)
theorem dX2_init_18 : decode cX2_init 18 = .ok (.newarray .long, 2) := dk_188_11 (dk_at dksX2_init_0 18 rfl rfl)
theorem dX2_init_20 : decode cX2_init 20 = .ok (.putfield 18, 3) := dk_181 0 18 (dk_at dksX2_init_0 20 rfl rfl)
theorem dX2_init_23 : decode cX2_init 23 = .ok (.return_, 1) := dk_177 (dk_at dksX2_init_0 23 rfl rfl)
theorem q108 : (Jvm.Cond.initialized "SnailPost$Setting") ∈ lw_all := lw_g (lw_at lw_m1 6 rfl) rfl
theorem q247 : (Jvm.Cond.instantiable "SnailPost$Setting" (2 : Nat)) ∈ lw_all := lw_g (lw_at lw_m1 145 rfl) rfl
theorem q249 : (Jvm.Cond.instanceMethod ({ cls := "SnailPost$Setting", name := "<init>", desc := "()V" } : Jvm.MethodName)) ∈ lw_all := lw_g (lw_at lw_m1 147 rfl) rfl
theorem q250 : (Jvm.Cond.code ({ cls := "SnailPost$Setting", name := "<init>", desc := "()V" } : Jvm.MethodName) prog_12_method_1_code (1 : Nat) (Option.none : Option Jvm.ClassFile.FieldType)) ∈ lw_all := lw_g (lw_at lw_m1 148 rfl) rfl
theorem q251 : (Jvm.Cond.methodLink "SnailPost$Setting" (3 : Nat) ({ cls := "java/lang/Object", name := "<init>", desc := "()V" } : Jvm.MethodName)) ∈ lw_all := lw_g (lw_at lw_m1 149 rfl) rfl
theorem q252 : (Jvm.Cond.classLink "SnailPost$Setting" (9 : Nat) "SnailPost$Broken") ∈ lw_all := lw_g (lw_at lw_m1 150 rfl) rfl
theorem q290 : (Jvm.Cond.methodLink "SnailPost$Setting" (11 : Nat) ({ cls := "SnailPost$Broken", name := "<init>", desc := "()V" } : Jvm.MethodName)) ∈ lw_all := lw_g (lw_at lw_m1 188 rfl) rfl
theorem q313 : (Jvm.Cond.fieldLink "SnailPost$Setting" (12 : Nat) "SnailPost$Setting" "broken" "LSnailPost$Broken;") ∈ lw_all := lw_g (lw_at lw_m1 211 rfl) rfl
theorem q315 : (Jvm.Cond.fieldLink "SnailPost$Setting" (18 : Nat) "SnailPost$Setting" "values" "[J") ∈ lw_all := lw_g (lw_at lw_m1 213 rfl) rfl
theorem q318 : (Jvm.Cond.laysFinal "SnailPost$Setting" "SnailPost$Setting" "broken" "LSnailPost$Broken;") ∈ lw_all := lw_g (lw_at lw_m1 216 rfl) rfl
theorem q319 : (Jvm.Cond.soleField "SnailPost$Setting" "broken") ∈ lw_all := lw_g (lw_at lw_m1 217 rfl) rfl
theorem q320 : (Jvm.Cond.laysFinal "SnailPost$Setting" "SnailPost$Setting" "values" "[J") ∈ lw_all := lw_g (lw_at lw_m1 218 rfl) rfl
theorem q321 : (Jvm.Cond.soleField "SnailPost$Setting" "values") ∈ lw_all := lw_g (lw_at lw_m1 219 rfl) rfl
theorem q322 : (Jvm.Cond.superclass "SnailPost$Setting" "java/lang/Object") ∈ lw_all := lw_g (lw_at lw_m1 220 rfl) rfl
theorem q630 : (Jvm.Cond.selects "SnailPost$Setting" ({ cls := "java/lang/Object", name := "getClass", desc := "()Ljava/lang/Class;" } : Jvm.MethodName) ({ cls := "java/lang/Object", name := "getClass", desc := "()Ljava/lang/Class;" } : Jvm.MethodName)) ∈ lw_all := lw_g (lw_at lw_m3 48 rfl) rfl
theorem q2078 : (Jvm.Cond.castable "SnailPost$Setting" "java/lang/Object") ∈ lw_tbl := lw_at lw_m9 56 rfl
theorem in_X2 : ∀ w ∈ wsX20, w ∈ lw_all := lw_in wsX20 [318, 320] (by decide +kernel) (by decide +kernel)
/-! SnailPost$Broken -/
set_option maxRecDepth 100000
def RX3 : String := "SnailPost$Broken"
def TX3 : u_T := fun k => match k with
  | 0 => ("java/lang/Throwable", "cause", "Ljava/lang/Throwable;", false)
  | 1 => ("java/lang/Throwable", "stackTrace", "[Ljava/lang/StackTraceElement;", false)
  | 2 => ("java/lang/Throwable", "suppressedExceptions", "Ljava/util/List;", false)
  | 3 => ("java/lang/Throwable", "detailMessage", "Ljava/lang/String;", false)
  | 4 => ("java/lang/Throwable", "backtrace", "Ljava/lang/Object;", false)
  | _ => ("java/lang/Throwable", "depth", "I", false)
def tyX3 : Nat → FieldType := fun k => match k with
  | 0 => .object "java/lang/Throwable"
  | 1 => .array (.object "java/lang/StackTraceElement")
  | 2 => .object "java/util/List"
  | 3 => .object "java/lang/String"
  | 4 => .object "java/lang/Object"
  | _ => .int
abbrev wsX30 : List Cond := u_ws RX3 TX3 6
theorem nmX3 : ∀ a, a < 6 → ∀ b, b < 6 → a ≠ b → (TX3 a).2.1 ≠ (TX3 b).2.1 := by decide +kernel
theorem tyX3_ok : ∀ k, k < 6 → parseFieldDescriptor (TX3 k).2.2.1 = some (tyX3 k) := by decide +kernel
abbrev cX3_init : ByteArray := prog_2_method_1_code
def yX3_init : MethodName := ⟨RX3, "<init>", "()V"⟩
def dkwX3_init_0 : List UInt8 := [42, 1, 1, 3, 3, 183, 0, 1, 177]
abbrev dktX3_init_0 : List UInt8 := dkwX3_init_0 ++ []
theorem dksX3_init_0 : cX3_init.data.toList.drop 0 = dktX3_init_0 := by decide +kernel
theorem dX3_init_0 : decode cX3_init 0 = .ok (.aload_n 0, 1) := dk_42 (dk_at dksX3_init_0 0 rfl rfl)
theorem dX3_init_1 : decode cX3_init 1 = .ok (.aconst_null, 1) := dk_1 (dk_at dksX3_init_0 1 rfl rfl)
theorem dX3_init_2 : decode cX3_init 2 = .ok (.aconst_null, 1) := dk_1 (dk_at dksX3_init_0 2 rfl rfl)
theorem dX3_init_3 : decode cX3_init 3 = .ok (.iconst 0, 1) := dk_3 (dk_at dksX3_init_0 3 rfl rfl)
theorem dX3_init_4 : decode cX3_init 4 = .ok (.iconst 0, 1) := dk_3 (dk_at dksX3_init_0 4 rfl rfl)
theorem dX3_init_5 : decode cX3_init 5 = .ok (.invokespecial 1, 3) := dk_183 0 1 (dk_at dksX3_init_0 5 rfl rfl)
theorem dX3_init_8 : decode cX3_init 8 = .ok (.return_, 1) := dk_177 (dk_at dksX3_init_0 8 rfl rfl)
theorem q111 : (Jvm.Cond.initialized "SnailPost$Broken") ∈ lw_all := lw_g (lw_at lw_m1 9 rfl) rfl
theorem q253 : (Jvm.Cond.instantiable "SnailPost$Broken" (6 : Nat)) ∈ lw_all := lw_g (lw_at lw_m1 151 rfl) rfl
theorem q254 : (Jvm.Cond.castable "SnailPost$Broken" "SnailPost$Broken") ∈ lw_tbl := lw_at lw_m1 152 rfl
theorem q259 : (Jvm.Cond.selects "SnailPost$Broken" ({ cls := "java/lang/Throwable", name := "fillInStackTrace", desc := "(I)Ljava/lang/Throwable;" } : Jvm.MethodName) ({ cls := "java/lang/Throwable", name := "fillInStackTrace", desc := "(I)Ljava/lang/Throwable;" } : Jvm.MethodName)) ∈ lw_all := lw_g (lw_at lw_m1 157 rfl) rfl
theorem q260 : (Jvm.Cond.selects "SnailPost$Broken" ({ cls := "java/lang/Throwable", name := "fillInStackTrace", desc := "()Ljava/lang/Throwable;" } : Jvm.MethodName) ({ cls := "java/lang/Throwable", name := "fillInStackTrace", desc := "()Ljava/lang/Throwable;" } : Jvm.MethodName)) ∈ lw_all := lw_g (lw_at lw_m1 158 rfl) rfl
theorem q261 : (Jvm.Cond.lays "SnailPost$Broken" "java/lang/Throwable" "cause" "Ljava/lang/Throwable;") ∈ lw_all := lw_g (lw_at lw_m1 159 rfl) rfl
theorem q263 : (Jvm.Cond.lays "SnailPost$Broken" "java/lang/Throwable" "stackTrace" "[Ljava/lang/StackTraceElement;") ∈ lw_all := lw_g (lw_at lw_m1 161 rfl) rfl
theorem q265 : (Jvm.Cond.lays "SnailPost$Broken" "java/lang/Throwable" "suppressedExceptions" "Ljava/util/List;") ∈ lw_all := lw_g (lw_at lw_m1 163 rfl) rfl
theorem q267 : (Jvm.Cond.lays "SnailPost$Broken" "java/lang/Throwable" "detailMessage" "Ljava/lang/String;") ∈ lw_all := lw_g (lw_at lw_m1 165 rfl) rfl
theorem q269 : (Jvm.Cond.lays "SnailPost$Broken" "java/lang/Throwable" "backtrace" "Ljava/lang/Object;") ∈ lw_all := lw_g (lw_at lw_m1 167 rfl) rfl
theorem q291 : (Jvm.Cond.instanceMethod ({ cls := "SnailPost$Broken", name := "<init>", desc := "()V" } : Jvm.MethodName)) ∈ lw_all := lw_g (lw_at lw_m1 189 rfl) rfl
theorem q292 : (Jvm.Cond.code ({ cls := "SnailPost$Broken", name := "<init>", desc := "()V" } : Jvm.MethodName) prog_2_method_1_code (1 : Nat) (Option.none : Option Jvm.ClassFile.FieldType)) ∈ lw_all := lw_g (lw_at lw_m1 190 rfl) rfl
theorem q293 : (Jvm.Cond.methodLink "SnailPost$Broken" (1 : Nat) ({ cls := "java/lang/Exception", name := "<init>", desc := "(Ljava/lang/String;Ljava/lang/Throwable;ZZ)V" } : Jvm.MethodName)) ∈ lw_all := lw_g (lw_at lw_m1 191 rfl) rfl
theorem q308 : (Jvm.Cond.lays "SnailPost$Broken" "java/lang/Throwable" "depth" "I") ∈ lw_all := lw_g (lw_at lw_m1 206 rfl) rfl
theorem q311 : (Jvm.Cond.superclass "SnailPost$Broken" "java/lang/Exception") ∈ lw_all := lw_g (lw_at lw_m1 209 rfl) rfl
theorem q620 : (Jvm.Cond.selects "SnailPost$Broken" ({ cls := "java/lang/Object", name := "getClass", desc := "()Ljava/lang/Class;" } : Jvm.MethodName) ({ cls := "java/lang/Object", name := "getClass", desc := "()Ljava/lang/Class;" } : Jvm.MethodName)) ∈ lw_all := lw_g (lw_at lw_m3 38 rfl) rfl
theorem q2079 : (Jvm.Cond.castable "SnailPost$Broken" "java/lang/Object") ∈ lw_tbl := lw_at lw_m9 57 rfl
theorem in_X3 : ∀ w ∈ wsX30, w ∈ lw_all := lw_in wsX30 [261, 263, 265, 267, 269, 308] (by decide +kernel) (by decide +kernel)
/-! SnailPost$Walk -/
set_option maxRecDepth 100000
def RX4 : String := "SnailPost$Walk"
def TX4 : u_T := fun k => match k with
  | 0 => ("SnailPost$Walk", "cells", "[I", true)
  | 1 => ("SnailPost$Walk", "came", "[I", true)
  | 2 => ("SnailPost$Walk", "stayed", "[I", true)
  | 3 => ("SnailPost$Walk", "been", "[I", true)
  | 4 => ("SnailPost$Walk", "eaten", "I", false)
  | _ => ("SnailPost$Walk", "this$0", "LSnailPost;", true)
def tyX4 : Nat → FieldType := fun k => match k with
  | 0 => .array .int
  | 1 => .array .int
  | 2 => .array .int
  | 3 => .array .int
  | 4 => .int
  | _ => .object "SnailPost"
abbrev wsX40 : List Cond := u_ws RX4 TX4 6
theorem nmX4 : ∀ a, a < 6 → ∀ b, b < 6 → a ≠ b → (TX4 a).2.1 ≠ (TX4 b).2.1 := by decide +kernel
theorem tyX4_ok : ∀ k, k < 6 → parseFieldDescriptor (TX4 k).2.2.1 = some (tyX4 k) := by decide +kernel
abbrev cX4_init : ByteArray := prog_21_method_1_code
def yX4_init : MethodName := ⟨RX4, "<init>", "(LSnailPost;)V"⟩
def dkwX4_init_1 : List UInt8 := [181, 0, 19, 42, 16, 6, 188, 10, 181, 0, 22, 42, 16, 96, 188, 10, 181, 0, 25, 177]
abbrev dktX4_init_1 : List UInt8 := dkwX4_init_1 ++ []
def dkwX4_init_0 : List UInt8 := [42, 43, 181, 0, 3, 42, 183, 0, 9, 42, 16, 6, 188, 10, 181, 0, 15, 42, 16, 6, 188, 10]
abbrev dktX4_init_0 : List UInt8 := dkwX4_init_0 ++ dktX4_init_1
theorem dksX4_init_0 : cX4_init.data.toList.drop 0 = dktX4_init_0 := by decide +kernel
theorem dksX4_init_1 : cX4_init.data.toList.drop 22 = dktX4_init_1 := dk_seg dksX4_init_0 22 rfl rfl
theorem dX4_init_0 : decode cX4_init 0 = .ok (.aload_n 0, 1) := dk_42 (dk_at dksX4_init_0 0 rfl rfl)
theorem dX4_init_1 : decode cX4_init 1 = .ok (.aload_n 1, 1) := dk_43 (dk_at dksX4_init_0 1 rfl rfl)
theorem dX4_init_2 : decode cX4_init 2 = .ok (.putfield 3, 3) := dk_181 0 3 (dk_at dksX4_init_0 2 rfl rfl)
theorem dX4_init_5 : decode cX4_init 5 = .ok (.aload_n 0, 1) := dk_42 (dk_at dksX4_init_0 5 rfl rfl)
theorem dX4_init_6 : decode cX4_init 6 = .ok (.invokespecial 9, 3) := dk_183 0 9 (dk_at dksX4_init_0 6 rfl rfl)
theorem dX4_init_9 : decode cX4_init 9 = .ok (.aload_n 0, 1) := dk_42 (dk_at dksX4_init_0 9 rfl rfl)
theorem dX4_init_10 : decode cX4_init 10 = .ok (.bipush 6, 2) := dk_16 6 (dk_at dksX4_init_0 10 rfl rfl)
theorem dX4_init_12 : decode cX4_init 12 = .ok (.newarray .int, 2) := dk_188_10 (dk_at dksX4_init_0 12 rfl rfl)
theorem dX4_init_14 : decode cX4_init 14 = .ok (.putfield 15, 3) := dk_181 0 15 (dk_at dksX4_init_0 14 rfl rfl)
theorem dX4_init_17 : decode cX4_init 17 = .ok (.aload_n 0, 1) := dk_42 (dk_at dksX4_init_0 17 rfl rfl)
theorem dX4_init_18 : decode cX4_init 18 = .ok (.bipush 6, 2) := dk_16 6 (dk_at dksX4_init_0 18 rfl rfl)
theorem dX4_init_20 : decode cX4_init 20 = .ok (.newarray .int, 2) := dk_188_10 (dk_at dksX4_init_0 20 rfl rfl)
theorem dX4_init_22 : decode cX4_init 22 = .ok (.putfield 19, 3) := dk_181 0 19 (dk_at dksX4_init_1 0 rfl rfl)
theorem dX4_init_25 : decode cX4_init 25 = .ok (.aload_n 0, 1) := dk_42 (dk_at dksX4_init_1 3 rfl rfl)
theorem dX4_init_26 : decode cX4_init 26 = .ok (.bipush 6, 2) := dk_16 6 (dk_at dksX4_init_1 4 rfl rfl)
theorem dX4_init_28 : decode cX4_init 28 = .ok (.newarray .int, 2) := dk_188_10 (dk_at dksX4_init_1 6 rfl rfl)
theorem dX4_init_30 : decode cX4_init 30 = .ok (.putfield 22, 3) := dk_181 0 22 (dk_at dksX4_init_1 8 rfl rfl)
theorem dX4_init_33 : decode cX4_init 33 = .ok (.aload_n 0, 1) := dk_42 (dk_at dksX4_init_1 11 rfl rfl)
theorem dX4_init_34 : decode cX4_init 34 = .ok (.bipush 96, 2) := dk_16 96 (dk_at dksX4_init_1 12 rfl rfl)
theorem dX4_init_36 : decode cX4_init 36 = .ok (.newarray .int, 2) := dk_188_10 (dk_at dksX4_init_1 14 rfl rfl)
theorem dX4_init_38 : decode cX4_init 38 = .ok (.putfield 25, 3) := dk_181 0 25 (dk_at dksX4_init_1 16 rfl rfl)
theorem dX4_init_41 : decode cX4_init 41 = .ok (.return_, 1) := dk_177 (dk_at dksX4_init_1 19 rfl rfl)
abbrev cX4_begins : ByteArray := prog_21_method_2_code
def yX4_begins : MethodName := ⟨RX4, "begins", "()V"⟩
def dkwX4_begins_4 : List UInt8 := [42, 180, 0, 25, 42, 180, 0, 15, 27, 46, 92, 46, 4, 27, 120, 128, 79, 132, 1, 1, 167, 255, 171, 177]
abbrev dktX4_begins_4 : List UInt8 := dkwX4_begins_4 ++ []
def dkwX4_begins_3 : List UInt8 := [180, 0, 3, 27, 4, 182, 0, 41, 160, 0, 7, 3, 167, 0, 4, 2, 79, 42, 180, 0, 22, 27, 3, 79]
abbrev dktX4_begins_3 : List UInt8 := dkwX4_begins_3 ++ dktX4_begins_4
def dkwX4_begins_2 : List UInt8 := [42, 180, 0, 3, 27, 3, 182, 0, 41, 79, 42, 180, 0, 19, 27, 42, 180, 0, 15, 27, 46, 42]
abbrev dktX4_begins_2 : List UInt8 := dkwX4_begins_2 ++ dktX4_begins_3
def dkwX4_begins_1 : List UInt8 := [181, 0, 28, 3, 60, 27, 42, 180, 0, 3, 180, 0, 32, 180, 0, 36, 162, 0, 77, 42, 180, 0, 15, 27]
abbrev dktX4_begins_1 : List UInt8 := dkwX4_begins_1 ++ dktX4_begins_2
def dkwX4_begins_0 : List UInt8 := [3, 60, 27, 16, 96, 162, 0, 16, 42, 180, 0, 25, 27, 3, 79, 132, 1, 1, 167, 255, 240, 42, 3]
abbrev dktX4_begins_0 : List UInt8 := dkwX4_begins_0 ++ dktX4_begins_1
theorem dksX4_begins_0 : cX4_begins.data.toList.drop 0 = dktX4_begins_0 := by decide +kernel
theorem dksX4_begins_1 : cX4_begins.data.toList.drop 23 = dktX4_begins_1 := dk_seg dksX4_begins_0 23 rfl rfl
theorem dksX4_begins_2 : cX4_begins.data.toList.drop 47 = dktX4_begins_2 := dk_seg dksX4_begins_1 24 rfl rfl
theorem dksX4_begins_3 : cX4_begins.data.toList.drop 69 = dktX4_begins_3 := dk_seg dksX4_begins_2 22 rfl rfl
theorem dksX4_begins_4 : cX4_begins.data.toList.drop 93 = dktX4_begins_4 := dk_seg dksX4_begins_3 24 rfl rfl
theorem dX4_begins_0 : decode cX4_begins 0 = .ok (.iconst 0, 1) := dk_3 (dk_at dksX4_begins_0 0 rfl rfl)
theorem dX4_begins_1 : decode cX4_begins 1 = .ok (.istore_n 1, 1) := dk_60 (dk_at dksX4_begins_0 1 rfl rfl)
theorem dX4_begins_2 : decode cX4_begins 2 = .ok (.iload_n 1, 1) := dk_27 (dk_at dksX4_begins_0 2 rfl rfl)
theorem dX4_begins_3 : decode cX4_begins 3 = .ok (.bipush 96, 2) := dk_16 96 (dk_at dksX4_begins_0 3 rfl rfl)
theorem dX4_begins_5 : decode cX4_begins 5 = .ok (.if_icmp .ge 16, 3) := dk_162 0 16 (dk_at dksX4_begins_0 5 rfl rfl)
theorem dX4_begins_8 : decode cX4_begins 8 = .ok (.aload_n 0, 1) := dk_42 (dk_at dksX4_begins_0 8 rfl rfl)
theorem dX4_begins_9 : decode cX4_begins 9 = .ok (.getfield 25, 3) := dk_180 0 25 (dk_at dksX4_begins_0 9 rfl rfl)
theorem dX4_begins_12 : decode cX4_begins 12 = .ok (.iload_n 1, 1) := dk_27 (dk_at dksX4_begins_0 12 rfl rfl)
theorem dX4_begins_13 : decode cX4_begins 13 = .ok (.iconst 0, 1) := dk_3 (dk_at dksX4_begins_0 13 rfl rfl)
theorem dX4_begins_14 : decode cX4_begins 14 = .ok (.iastore, 1) := dk_79 (dk_at dksX4_begins_0 14 rfl rfl)
theorem dX4_begins_15 : decode cX4_begins 15 = .ok (.iinc 1 1, 3) := dk_132 1 1 (dk_at dksX4_begins_0 15 rfl rfl)
theorem dX4_begins_18 : decode cX4_begins 18 = .ok (.goto (-16), 3) := dk_167 255 240 (dk_at dksX4_begins_0 18 rfl rfl)
theorem dX4_begins_21 : decode cX4_begins 21 = .ok (.aload_n 0, 1) := dk_42 (dk_at dksX4_begins_0 21 rfl rfl)
theorem dX4_begins_22 : decode cX4_begins 22 = .ok (.iconst 0, 1) := dk_3 (dk_at dksX4_begins_0 22 rfl rfl)
theorem dX4_begins_23 : decode cX4_begins 23 = .ok (.putfield 28, 3) := dk_181 0 28 (dk_at dksX4_begins_1 0 rfl rfl)
theorem dX4_begins_26 : decode cX4_begins 26 = .ok (.iconst 0, 1) := dk_3 (dk_at dksX4_begins_1 3 rfl rfl)
theorem dX4_begins_27 : decode cX4_begins 27 = .ok (.istore_n 1, 1) := dk_60 (dk_at dksX4_begins_1 4 rfl rfl)
theorem dX4_begins_28 : decode cX4_begins 28 = .ok (.iload_n 1, 1) := dk_27 (dk_at dksX4_begins_1 5 rfl rfl)
theorem dX4_begins_29 : decode cX4_begins 29 = .ok (.aload_n 0, 1) := dk_42 (dk_at dksX4_begins_1 6 rfl rfl)
theorem dX4_begins_30 : decode cX4_begins 30 = .ok (.getfield 3, 3) := dk_180 0 3 (dk_at dksX4_begins_1 7 rfl rfl)
theorem dX4_begins_33 : decode cX4_begins 33 = .ok (.getfield 32, 3) := dk_180 0 32 (dk_at dksX4_begins_1 10 rfl rfl)
theorem dX4_begins_36 : decode cX4_begins 36 = .ok (.getfield 36, 3) := dk_180 0 36 (dk_at dksX4_begins_1 13 rfl rfl)
theorem dX4_begins_39 : decode cX4_begins 39 = .ok (.if_icmp .ge 77, 3) := dk_162 0 77 (dk_at dksX4_begins_1 16 rfl rfl)
theorem dX4_begins_42 : decode cX4_begins 42 = .ok (.aload_n 0, 1) := dk_42 (dk_at dksX4_begins_1 19 rfl rfl)
theorem dX4_begins_43 : decode cX4_begins 43 = .ok (.getfield 15, 3) := dk_180 0 15 (dk_at dksX4_begins_1 20 rfl rfl)
theorem dX4_begins_46 : decode cX4_begins 46 = .ok (.iload_n 1, 1) := dk_27 (dk_at dksX4_begins_1 23 rfl rfl)
theorem dX4_begins_47 : decode cX4_begins 47 = .ok (.aload_n 0, 1) := dk_42 (dk_at dksX4_begins_2 0 rfl rfl)
theorem dX4_begins_48 : decode cX4_begins 48 = .ok (.getfield 3, 3) := dk_180 0 3 (dk_at dksX4_begins_2 1 rfl rfl)
theorem dX4_begins_51 : decode cX4_begins 51 = .ok (.iload_n 1, 1) := dk_27 (dk_at dksX4_begins_2 4 rfl rfl)
theorem dX4_begins_52 : decode cX4_begins 52 = .ok (.iconst 0, 1) := dk_3 (dk_at dksX4_begins_2 5 rfl rfl)
theorem dX4_begins_53 : decode cX4_begins 53 = .ok (.invokevirtual 41, 3) := dk_182 0 41 (dk_at dksX4_begins_2 6 rfl rfl)
theorem dX4_begins_56 : decode cX4_begins 56 = .ok (.iastore, 1) := dk_79 (dk_at dksX4_begins_2 9 rfl rfl)
theorem dX4_begins_57 : decode cX4_begins 57 = .ok (.aload_n 0, 1) := dk_42 (dk_at dksX4_begins_2 10 rfl rfl)
theorem dX4_begins_58 : decode cX4_begins 58 = .ok (.getfield 19, 3) := dk_180 0 19 (dk_at dksX4_begins_2 11 rfl rfl)
theorem dX4_begins_61 : decode cX4_begins 61 = .ok (.iload_n 1, 1) := dk_27 (dk_at dksX4_begins_2 14 rfl rfl)
theorem dX4_begins_62 : decode cX4_begins 62 = .ok (.aload_n 0, 1) := dk_42 (dk_at dksX4_begins_2 15 rfl rfl)
theorem dX4_begins_63 : decode cX4_begins 63 = .ok (.getfield 15, 3) := dk_180 0 15 (dk_at dksX4_begins_2 16 rfl rfl)
theorem dX4_begins_66 : decode cX4_begins 66 = .ok (.iload_n 1, 1) := dk_27 (dk_at dksX4_begins_2 19 rfl rfl)
theorem dX4_begins_67 : decode cX4_begins 67 = .ok (.iaload, 1) := dk_46 (dk_at dksX4_begins_2 20 rfl rfl)
theorem dX4_begins_68 : decode cX4_begins 68 = .ok (.aload_n 0, 1) := dk_42 (dk_at dksX4_begins_2 21 rfl rfl)
theorem dX4_begins_69 : decode cX4_begins 69 = .ok (.getfield 3, 3) := dk_180 0 3 (dk_at dksX4_begins_3 0 rfl rfl)
theorem dX4_begins_72 : decode cX4_begins 72 = .ok (.iload_n 1, 1) := dk_27 (dk_at dksX4_begins_3 3 rfl rfl)
theorem dX4_begins_73 : decode cX4_begins 73 = .ok (.iconst 1, 1) := dk_4 (dk_at dksX4_begins_3 4 rfl rfl)
theorem dX4_begins_74 : decode cX4_begins 74 = .ok (.invokevirtual 41, 3) := dk_182 0 41 (dk_at dksX4_begins_3 5 rfl rfl)
theorem dX4_begins_77 : decode cX4_begins 77 = .ok (.if_icmp .ne 7, 3) := dk_160 0 7 (dk_at dksX4_begins_3 8 rfl rfl)
theorem dX4_begins_80 : decode cX4_begins 80 = .ok (.iconst 0, 1) := dk_3 (dk_at dksX4_begins_3 11 rfl rfl)
theorem dX4_begins_81 : decode cX4_begins 81 = .ok (.goto 4, 3) := dk_167 0 4 (dk_at dksX4_begins_3 12 rfl rfl)
theorem dX4_begins_84 : decode cX4_begins 84 = .ok (.iconst (-1), 1) := dk_2 (dk_at dksX4_begins_3 15 rfl rfl)
theorem dX4_begins_85 : decode cX4_begins 85 = .ok (.iastore, 1) := dk_79 (dk_at dksX4_begins_3 16 rfl rfl)
theorem dX4_begins_86 : decode cX4_begins 86 = .ok (.aload_n 0, 1) := dk_42 (dk_at dksX4_begins_3 17 rfl rfl)
theorem dX4_begins_87 : decode cX4_begins 87 = .ok (.getfield 22, 3) := dk_180 0 22 (dk_at dksX4_begins_3 18 rfl rfl)
theorem dX4_begins_90 : decode cX4_begins 90 = .ok (.iload_n 1, 1) := dk_27 (dk_at dksX4_begins_3 21 rfl rfl)
theorem dX4_begins_91 : decode cX4_begins 91 = .ok (.iconst 0, 1) := dk_3 (dk_at dksX4_begins_3 22 rfl rfl)
theorem dX4_begins_92 : decode cX4_begins 92 = .ok (.iastore, 1) := dk_79 (dk_at dksX4_begins_3 23 rfl rfl)
theorem dX4_begins_93 : decode cX4_begins 93 = .ok (.aload_n 0, 1) := dk_42 (dk_at dksX4_begins_4 0 rfl rfl)
theorem dX4_begins_94 : decode cX4_begins 94 = .ok (.getfield 25, 3) := dk_180 0 25 (dk_at dksX4_begins_4 1 rfl rfl)
theorem dX4_begins_97 : decode cX4_begins 97 = .ok (.aload_n 0, 1) := dk_42 (dk_at dksX4_begins_4 4 rfl rfl)
theorem dX4_begins_98 : decode cX4_begins 98 = .ok (.getfield 15, 3) := dk_180 0 15 (dk_at dksX4_begins_4 5 rfl rfl)
theorem dX4_begins_101 : decode cX4_begins 101 = .ok (.iload_n 1, 1) := dk_27 (dk_at dksX4_begins_4 8 rfl rfl)
theorem dX4_begins_102 : decode cX4_begins 102 = .ok (.iaload, 1) := dk_46 (dk_at dksX4_begins_4 9 rfl rfl)
theorem dX4_begins_103 : decode cX4_begins 103 = .ok (.dup2, 1) := dk_92 (dk_at dksX4_begins_4 10 rfl rfl)
theorem dX4_begins_104 : decode cX4_begins 104 = .ok (.iaload, 1) := dk_46 (dk_at dksX4_begins_4 11 rfl rfl)
theorem dX4_begins_105 : decode cX4_begins 105 = .ok (.iconst 1, 1) := dk_4 (dk_at dksX4_begins_4 12 rfl rfl)
theorem dX4_begins_106 : decode cX4_begins 106 = .ok (.iload_n 1, 1) := dk_27 (dk_at dksX4_begins_4 13 rfl rfl)
theorem dX4_begins_107 : decode cX4_begins 107 = .ok (.ishl, 1) := dk_120 (dk_at dksX4_begins_4 14 rfl rfl)
theorem dX4_begins_108 : decode cX4_begins 108 = .ok (.ior, 1) := dk_128 (dk_at dksX4_begins_4 15 rfl rfl)
theorem dX4_begins_109 : decode cX4_begins 109 = .ok (.iastore, 1) := dk_79 (dk_at dksX4_begins_4 16 rfl rfl)
theorem dX4_begins_110 : decode cX4_begins 110 = .ok (.iinc 1 1, 3) := dk_132 1 1 (dk_at dksX4_begins_4 17 rfl rfl)
theorem dX4_begins_113 : decode cX4_begins 113 = .ok (.goto (-85), 3) := dk_167 255 171 (dk_at dksX4_begins_4 20 rfl rfl)
theorem dX4_begins_116 : decode cX4_begins 116 = .ok (.return_, 1) := dk_177 (dk_at dksX4_begins_4 23 rfl rfl)
abbrev cX4_minute : ByteArray := prog_21_method_8_code
def yX4_minute : MethodName := ⟨RX4, "minute", "(II)V"⟩
def dkwX4_minute_8 : List UInt8 := [167, 255, 77, 177]
abbrev dktX4_minute_8 : List UInt8 := dkwX4_minute_8 ++ []
def dkwX4_minute_7 : List UInt8 := [21, 4, 4, 182, 0, 41, 160, 0, 13, 42, 180, 0, 19, 21, 4, 27, 4, 96, 79, 132, 4, 1]
abbrev dktX4_minute_7 : List UInt8 := dkwX4_minute_7 ++ dktX4_minute_8
def dkwX4_minute_6 : List UInt8 := [21, 5, 79, 42, 180, 0, 25, 21, 5, 92, 46, 4, 21, 4, 120, 128, 79, 21, 5, 42, 180, 0, 3]
abbrev dktX4_minute_6 : List UInt8 := dkwX4_minute_6 ++ dktX4_minute_7
def dkwX4_minute_5 : List UInt8 := [42, 180, 0, 15, 21, 4, 46, 160, 0, 7, 4, 167, 0, 4, 3, 96, 79, 42, 180, 0, 15, 21, 4]
abbrev dktX4_minute_5 : List UInt8 := dkwX4_minute_5 ++ dktX4_minute_6
def dkwX4_minute_4 : List UInt8 := [46, 167, 0, 11, 42, 21, 4, 29, 28, 182, 0, 122, 54, 5, 42, 180, 0, 22, 21, 4, 92, 46, 21, 5]
abbrev dktX4_minute_4 : List UInt8 := dkwX4_minute_4 ++ dktX4_minute_5
def dkwX4_minute_3 : List UInt8 := [180, 0, 15, 21, 4, 46, 29, 28, 182, 0, 106, 20, 0, 68, 148, 153, 0, 13, 42, 180, 0, 15, 21, 4]
abbrev dktX4_minute_3 : List UInt8 := dkwX4_minute_3 ++ dktX4_minute_4
def dkwX4_minute_2 : List UInt8 := [96, 42, 180, 0, 3, 21, 4, 5, 182, 0, 41, 112, 153, 0, 6, 167, 0, 121, 42, 5, 21, 4, 42]
abbrev dktX4_minute_2 : List UInt8 := dkwX4_minute_2 ++ dktX4_minute_3
def dkwX4_minute_1 : List UInt8 := [180, 0, 19, 21, 4, 46, 2, 160, 0, 153, 42, 180, 0, 28, 21, 4, 184, 0, 118, 154, 0, 141, 27, 4]
abbrev dktX4_minute_1 : List UInt8 := dkwX4_minute_1 ++ dktX4_minute_2
def dkwX4_minute_0 : List UInt8 := [27, 16, 12, 108, 62, 3, 54, 4, 21, 4, 42, 180, 0, 3, 180, 0, 32, 180, 0, 36, 162, 0, 170, 42]
abbrev dktX4_minute_0 : List UInt8 := dkwX4_minute_0 ++ dktX4_minute_1
theorem dksX4_minute_0 : cX4_minute.data.toList.drop 0 = dktX4_minute_0 := by decide +kernel
theorem dksX4_minute_1 : cX4_minute.data.toList.drop 24 = dktX4_minute_1 := dk_seg dksX4_minute_0 24 rfl rfl
theorem dksX4_minute_2 : cX4_minute.data.toList.drop 48 = dktX4_minute_2 := dk_seg dksX4_minute_1 24 rfl rfl
theorem dksX4_minute_3 : cX4_minute.data.toList.drop 71 = dktX4_minute_3 := dk_seg dksX4_minute_2 23 rfl rfl
theorem dksX4_minute_4 : cX4_minute.data.toList.drop 95 = dktX4_minute_4 := dk_seg dksX4_minute_3 24 rfl rfl
theorem dksX4_minute_5 : cX4_minute.data.toList.drop 119 = dktX4_minute_5 := dk_seg dksX4_minute_4 24 rfl rfl
theorem dksX4_minute_6 : cX4_minute.data.toList.drop 142 = dktX4_minute_6 := dk_seg dksX4_minute_5 23 rfl rfl
theorem dksX4_minute_7 : cX4_minute.data.toList.drop 165 = dktX4_minute_7 := dk_seg dksX4_minute_6 23 rfl rfl
theorem dksX4_minute_8 : cX4_minute.data.toList.drop 187 = dktX4_minute_8 := dk_seg dksX4_minute_7 22 rfl rfl
theorem dX4_minute_0 : decode cX4_minute 0 = .ok (.iload_n 1, 1) := dk_27 (dk_at dksX4_minute_0 0 rfl rfl)
theorem dX4_minute_1 : decode cX4_minute 1 = .ok (.bipush 12, 2) := dk_16 12 (dk_at dksX4_minute_0 1 rfl rfl)
theorem dX4_minute_3 : decode cX4_minute 3 = .ok (.idiv, 1) := dk_108 (dk_at dksX4_minute_0 3 rfl rfl)
theorem dX4_minute_4 : decode cX4_minute 4 = .ok (.istore_n 3, 1) := dk_62 (dk_at dksX4_minute_0 4 rfl rfl)
theorem dX4_minute_5 : decode cX4_minute 5 = .ok (.iconst 0, 1) := dk_3 (dk_at dksX4_minute_0 5 rfl rfl)
theorem dX4_minute_6 : decode cX4_minute 6 = .ok (.istore 4, 2) := dk_54 4 (dk_at dksX4_minute_0 6 rfl rfl)
theorem dX4_minute_8 : decode cX4_minute 8 = .ok (.iload 4, 2) := dk_21 4 (dk_at dksX4_minute_0 8 rfl rfl)
theorem dX4_minute_10 : decode cX4_minute 10 = .ok (.aload_n 0, 1) := dk_42 (dk_at dksX4_minute_0 10 rfl rfl)
theorem dX4_minute_11 : decode cX4_minute 11 = .ok (.getfield 3, 3) := dk_180 0 3 (dk_at dksX4_minute_0 11 rfl rfl)
theorem dX4_minute_14 : decode cX4_minute 14 = .ok (.getfield 32, 3) := dk_180 0 32 (dk_at dksX4_minute_0 14 rfl rfl)
theorem dX4_minute_17 : decode cX4_minute 17 = .ok (.getfield 36, 3) := dk_180 0 36 (dk_at dksX4_minute_0 17 rfl rfl)
theorem dX4_minute_20 : decode cX4_minute 20 = .ok (.if_icmp .ge 170, 3) := dk_162 0 170 (dk_at dksX4_minute_0 20 rfl rfl)
theorem dX4_minute_23 : decode cX4_minute 23 = .ok (.aload_n 0, 1) := dk_42 (dk_at dksX4_minute_0 23 rfl rfl)
theorem dX4_minute_24 : decode cX4_minute 24 = .ok (.getfield 19, 3) := dk_180 0 19 (dk_at dksX4_minute_1 0 rfl rfl)
theorem dX4_minute_27 : decode cX4_minute 27 = .ok (.iload 4, 2) := dk_21 4 (dk_at dksX4_minute_1 3 rfl rfl)
theorem dX4_minute_29 : decode cX4_minute 29 = .ok (.iaload, 1) := dk_46 (dk_at dksX4_minute_1 5 rfl rfl)
theorem dX4_minute_30 : decode cX4_minute 30 = .ok (.iconst (-1), 1) := dk_2 (dk_at dksX4_minute_1 6 rfl rfl)
theorem dX4_minute_31 : decode cX4_minute 31 = .ok (.if_icmp .ne 153, 3) := dk_160 0 153 (dk_at dksX4_minute_1 7 rfl rfl)
theorem dX4_minute_34 : decode cX4_minute 34 = .ok (.aload_n 0, 1) := dk_42 (dk_at dksX4_minute_1 10 rfl rfl)
theorem dX4_minute_35 : decode cX4_minute 35 = .ok (.getfield 28, 3) := dk_180 0 28 (dk_at dksX4_minute_1 11 rfl rfl)
theorem dX4_minute_38 : decode cX4_minute 38 = .ok (.iload 4, 2) := dk_21 4 (dk_at dksX4_minute_1 14 rfl rfl)
theorem dX4_minute_40 : decode cX4_minute 40 = .ok (.invokestatic 118, 3) := dk_184 0 118 (dk_at dksX4_minute_1 16 rfl rfl)
theorem dX4_minute_43 : decode cX4_minute 43 = .ok (.ifCond .ne 141, 3) := dk_154 0 141 (dk_at dksX4_minute_1 19 rfl rfl)
theorem dX4_minute_46 : decode cX4_minute 46 = .ok (.iload_n 1, 1) := dk_27 (dk_at dksX4_minute_1 22 rfl rfl)
theorem dX4_minute_47 : decode cX4_minute 47 = .ok (.iconst 1, 1) := dk_4 (dk_at dksX4_minute_1 23 rfl rfl)
theorem dX4_minute_48 : decode cX4_minute 48 = .ok (.iadd, 1) := dk_96 (dk_at dksX4_minute_2 0 rfl rfl)
theorem dX4_minute_49 : decode cX4_minute 49 = .ok (.aload_n 0, 1) := dk_42 (dk_at dksX4_minute_2 1 rfl rfl)
theorem dX4_minute_50 : decode cX4_minute 50 = .ok (.getfield 3, 3) := dk_180 0 3 (dk_at dksX4_minute_2 2 rfl rfl)
theorem dX4_minute_53 : decode cX4_minute 53 = .ok (.iload 4, 2) := dk_21 4 (dk_at dksX4_minute_2 5 rfl rfl)
theorem dX4_minute_55 : decode cX4_minute 55 = .ok (.iconst 2, 1) := dk_5 (dk_at dksX4_minute_2 7 rfl rfl)
theorem dX4_minute_56 : decode cX4_minute 56 = .ok (.invokevirtual 41, 3) := dk_182 0 41 (dk_at dksX4_minute_2 8 rfl rfl)
theorem dX4_minute_59 : decode cX4_minute 59 = .ok (.irem, 1) := dk_112 (dk_at dksX4_minute_2 11 rfl rfl)
theorem dX4_minute_60 : decode cX4_minute 60 = .ok (.ifCond .eq 6, 3) := dk_153 0 6 (dk_at dksX4_minute_2 12 rfl rfl)
theorem dX4_minute_63 : decode cX4_minute 63 = .ok (.goto 121, 3) := dk_167 0 121 (dk_at dksX4_minute_2 15 rfl rfl)
theorem dX4_minute_66 : decode cX4_minute 66 = .ok (.aload_n 0, 1) := dk_42 (dk_at dksX4_minute_2 18 rfl rfl)
theorem dX4_minute_67 : decode cX4_minute 67 = .ok (.iconst 2, 1) := dk_5 (dk_at dksX4_minute_2 19 rfl rfl)
theorem dX4_minute_68 : decode cX4_minute 68 = .ok (.iload 4, 2) := dk_21 4 (dk_at dksX4_minute_2 20 rfl rfl)
theorem dX4_minute_70 : decode cX4_minute 70 = .ok (.aload_n 0, 1) := dk_42 (dk_at dksX4_minute_2 22 rfl rfl)
theorem dX4_minute_71 : decode cX4_minute 71 = .ok (.getfield 15, 3) := dk_180 0 15 (dk_at dksX4_minute_3 0 rfl rfl)
theorem dX4_minute_74 : decode cX4_minute 74 = .ok (.iload 4, 2) := dk_21 4 (dk_at dksX4_minute_3 3 rfl rfl)
theorem dX4_minute_76 : decode cX4_minute 76 = .ok (.iaload, 1) := dk_46 (dk_at dksX4_minute_3 5 rfl rfl)
theorem dX4_minute_77 : decode cX4_minute 77 = .ok (.iload_n 3, 1) := dk_29 (dk_at dksX4_minute_3 6 rfl rfl)
theorem dX4_minute_78 : decode cX4_minute 78 = .ok (.iload_n 2, 1) := dk_28 (dk_at dksX4_minute_3 7 rfl rfl)
theorem dX4_minute_79 : decode cX4_minute 79 = .ok (.invokevirtual 106, 3) := dk_182 0 106 (dk_at dksX4_minute_3 8 rfl rfl)
theorem dX4_minute_82 : decode cX4_minute 82 = .ok (.ldc2_w 68, 3) := dk_20 0 68 (dk_at dksX4_minute_3 11 rfl rfl)
theorem dX4_minute_85 : decode cX4_minute 85 = .ok (.lcmp, 1) := dk_148 (dk_at dksX4_minute_3 14 rfl rfl)
theorem dX4_minute_86 : decode cX4_minute 86 = .ok (.ifCond .eq 13, 3) := dk_153 0 13 (dk_at dksX4_minute_3 15 rfl rfl)
theorem dX4_minute_89 : decode cX4_minute 89 = .ok (.aload_n 0, 1) := dk_42 (dk_at dksX4_minute_3 18 rfl rfl)
theorem dX4_minute_90 : decode cX4_minute 90 = .ok (.getfield 15, 3) := dk_180 0 15 (dk_at dksX4_minute_3 19 rfl rfl)
theorem dX4_minute_93 : decode cX4_minute 93 = .ok (.iload 4, 2) := dk_21 4 (dk_at dksX4_minute_3 22 rfl rfl)
theorem dX4_minute_95 : decode cX4_minute 95 = .ok (.iaload, 1) := dk_46 (dk_at dksX4_minute_4 0 rfl rfl)
theorem dX4_minute_96 : decode cX4_minute 96 = .ok (.goto 11, 3) := dk_167 0 11 (dk_at dksX4_minute_4 1 rfl rfl)
theorem dX4_minute_99 : decode cX4_minute 99 = .ok (.aload_n 0, 1) := dk_42 (dk_at dksX4_minute_4 4 rfl rfl)
theorem dX4_minute_100 : decode cX4_minute 100 = .ok (.iload 4, 2) := dk_21 4 (dk_at dksX4_minute_4 5 rfl rfl)
theorem dX4_minute_102 : decode cX4_minute 102 = .ok (.iload_n 3, 1) := dk_29 (dk_at dksX4_minute_4 7 rfl rfl)
theorem dX4_minute_103 : decode cX4_minute 103 = .ok (.iload_n 2, 1) := dk_28 (dk_at dksX4_minute_4 8 rfl rfl)
theorem dX4_minute_104 : decode cX4_minute 104 = .ok (.invokevirtual 122, 3) := dk_182 0 122 (dk_at dksX4_minute_4 9 rfl rfl)
theorem dX4_minute_107 : decode cX4_minute 107 = .ok (.istore 5, 2) := dk_54 5 (dk_at dksX4_minute_4 12 rfl rfl)
theorem dX4_minute_109 : decode cX4_minute 109 = .ok (.aload_n 0, 1) := dk_42 (dk_at dksX4_minute_4 14 rfl rfl)
theorem dX4_minute_110 : decode cX4_minute 110 = .ok (.getfield 22, 3) := dk_180 0 22 (dk_at dksX4_minute_4 15 rfl rfl)
theorem dX4_minute_113 : decode cX4_minute 113 = .ok (.iload 4, 2) := dk_21 4 (dk_at dksX4_minute_4 18 rfl rfl)
theorem dX4_minute_115 : decode cX4_minute 115 = .ok (.dup2, 1) := dk_92 (dk_at dksX4_minute_4 20 rfl rfl)
theorem dX4_minute_116 : decode cX4_minute 116 = .ok (.iaload, 1) := dk_46 (dk_at dksX4_minute_4 21 rfl rfl)
theorem dX4_minute_117 : decode cX4_minute 117 = .ok (.iload 5, 2) := dk_21 5 (dk_at dksX4_minute_4 22 rfl rfl)
theorem dX4_minute_119 : decode cX4_minute 119 = .ok (.aload_n 0, 1) := dk_42 (dk_at dksX4_minute_5 0 rfl rfl)
theorem dX4_minute_120 : decode cX4_minute 120 = .ok (.getfield 15, 3) := dk_180 0 15 (dk_at dksX4_minute_5 1 rfl rfl)
theorem dX4_minute_123 : decode cX4_minute 123 = .ok (.iload 4, 2) := dk_21 4 (dk_at dksX4_minute_5 4 rfl rfl)
theorem dX4_minute_125 : decode cX4_minute 125 = .ok (.iaload, 1) := dk_46 (dk_at dksX4_minute_5 6 rfl rfl)
theorem dX4_minute_126 : decode cX4_minute 126 = .ok (.if_icmp .ne 7, 3) := dk_160 0 7 (dk_at dksX4_minute_5 7 rfl rfl)
theorem dX4_minute_129 : decode cX4_minute 129 = .ok (.iconst 1, 1) := dk_4 (dk_at dksX4_minute_5 10 rfl rfl)
theorem dX4_minute_130 : decode cX4_minute 130 = .ok (.goto 4, 3) := dk_167 0 4 (dk_at dksX4_minute_5 11 rfl rfl)
theorem dX4_minute_133 : decode cX4_minute 133 = .ok (.iconst 0, 1) := dk_3 (dk_at dksX4_minute_5 14 rfl rfl)
theorem dX4_minute_134 : decode cX4_minute 134 = .ok (.iadd, 1) := dk_96 (dk_at dksX4_minute_5 15 rfl rfl)
theorem dX4_minute_135 : decode cX4_minute 135 = .ok (.iastore, 1) := dk_79 (dk_at dksX4_minute_5 16 rfl rfl)
theorem dX4_minute_136 : decode cX4_minute 136 = .ok (.aload_n 0, 1) := dk_42 (dk_at dksX4_minute_5 17 rfl rfl)
theorem dX4_minute_137 : decode cX4_minute 137 = .ok (.getfield 15, 3) := dk_180 0 15 (dk_at dksX4_minute_5 18 rfl rfl)
theorem dX4_minute_140 : decode cX4_minute 140 = .ok (.iload 4, 2) := dk_21 4 (dk_at dksX4_minute_5 21 rfl rfl)
theorem dX4_minute_142 : decode cX4_minute 142 = .ok (.iload 5, 2) := dk_21 5 (dk_at dksX4_minute_6 0 rfl rfl)
theorem dX4_minute_144 : decode cX4_minute 144 = .ok (.iastore, 1) := dk_79 (dk_at dksX4_minute_6 2 rfl rfl)
theorem dX4_minute_145 : decode cX4_minute 145 = .ok (.aload_n 0, 1) := dk_42 (dk_at dksX4_minute_6 3 rfl rfl)
theorem dX4_minute_146 : decode cX4_minute 146 = .ok (.getfield 25, 3) := dk_180 0 25 (dk_at dksX4_minute_6 4 rfl rfl)
theorem dX4_minute_149 : decode cX4_minute 149 = .ok (.iload 5, 2) := dk_21 5 (dk_at dksX4_minute_6 7 rfl rfl)
theorem dX4_minute_151 : decode cX4_minute 151 = .ok (.dup2, 1) := dk_92 (dk_at dksX4_minute_6 9 rfl rfl)
theorem dX4_minute_152 : decode cX4_minute 152 = .ok (.iaload, 1) := dk_46 (dk_at dksX4_minute_6 10 rfl rfl)
theorem dX4_minute_153 : decode cX4_minute 153 = .ok (.iconst 1, 1) := dk_4 (dk_at dksX4_minute_6 11 rfl rfl)
theorem dX4_minute_154 : decode cX4_minute 154 = .ok (.iload 4, 2) := dk_21 4 (dk_at dksX4_minute_6 12 rfl rfl)
theorem dX4_minute_156 : decode cX4_minute 156 = .ok (.ishl, 1) := dk_120 (dk_at dksX4_minute_6 14 rfl rfl)
theorem dX4_minute_157 : decode cX4_minute 157 = .ok (.ior, 1) := dk_128 (dk_at dksX4_minute_6 15 rfl rfl)
theorem dX4_minute_158 : decode cX4_minute 158 = .ok (.iastore, 1) := dk_79 (dk_at dksX4_minute_6 16 rfl rfl)
theorem dX4_minute_159 : decode cX4_minute 159 = .ok (.iload 5, 2) := dk_21 5 (dk_at dksX4_minute_6 17 rfl rfl)
theorem dX4_minute_161 : decode cX4_minute 161 = .ok (.aload_n 0, 1) := dk_42 (dk_at dksX4_minute_6 19 rfl rfl)
theorem dX4_minute_162 : decode cX4_minute 162 = .ok (.getfield 3, 3) := dk_180 0 3 (dk_at dksX4_minute_6 20 rfl rfl)
theorem dX4_minute_165 : decode cX4_minute 165 = .ok (.iload 4, 2) := dk_21 4 (dk_at dksX4_minute_7 0 rfl rfl)
theorem dX4_minute_167 : decode cX4_minute 167 = .ok (.iconst 1, 1) := dk_4 (dk_at dksX4_minute_7 2 rfl rfl)
theorem dX4_minute_168 : decode cX4_minute 168 = .ok (.invokevirtual 41, 3) := dk_182 0 41 (dk_at dksX4_minute_7 3 rfl rfl)
theorem dX4_minute_171 : decode cX4_minute 171 = .ok (.if_icmp .ne 13, 3) := dk_160 0 13 (dk_at dksX4_minute_7 6 rfl rfl)
theorem dX4_minute_174 : decode cX4_minute 174 = .ok (.aload_n 0, 1) := dk_42 (dk_at dksX4_minute_7 9 rfl rfl)
theorem dX4_minute_175 : decode cX4_minute 175 = .ok (.getfield 19, 3) := dk_180 0 19 (dk_at dksX4_minute_7 10 rfl rfl)
theorem dX4_minute_178 : decode cX4_minute 178 = .ok (.iload 4, 2) := dk_21 4 (dk_at dksX4_minute_7 13 rfl rfl)
theorem dX4_minute_180 : decode cX4_minute 180 = .ok (.iload_n 1, 1) := dk_27 (dk_at dksX4_minute_7 15 rfl rfl)
theorem dX4_minute_181 : decode cX4_minute 181 = .ok (.iconst 1, 1) := dk_4 (dk_at dksX4_minute_7 16 rfl rfl)
theorem dX4_minute_182 : decode cX4_minute 182 = .ok (.iadd, 1) := dk_96 (dk_at dksX4_minute_7 17 rfl rfl)
theorem dX4_minute_183 : decode cX4_minute 183 = .ok (.iastore, 1) := dk_79 (dk_at dksX4_minute_7 18 rfl rfl)
theorem dX4_minute_184 : decode cX4_minute 184 = .ok (.iinc 4 1, 3) := dk_132 4 1 (dk_at dksX4_minute_7 19 rfl rfl)
theorem dX4_minute_187 : decode cX4_minute 187 = .ok (.goto (-179), 3) := dk_167 255 77 (dk_at dksX4_minute_8 0 rfl rfl)
theorem dX4_minute_190 : decode cX4_minute 190 = .ok (.return_, 1) := dk_177 (dk_at dksX4_minute_8 3 rfl rfl)
abbrev cX4_asks : ByteArray := prog_21_method_5_code
def yX4_asks : MethodName := ⟨RX4, "asks", "(IIIII)J"⟩
def dkwX4_asks_8 : List UInt8 := [192, 0, 100, 27, 42, 180, 0, 3, 180, 0, 70, 182, 0, 102, 173]
abbrev dktX4_asks_8 : List UInt8 := dkwX4_asks_8 ++ []
def dkwX4_asks_7 : List UInt8 := [180, 0, 3, 180, 0, 32, 180, 0, 90, 42, 180, 0, 3, 180, 0, 32, 180, 0, 65, 182, 0, 94]
abbrev dktX4_asks_7 : List UInt8 := dkwX4_asks_7 ++ dktX4_asks_8
def dkwX4_asks_6 : List UInt8 := [133, 80, 25, 6, 16, 8, 29, 16, 12, 112, 133, 80, 25, 6, 16, 9, 29, 16, 12, 108, 133, 80, 42]
abbrev dktX4_asks_6 : List UInt8 := dkwX4_asks_6 ++ dktX4_asks_7
def dkwX4_asks_5 : List UInt8 := [16, 6, 42, 180, 0, 15, 28, 46, 29, 160, 0, 7, 10, 167, 0, 4, 9, 80, 25, 6, 16, 7, 21, 4]
abbrev dktX4_asks_5 : List UInt8 := dkwX4_asks_5 ++ dktX4_asks_6
def dkwX4_asks_4 : List UInt8 := [126, 184, 0, 86, 133, 80, 25, 6, 8, 42, 180, 0, 25, 29, 46, 28, 122, 4, 126, 133, 80, 25, 6]
abbrev dktX4_asks_4 : List UInt8 := dkwX4_asks_4 ++ dktX4_asks_5
def dkwX4_asks_3 : List UInt8 := [6, 42, 29, 21, 5, 182, 0, 83, 133, 80, 25, 6, 7, 42, 180, 0, 25, 29, 46, 4, 28, 120, 2, 130]
abbrev dktX4_asks_3 : List UInt8 := dkwX4_asks_3 ++ dktX4_asks_4
def dkwX4_asks_2 : List UInt8 := [182, 0, 41, 133, 80, 25, 6, 5, 42, 180, 0, 3, 180, 0, 32, 180, 0, 80, 29, 46, 133, 80, 25, 6]
abbrev dktX4_asks_2 : List UInt8 := dkwX4_asks_2 ++ dktX4_asks_3
def dkwX4_asks_1 : List UInt8 := [180, 0, 70, 180, 0, 74, 58, 6, 25, 6, 3, 28, 133, 80, 25, 6, 4, 42, 180, 0, 3, 28, 6]
abbrev dktX4_asks_1 : List UInt8 := dkwX4_asks_1 ++ dktX4_asks_2
def dkwX4_asks_0 : List UInt8 := [42, 180, 0, 3, 180, 0, 32, 180, 0, 65, 2, 160, 0, 7, 20, 0, 68, 173, 42, 180, 0, 3]
abbrev dktX4_asks_0 : List UInt8 := dkwX4_asks_0 ++ dktX4_asks_1
theorem dksX4_asks_0 : cX4_asks.data.toList.drop 0 = dktX4_asks_0 := by decide +kernel
theorem dksX4_asks_1 : cX4_asks.data.toList.drop 22 = dktX4_asks_1 := dk_seg dksX4_asks_0 22 rfl rfl
theorem dksX4_asks_2 : cX4_asks.data.toList.drop 45 = dktX4_asks_2 := dk_seg dksX4_asks_1 23 rfl rfl
theorem dksX4_asks_3 : cX4_asks.data.toList.drop 69 = dktX4_asks_3 := dk_seg dksX4_asks_2 24 rfl rfl
theorem dksX4_asks_4 : cX4_asks.data.toList.drop 93 = dktX4_asks_4 := dk_seg dksX4_asks_3 24 rfl rfl
theorem dksX4_asks_5 : cX4_asks.data.toList.drop 116 = dktX4_asks_5 := dk_seg dksX4_asks_4 23 rfl rfl
theorem dksX4_asks_6 : cX4_asks.data.toList.drop 140 = dktX4_asks_6 := dk_seg dksX4_asks_5 24 rfl rfl
theorem dksX4_asks_7 : cX4_asks.data.toList.drop 163 = dktX4_asks_7 := dk_seg dksX4_asks_6 23 rfl rfl
theorem dksX4_asks_8 : cX4_asks.data.toList.drop 185 = dktX4_asks_8 := dk_seg dksX4_asks_7 22 rfl rfl
theorem dX4_asks_0 : decode cX4_asks 0 = .ok (.aload_n 0, 1) := dk_42 (dk_at dksX4_asks_0 0 rfl rfl)
theorem dX4_asks_1 : decode cX4_asks 1 = .ok (.getfield 3, 3) := dk_180 0 3 (dk_at dksX4_asks_0 1 rfl rfl)
theorem dX4_asks_4 : decode cX4_asks 4 = .ok (.getfield 32, 3) := dk_180 0 32 (dk_at dksX4_asks_0 4 rfl rfl)
theorem dX4_asks_7 : decode cX4_asks 7 = .ok (.getfield 65, 3) := dk_180 0 65 (dk_at dksX4_asks_0 7 rfl rfl)
theorem dX4_asks_10 : decode cX4_asks 10 = .ok (.iconst (-1), 1) := dk_2 (dk_at dksX4_asks_0 10 rfl rfl)
theorem dX4_asks_11 : decode cX4_asks 11 = .ok (.if_icmp .ne 7, 3) := dk_160 0 7 (dk_at dksX4_asks_0 11 rfl rfl)
theorem dX4_asks_14 : decode cX4_asks 14 = .ok (.ldc2_w 68, 3) := dk_20 0 68 (dk_at dksX4_asks_0 14 rfl rfl)
theorem dX4_asks_17 : decode cX4_asks 17 = .ok (.lreturn, 1) := dk_173 (dk_at dksX4_asks_0 17 rfl rfl)
theorem dX4_asks_18 : decode cX4_asks 18 = .ok (.aload_n 0, 1) := dk_42 (dk_at dksX4_asks_0 18 rfl rfl)
theorem dX4_asks_19 : decode cX4_asks 19 = .ok (.getfield 3, 3) := dk_180 0 3 (dk_at dksX4_asks_0 19 rfl rfl)
theorem dX4_asks_22 : decode cX4_asks 22 = .ok (.getfield 70, 3) := dk_180 0 70 (dk_at dksX4_asks_1 0 rfl rfl)
theorem dX4_asks_25 : decode cX4_asks 25 = .ok (.getfield 74, 3) := dk_180 0 74 (dk_at dksX4_asks_1 3 rfl rfl)
theorem dX4_asks_28 : decode cX4_asks 28 = .ok (.astore 6, 2) := dk_58 6 (dk_at dksX4_asks_1 6 rfl rfl)
theorem dX4_asks_30 : decode cX4_asks 30 = .ok (.aload 6, 2) := dk_25 6 (dk_at dksX4_asks_1 8 rfl rfl)
theorem dX4_asks_32 : decode cX4_asks 32 = .ok (.iconst 0, 1) := dk_3 (dk_at dksX4_asks_1 10 rfl rfl)
theorem dX4_asks_33 : decode cX4_asks 33 = .ok (.iload_n 2, 1) := dk_28 (dk_at dksX4_asks_1 11 rfl rfl)
theorem dX4_asks_34 : decode cX4_asks 34 = .ok (.i2l, 1) := dk_133 (dk_at dksX4_asks_1 12 rfl rfl)
theorem dX4_asks_35 : decode cX4_asks 35 = .ok (.lastore, 1) := dk_80 (dk_at dksX4_asks_1 13 rfl rfl)
theorem dX4_asks_36 : decode cX4_asks 36 = .ok (.aload 6, 2) := dk_25 6 (dk_at dksX4_asks_1 14 rfl rfl)
theorem dX4_asks_38 : decode cX4_asks 38 = .ok (.iconst 1, 1) := dk_4 (dk_at dksX4_asks_1 16 rfl rfl)
theorem dX4_asks_39 : decode cX4_asks 39 = .ok (.aload_n 0, 1) := dk_42 (dk_at dksX4_asks_1 17 rfl rfl)
theorem dX4_asks_40 : decode cX4_asks 40 = .ok (.getfield 3, 3) := dk_180 0 3 (dk_at dksX4_asks_1 18 rfl rfl)
theorem dX4_asks_43 : decode cX4_asks 43 = .ok (.iload_n 2, 1) := dk_28 (dk_at dksX4_asks_1 21 rfl rfl)
theorem dX4_asks_44 : decode cX4_asks 44 = .ok (.iconst 3, 1) := dk_6 (dk_at dksX4_asks_1 22 rfl rfl)
theorem dX4_asks_45 : decode cX4_asks 45 = .ok (.invokevirtual 41, 3) := dk_182 0 41 (dk_at dksX4_asks_2 0 rfl rfl)
theorem dX4_asks_48 : decode cX4_asks 48 = .ok (.i2l, 1) := dk_133 (dk_at dksX4_asks_2 3 rfl rfl)
theorem dX4_asks_49 : decode cX4_asks 49 = .ok (.lastore, 1) := dk_80 (dk_at dksX4_asks_2 4 rfl rfl)
theorem dX4_asks_50 : decode cX4_asks 50 = .ok (.aload 6, 2) := dk_25 6 (dk_at dksX4_asks_2 5 rfl rfl)
theorem dX4_asks_52 : decode cX4_asks 52 = .ok (.iconst 2, 1) := dk_5 (dk_at dksX4_asks_2 7 rfl rfl)
theorem dX4_asks_53 : decode cX4_asks 53 = .ok (.aload_n 0, 1) := dk_42 (dk_at dksX4_asks_2 8 rfl rfl)
theorem dX4_asks_54 : decode cX4_asks 54 = .ok (.getfield 3, 3) := dk_180 0 3 (dk_at dksX4_asks_2 9 rfl rfl)
theorem dX4_asks_57 : decode cX4_asks 57 = .ok (.getfield 32, 3) := dk_180 0 32 (dk_at dksX4_asks_2 12 rfl rfl)
theorem dX4_asks_60 : decode cX4_asks 60 = .ok (.getfield 80, 3) := dk_180 0 80 (dk_at dksX4_asks_2 15 rfl rfl)
theorem dX4_asks_63 : decode cX4_asks 63 = .ok (.iload_n 3, 1) := dk_29 (dk_at dksX4_asks_2 18 rfl rfl)
theorem dX4_asks_64 : decode cX4_asks 64 = .ok (.iaload, 1) := dk_46 (dk_at dksX4_asks_2 19 rfl rfl)
theorem dX4_asks_65 : decode cX4_asks 65 = .ok (.i2l, 1) := dk_133 (dk_at dksX4_asks_2 20 rfl rfl)
theorem dX4_asks_66 : decode cX4_asks 66 = .ok (.lastore, 1) := dk_80 (dk_at dksX4_asks_2 21 rfl rfl)
theorem dX4_asks_67 : decode cX4_asks 67 = .ok (.aload 6, 2) := dk_25 6 (dk_at dksX4_asks_2 22 rfl rfl)
theorem dX4_asks_69 : decode cX4_asks 69 = .ok (.iconst 3, 1) := dk_6 (dk_at dksX4_asks_3 0 rfl rfl)
theorem dX4_asks_70 : decode cX4_asks 70 = .ok (.aload_n 0, 1) := dk_42 (dk_at dksX4_asks_3 1 rfl rfl)
theorem dX4_asks_71 : decode cX4_asks 71 = .ok (.iload_n 3, 1) := dk_29 (dk_at dksX4_asks_3 2 rfl rfl)
theorem dX4_asks_72 : decode cX4_asks 72 = .ok (.iload 5, 2) := dk_21 5 (dk_at dksX4_asks_3 3 rfl rfl)
theorem dX4_asks_74 : decode cX4_asks 74 = .ok (.invokevirtual 83, 3) := dk_182 0 83 (dk_at dksX4_asks_3 5 rfl rfl)
theorem dX4_asks_77 : decode cX4_asks 77 = .ok (.i2l, 1) := dk_133 (dk_at dksX4_asks_3 8 rfl rfl)
theorem dX4_asks_78 : decode cX4_asks 78 = .ok (.lastore, 1) := dk_80 (dk_at dksX4_asks_3 9 rfl rfl)
theorem dX4_asks_79 : decode cX4_asks 79 = .ok (.aload 6, 2) := dk_25 6 (dk_at dksX4_asks_3 10 rfl rfl)
theorem dX4_asks_81 : decode cX4_asks 81 = .ok (.iconst 4, 1) := dk_7 (dk_at dksX4_asks_3 12 rfl rfl)
theorem dX4_asks_82 : decode cX4_asks 82 = .ok (.aload_n 0, 1) := dk_42 (dk_at dksX4_asks_3 13 rfl rfl)
theorem dX4_asks_83 : decode cX4_asks 83 = .ok (.getfield 25, 3) := dk_180 0 25 (dk_at dksX4_asks_3 14 rfl rfl)
theorem dX4_asks_86 : decode cX4_asks 86 = .ok (.iload_n 3, 1) := dk_29 (dk_at dksX4_asks_3 17 rfl rfl)
theorem dX4_asks_87 : decode cX4_asks 87 = .ok (.iaload, 1) := dk_46 (dk_at dksX4_asks_3 18 rfl rfl)
theorem dX4_asks_88 : decode cX4_asks 88 = .ok (.iconst 1, 1) := dk_4 (dk_at dksX4_asks_3 19 rfl rfl)
theorem dX4_asks_89 : decode cX4_asks 89 = .ok (.iload_n 2, 1) := dk_28 (dk_at dksX4_asks_3 20 rfl rfl)
theorem dX4_asks_90 : decode cX4_asks 90 = .ok (.ishl, 1) := dk_120 (dk_at dksX4_asks_3 21 rfl rfl)
theorem dX4_asks_91 : decode cX4_asks 91 = .ok (.iconst (-1), 1) := dk_2 (dk_at dksX4_asks_3 22 rfl rfl)
theorem dX4_asks_92 : decode cX4_asks 92 = .ok (.ixor, 1) := dk_130 (dk_at dksX4_asks_3 23 rfl rfl)
theorem dX4_asks_93 : decode cX4_asks 93 = .ok (.iand, 1) := dk_126 (dk_at dksX4_asks_4 0 rfl rfl)
theorem dX4_asks_94 : decode cX4_asks 94 = .ok (.invokestatic 86, 3) := dk_184 0 86 (dk_at dksX4_asks_4 1 rfl rfl)
theorem dX4_asks_97 : decode cX4_asks 97 = .ok (.i2l, 1) := dk_133 (dk_at dksX4_asks_4 4 rfl rfl)
theorem dX4_asks_98 : decode cX4_asks 98 = .ok (.lastore, 1) := dk_80 (dk_at dksX4_asks_4 5 rfl rfl)
theorem dX4_asks_99 : decode cX4_asks 99 = .ok (.aload 6, 2) := dk_25 6 (dk_at dksX4_asks_4 6 rfl rfl)
theorem dX4_asks_101 : decode cX4_asks 101 = .ok (.iconst 5, 1) := dk_8 (dk_at dksX4_asks_4 8 rfl rfl)
theorem dX4_asks_102 : decode cX4_asks 102 = .ok (.aload_n 0, 1) := dk_42 (dk_at dksX4_asks_4 9 rfl rfl)
theorem dX4_asks_103 : decode cX4_asks 103 = .ok (.getfield 25, 3) := dk_180 0 25 (dk_at dksX4_asks_4 10 rfl rfl)
theorem dX4_asks_106 : decode cX4_asks 106 = .ok (.iload_n 3, 1) := dk_29 (dk_at dksX4_asks_4 13 rfl rfl)
theorem dX4_asks_107 : decode cX4_asks 107 = .ok (.iaload, 1) := dk_46 (dk_at dksX4_asks_4 14 rfl rfl)
theorem dX4_asks_108 : decode cX4_asks 108 = .ok (.iload_n 2, 1) := dk_28 (dk_at dksX4_asks_4 15 rfl rfl)
theorem dX4_asks_109 : decode cX4_asks 109 = .ok (.ishr, 1) := dk_122 (dk_at dksX4_asks_4 16 rfl rfl)
theorem dX4_asks_110 : decode cX4_asks 110 = .ok (.iconst 1, 1) := dk_4 (dk_at dksX4_asks_4 17 rfl rfl)
theorem dX4_asks_111 : decode cX4_asks 111 = .ok (.iand, 1) := dk_126 (dk_at dksX4_asks_4 18 rfl rfl)
theorem dX4_asks_112 : decode cX4_asks 112 = .ok (.i2l, 1) := dk_133 (dk_at dksX4_asks_4 19 rfl rfl)
theorem dX4_asks_113 : decode cX4_asks 113 = .ok (.lastore, 1) := dk_80 (dk_at dksX4_asks_4 20 rfl rfl)
theorem dX4_asks_114 : decode cX4_asks 114 = .ok (.aload 6, 2) := dk_25 6 (dk_at dksX4_asks_4 21 rfl rfl)
theorem dX4_asks_116 : decode cX4_asks 116 = .ok (.bipush 6, 2) := dk_16 6 (dk_at dksX4_asks_5 0 rfl rfl)
theorem dX4_asks_118 : decode cX4_asks 118 = .ok (.aload_n 0, 1) := dk_42 (dk_at dksX4_asks_5 2 rfl rfl)
theorem dX4_asks_119 : decode cX4_asks 119 = .ok (.getfield 15, 3) := dk_180 0 15 (dk_at dksX4_asks_5 3 rfl rfl)
theorem dX4_asks_122 : decode cX4_asks 122 = .ok (.iload_n 2, 1) := dk_28 (dk_at dksX4_asks_5 6 rfl rfl)
theorem dX4_asks_123 : decode cX4_asks 123 = .ok (.iaload, 1) := dk_46 (dk_at dksX4_asks_5 7 rfl rfl)
theorem dX4_asks_124 : decode cX4_asks 124 = .ok (.iload_n 3, 1) := dk_29 (dk_at dksX4_asks_5 8 rfl rfl)
theorem dX4_asks_125 : decode cX4_asks 125 = .ok (.if_icmp .ne 7, 3) := dk_160 0 7 (dk_at dksX4_asks_5 9 rfl rfl)
theorem dX4_asks_128 : decode cX4_asks 128 = .ok (.lconst 1, 1) := dk_10 (dk_at dksX4_asks_5 12 rfl rfl)
theorem dX4_asks_129 : decode cX4_asks 129 = .ok (.goto 4, 3) := dk_167 0 4 (dk_at dksX4_asks_5 13 rfl rfl)
theorem dX4_asks_132 : decode cX4_asks 132 = .ok (.lconst 0, 1) := dk_9 (dk_at dksX4_asks_5 16 rfl rfl)
theorem dX4_asks_133 : decode cX4_asks 133 = .ok (.lastore, 1) := dk_80 (dk_at dksX4_asks_5 17 rfl rfl)
theorem dX4_asks_134 : decode cX4_asks 134 = .ok (.aload 6, 2) := dk_25 6 (dk_at dksX4_asks_5 18 rfl rfl)
theorem dX4_asks_136 : decode cX4_asks 136 = .ok (.bipush 7, 2) := dk_16 7 (dk_at dksX4_asks_5 20 rfl rfl)
theorem dX4_asks_138 : decode cX4_asks 138 = .ok (.iload 4, 2) := dk_21 4 (dk_at dksX4_asks_5 22 rfl rfl)
theorem dX4_asks_140 : decode cX4_asks 140 = .ok (.i2l, 1) := dk_133 (dk_at dksX4_asks_6 0 rfl rfl)
theorem dX4_asks_141 : decode cX4_asks 141 = .ok (.lastore, 1) := dk_80 (dk_at dksX4_asks_6 1 rfl rfl)
theorem dX4_asks_142 : decode cX4_asks 142 = .ok (.aload 6, 2) := dk_25 6 (dk_at dksX4_asks_6 2 rfl rfl)
theorem dX4_asks_144 : decode cX4_asks 144 = .ok (.bipush 8, 2) := dk_16 8 (dk_at dksX4_asks_6 4 rfl rfl)
theorem dX4_asks_146 : decode cX4_asks 146 = .ok (.iload_n 3, 1) := dk_29 (dk_at dksX4_asks_6 6 rfl rfl)
theorem dX4_asks_147 : decode cX4_asks 147 = .ok (.bipush 12, 2) := dk_16 12 (dk_at dksX4_asks_6 7 rfl rfl)
theorem dX4_asks_149 : decode cX4_asks 149 = .ok (.irem, 1) := dk_112 (dk_at dksX4_asks_6 9 rfl rfl)
theorem dX4_asks_150 : decode cX4_asks 150 = .ok (.i2l, 1) := dk_133 (dk_at dksX4_asks_6 10 rfl rfl)
theorem dX4_asks_151 : decode cX4_asks 151 = .ok (.lastore, 1) := dk_80 (dk_at dksX4_asks_6 11 rfl rfl)
theorem dX4_asks_152 : decode cX4_asks 152 = .ok (.aload 6, 2) := dk_25 6 (dk_at dksX4_asks_6 12 rfl rfl)
theorem dX4_asks_154 : decode cX4_asks 154 = .ok (.bipush 9, 2) := dk_16 9 (dk_at dksX4_asks_6 14 rfl rfl)
theorem dX4_asks_156 : decode cX4_asks 156 = .ok (.iload_n 3, 1) := dk_29 (dk_at dksX4_asks_6 16 rfl rfl)
theorem dX4_asks_157 : decode cX4_asks 157 = .ok (.bipush 12, 2) := dk_16 12 (dk_at dksX4_asks_6 17 rfl rfl)
theorem dX4_asks_159 : decode cX4_asks 159 = .ok (.idiv, 1) := dk_108 (dk_at dksX4_asks_6 19 rfl rfl)
theorem dX4_asks_160 : decode cX4_asks 160 = .ok (.i2l, 1) := dk_133 (dk_at dksX4_asks_6 20 rfl rfl)
theorem dX4_asks_161 : decode cX4_asks 161 = .ok (.lastore, 1) := dk_80 (dk_at dksX4_asks_6 21 rfl rfl)
theorem dX4_asks_162 : decode cX4_asks 162 = .ok (.aload_n 0, 1) := dk_42 (dk_at dksX4_asks_6 22 rfl rfl)
theorem dX4_asks_163 : decode cX4_asks 163 = .ok (.getfield 3, 3) := dk_180 0 3 (dk_at dksX4_asks_7 0 rfl rfl)
theorem dX4_asks_166 : decode cX4_asks 166 = .ok (.getfield 32, 3) := dk_180 0 32 (dk_at dksX4_asks_7 3 rfl rfl)
theorem dX4_asks_169 : decode cX4_asks 169 = .ok (.getfield 90, 3) := dk_180 0 90 (dk_at dksX4_asks_7 6 rfl rfl)
theorem dX4_asks_172 : decode cX4_asks 172 = .ok (.aload_n 0, 1) := dk_42 (dk_at dksX4_asks_7 9 rfl rfl)
theorem dX4_asks_173 : decode cX4_asks 173 = .ok (.getfield 3, 3) := dk_180 0 3 (dk_at dksX4_asks_7 10 rfl rfl)
theorem dX4_asks_176 : decode cX4_asks 176 = .ok (.getfield 32, 3) := dk_180 0 32 (dk_at dksX4_asks_7 13 rfl rfl)
theorem dX4_asks_179 : decode cX4_asks 179 = .ok (.getfield 65, 3) := dk_180 0 65 (dk_at dksX4_asks_7 16 rfl rfl)
theorem dX4_asks_182 : decode cX4_asks 182 = .ok (.invokevirtual 94, 3) := dk_182 0 94 (dk_at dksX4_asks_7 19 rfl rfl)
theorem dX4_asks_185 : decode cX4_asks 185 = .ok (.checkcast 100, 3) := dk_192 0 100 (dk_at dksX4_asks_8 0 rfl rfl)
theorem dX4_asks_188 : decode cX4_asks 188 = .ok (.iload_n 1, 1) := dk_27 (dk_at dksX4_asks_8 3 rfl rfl)
theorem dX4_asks_189 : decode cX4_asks 189 = .ok (.aload_n 0, 1) := dk_42 (dk_at dksX4_asks_8 4 rfl rfl)
theorem dX4_asks_190 : decode cX4_asks 190 = .ok (.getfield 3, 3) := dk_180 0 3 (dk_at dksX4_asks_8 5 rfl rfl)
theorem dX4_asks_193 : decode cX4_asks 193 = .ok (.getfield 70, 3) := dk_180 0 70 (dk_at dksX4_asks_8 8 rfl rfl)
theorem dX4_asks_196 : decode cX4_asks 196 = .ok (.invokevirtual 102, 3) := dk_182 0 102 (dk_at dksX4_asks_8 11 rfl rfl)
theorem dX4_asks_199 : decode cX4_asks 199 = .ok (.lreturn, 1) := dk_173 (dk_at dksX4_asks_8 14 rfl rfl)
abbrev cX4_lightAt : ByteArray := prog_21_method_4_code
def yX4_lightAt : MethodName := ⟨RX4, "lightAt", "(II)I"⟩
def dkwX4_lightAt_1 : List UInt8 := [180, 0, 3, 180, 0, 32, 180, 0, 54, 28, 46, 184, 0, 57, 100, 184, 0, 60, 172]
abbrev dktX4_lightAt_1 : List UInt8 := dkwX4_lightAt_1 ++ []
def dkwX4_lightAt_0 : List UInt8 := [28, 2, 160, 0, 7, 3, 167, 0, 36, 3, 42, 180, 0, 3, 180, 0, 32, 180, 0, 51, 4, 46, 27, 42]
abbrev dktX4_lightAt_0 : List UInt8 := dkwX4_lightAt_0 ++ dktX4_lightAt_1
theorem dksX4_lightAt_0 : cX4_lightAt.data.toList.drop 0 = dktX4_lightAt_0 := by decide +kernel
theorem dksX4_lightAt_1 : cX4_lightAt.data.toList.drop 24 = dktX4_lightAt_1 := dk_seg dksX4_lightAt_0 24 rfl rfl
theorem dX4_lightAt_0 : decode cX4_lightAt 0 = .ok (.iload_n 2, 1) := dk_28 (dk_at dksX4_lightAt_0 0 rfl rfl)
theorem dX4_lightAt_1 : decode cX4_lightAt 1 = .ok (.iconst (-1), 1) := dk_2 (dk_at dksX4_lightAt_0 1 rfl rfl)
theorem dX4_lightAt_2 : decode cX4_lightAt 2 = .ok (.if_icmp .ne 7, 3) := dk_160 0 7 (dk_at dksX4_lightAt_0 2 rfl rfl)
theorem dX4_lightAt_5 : decode cX4_lightAt 5 = .ok (.iconst 0, 1) := dk_3 (dk_at dksX4_lightAt_0 5 rfl rfl)
theorem dX4_lightAt_6 : decode cX4_lightAt 6 = .ok (.goto 36, 3) := dk_167 0 36 (dk_at dksX4_lightAt_0 6 rfl rfl)
theorem dX4_lightAt_9 : decode cX4_lightAt 9 = .ok (.iconst 0, 1) := dk_3 (dk_at dksX4_lightAt_0 9 rfl rfl)
theorem dX4_lightAt_10 : decode cX4_lightAt 10 = .ok (.aload_n 0, 1) := dk_42 (dk_at dksX4_lightAt_0 10 rfl rfl)
theorem dX4_lightAt_11 : decode cX4_lightAt 11 = .ok (.getfield 3, 3) := dk_180 0 3 (dk_at dksX4_lightAt_0 11 rfl rfl)
theorem dX4_lightAt_14 : decode cX4_lightAt 14 = .ok (.getfield 32, 3) := dk_180 0 32 (dk_at dksX4_lightAt_0 14 rfl rfl)
theorem dX4_lightAt_17 : decode cX4_lightAt 17 = .ok (.getfield 51, 3) := dk_180 0 51 (dk_at dksX4_lightAt_0 17 rfl rfl)
theorem dX4_lightAt_20 : decode cX4_lightAt 20 = .ok (.iconst 1, 1) := dk_4 (dk_at dksX4_lightAt_0 20 rfl rfl)
theorem dX4_lightAt_21 : decode cX4_lightAt 21 = .ok (.iaload, 1) := dk_46 (dk_at dksX4_lightAt_0 21 rfl rfl)
theorem dX4_lightAt_22 : decode cX4_lightAt 22 = .ok (.iload_n 1, 1) := dk_27 (dk_at dksX4_lightAt_0 22 rfl rfl)
theorem dX4_lightAt_23 : decode cX4_lightAt 23 = .ok (.aload_n 0, 1) := dk_42 (dk_at dksX4_lightAt_0 23 rfl rfl)
theorem dX4_lightAt_24 : decode cX4_lightAt 24 = .ok (.getfield 3, 3) := dk_180 0 3 (dk_at dksX4_lightAt_1 0 rfl rfl)
theorem dX4_lightAt_27 : decode cX4_lightAt 27 = .ok (.getfield 32, 3) := dk_180 0 32 (dk_at dksX4_lightAt_1 3 rfl rfl)
theorem dX4_lightAt_30 : decode cX4_lightAt 30 = .ok (.getfield 54, 3) := dk_180 0 54 (dk_at dksX4_lightAt_1 6 rfl rfl)
theorem dX4_lightAt_33 : decode cX4_lightAt 33 = .ok (.iload_n 2, 1) := dk_28 (dk_at dksX4_lightAt_1 9 rfl rfl)
theorem dX4_lightAt_34 : decode cX4_lightAt 34 = .ok (.iaload, 1) := dk_46 (dk_at dksX4_lightAt_1 10 rfl rfl)
theorem dX4_lightAt_35 : decode cX4_lightAt 35 = .ok (.invokestatic 57, 3) := dk_184 0 57 (dk_at dksX4_lightAt_1 11 rfl rfl)
theorem dX4_lightAt_38 : decode cX4_lightAt 38 = .ok (.isub, 1) := dk_100 (dk_at dksX4_lightAt_1 14 rfl rfl)
theorem dX4_lightAt_39 : decode cX4_lightAt 39 = .ok (.invokestatic 60, 3) := dk_184 0 60 (dk_at dksX4_lightAt_1 15 rfl rfl)
theorem dX4_lightAt_42 : decode cX4_lightAt 42 = .ok (.ireturn, 1) := dk_172 (dk_at dksX4_lightAt_1 18 rfl rfl)
abbrev cX4_best : ByteArray := prog_21_method_9_code
def yX4_best : MethodName := ⟨RX4, "best", "(III)I"⟩
def dkwX4_best_10 : List UInt8 := [172]
abbrev dktX4_best_10 : List UInt8 := dkwX4_best_10 ++ []
def dkwX4_best_9 : List UInt8 := [22, 10, 55, 7, 42, 180, 0, 3, 180, 0, 126, 21, 9, 46, 54, 6, 132, 9, 1, 167, 255, 173, 21, 6]
abbrev dktX4_best_9 : List UInt8 := dkwX4_best_9 ++ dktX4_best_10
def dkwX4_best_8 : List UInt8 := [180, 0, 126, 21, 9, 46, 28, 29, 182, 0, 129, 55, 10, 22, 10, 22, 7, 148, 157, 0, 6, 167, 0, 19]
abbrev dktX4_best_8 : List UInt8 := dkwX4_best_8 ++ dktX4_best_9
def dkwX4_best_7 : List UInt8 := [180, 0, 3, 180, 0, 126, 21, 9, 46, 51, 153, 0, 6, 167, 0, 49, 42, 27, 42, 180, 0, 3]
abbrev dktX4_best_7 : List UInt8 := dkwX4_best_7 ++ dktX4_best_8
def dkwX4_best_6 : List UInt8 := [55, 7, 4, 54, 9, 21, 9, 21, 5, 162, 0, 82, 42, 180, 0, 3, 180, 0, 32, 180, 0, 133, 42]
abbrev dktX4_best_6 : List UInt8 := dkwX4_best_6 ++ dktX4_best_7
def dkwX4_best_5 : List UInt8 := [21, 5, 132, 5, 1, 21, 4, 4, 100, 79, 21, 4, 54, 6, 42, 27, 21, 4, 28, 29, 182, 0, 129]
abbrev dktX4_best_5 : List UInt8 := dkwX4_best_5 ++ dktX4_best_6
def dkwX4_best_4 : List UInt8 := [132, 5, 1, 21, 4, 16, 12, 96, 79, 21, 4, 16, 12, 112, 158, 0, 20, 42, 180, 0, 3, 180, 0, 126]
abbrev dktX4_best_4 : List UInt8 := dkwX4_best_4 ++ dktX4_best_5
def dkwX4_best_3 : List UInt8 := [132, 5, 1, 21, 4, 4, 96, 79, 21, 4, 16, 84, 162, 0, 21, 42, 180, 0, 3, 180, 0, 126, 21, 5]
abbrev dktX4_best_3 : List UInt8 := dkwX4_best_3 ++ dktX4_best_4
def dkwX4_best_2 : List UInt8 := [16, 12, 100, 79, 21, 4, 16, 12, 112, 16, 11, 162, 0, 20, 42, 180, 0, 3, 180, 0, 126, 21, 5]
abbrev dktX4_best_2 : List UInt8 := dkwX4_best_2 ++ dktX4_best_3
def dkwX4_best_1 : List UInt8 := [21, 4, 79, 21, 4, 16, 12, 161, 0, 21, 42, 180, 0, 3, 180, 0, 126, 21, 5, 132, 5, 1, 21, 4]
abbrev dktX4_best_1 : List UInt8 := dkwX4_best_1 ++ dktX4_best_2
def dkwX4_best_0 : List UInt8 := [42, 180, 0, 15, 27, 46, 54, 4, 3, 54, 5, 42, 180, 0, 3, 180, 0, 126, 21, 5, 132, 5, 1]
abbrev dktX4_best_0 : List UInt8 := dkwX4_best_0 ++ dktX4_best_1
theorem dksX4_best_0 : cX4_best.data.toList.drop 0 = dktX4_best_0 := by decide +kernel
theorem dksX4_best_1 : cX4_best.data.toList.drop 23 = dktX4_best_1 := dk_seg dksX4_best_0 23 rfl rfl
theorem dksX4_best_2 : cX4_best.data.toList.drop 47 = dktX4_best_2 := dk_seg dksX4_best_1 24 rfl rfl
theorem dksX4_best_3 : cX4_best.data.toList.drop 70 = dktX4_best_3 := dk_seg dksX4_best_2 23 rfl rfl
theorem dksX4_best_4 : cX4_best.data.toList.drop 94 = dktX4_best_4 := dk_seg dksX4_best_3 24 rfl rfl
theorem dksX4_best_5 : cX4_best.data.toList.drop 118 = dktX4_best_5 := dk_seg dksX4_best_4 24 rfl rfl
theorem dksX4_best_6 : cX4_best.data.toList.drop 141 = dktX4_best_6 := dk_seg dksX4_best_5 23 rfl rfl
theorem dksX4_best_7 : cX4_best.data.toList.drop 164 = dktX4_best_7 := dk_seg dksX4_best_6 23 rfl rfl
theorem dksX4_best_8 : cX4_best.data.toList.drop 186 = dktX4_best_8 := dk_seg dksX4_best_7 22 rfl rfl
theorem dksX4_best_9 : cX4_best.data.toList.drop 210 = dktX4_best_9 := dk_seg dksX4_best_8 24 rfl rfl
theorem dksX4_best_10 : cX4_best.data.toList.drop 234 = dktX4_best_10 := dk_seg dksX4_best_9 24 rfl rfl
theorem dX4_best_0 : decode cX4_best 0 = .ok (.aload_n 0, 1) := dk_42 (dk_at dksX4_best_0 0 rfl rfl)
theorem dX4_best_1 : decode cX4_best 1 = .ok (.getfield 15, 3) := dk_180 0 15 (dk_at dksX4_best_0 1 rfl rfl)
theorem dX4_best_4 : decode cX4_best 4 = .ok (.iload_n 1, 1) := dk_27 (dk_at dksX4_best_0 4 rfl rfl)
theorem dX4_best_5 : decode cX4_best 5 = .ok (.iaload, 1) := dk_46 (dk_at dksX4_best_0 5 rfl rfl)
theorem dX4_best_6 : decode cX4_best 6 = .ok (.istore 4, 2) := dk_54 4 (dk_at dksX4_best_0 6 rfl rfl)
theorem dX4_best_8 : decode cX4_best 8 = .ok (.iconst 0, 1) := dk_3 (dk_at dksX4_best_0 8 rfl rfl)
theorem dX4_best_9 : decode cX4_best 9 = .ok (.istore 5, 2) := dk_54 5 (dk_at dksX4_best_0 9 rfl rfl)
theorem dX4_best_11 : decode cX4_best 11 = .ok (.aload_n 0, 1) := dk_42 (dk_at dksX4_best_0 11 rfl rfl)
theorem dX4_best_12 : decode cX4_best 12 = .ok (.getfield 3, 3) := dk_180 0 3 (dk_at dksX4_best_0 12 rfl rfl)
theorem dX4_best_15 : decode cX4_best 15 = .ok (.getfield 126, 3) := dk_180 0 126 (dk_at dksX4_best_0 15 rfl rfl)
theorem dX4_best_18 : decode cX4_best 18 = .ok (.iload 5, 2) := dk_21 5 (dk_at dksX4_best_0 18 rfl rfl)
theorem dX4_best_20 : decode cX4_best 20 = .ok (.iinc 5 1, 3) := dk_132 5 1 (dk_at dksX4_best_0 20 rfl rfl)
theorem dX4_best_23 : decode cX4_best 23 = .ok (.iload 4, 2) := dk_21 4 (dk_at dksX4_best_1 0 rfl rfl)
theorem dX4_best_25 : decode cX4_best 25 = .ok (.iastore, 1) := dk_79 (dk_at dksX4_best_1 2 rfl rfl)
theorem dX4_best_26 : decode cX4_best 26 = .ok (.iload 4, 2) := dk_21 4 (dk_at dksX4_best_1 3 rfl rfl)
theorem dX4_best_28 : decode cX4_best 28 = .ok (.bipush 12, 2) := dk_16 12 (dk_at dksX4_best_1 5 rfl rfl)
theorem dX4_best_30 : decode cX4_best 30 = .ok (.if_icmp .lt 21, 3) := dk_161 0 21 (dk_at dksX4_best_1 7 rfl rfl)
theorem dX4_best_33 : decode cX4_best 33 = .ok (.aload_n 0, 1) := dk_42 (dk_at dksX4_best_1 10 rfl rfl)
theorem dX4_best_34 : decode cX4_best 34 = .ok (.getfield 3, 3) := dk_180 0 3 (dk_at dksX4_best_1 11 rfl rfl)
theorem dX4_best_37 : decode cX4_best 37 = .ok (.getfield 126, 3) := dk_180 0 126 (dk_at dksX4_best_1 14 rfl rfl)
theorem dX4_best_40 : decode cX4_best 40 = .ok (.iload 5, 2) := dk_21 5 (dk_at dksX4_best_1 17 rfl rfl)
theorem dX4_best_42 : decode cX4_best 42 = .ok (.iinc 5 1, 3) := dk_132 5 1 (dk_at dksX4_best_1 19 rfl rfl)
theorem dX4_best_45 : decode cX4_best 45 = .ok (.iload 4, 2) := dk_21 4 (dk_at dksX4_best_1 22 rfl rfl)
theorem dX4_best_47 : decode cX4_best 47 = .ok (.bipush 12, 2) := dk_16 12 (dk_at dksX4_best_2 0 rfl rfl)
theorem dX4_best_49 : decode cX4_best 49 = .ok (.isub, 1) := dk_100 (dk_at dksX4_best_2 2 rfl rfl)
theorem dX4_best_50 : decode cX4_best 50 = .ok (.iastore, 1) := dk_79 (dk_at dksX4_best_2 3 rfl rfl)
theorem dX4_best_51 : decode cX4_best 51 = .ok (.iload 4, 2) := dk_21 4 (dk_at dksX4_best_2 4 rfl rfl)
theorem dX4_best_53 : decode cX4_best 53 = .ok (.bipush 12, 2) := dk_16 12 (dk_at dksX4_best_2 6 rfl rfl)
theorem dX4_best_55 : decode cX4_best 55 = .ok (.irem, 1) := dk_112 (dk_at dksX4_best_2 8 rfl rfl)
theorem dX4_best_56 : decode cX4_best 56 = .ok (.bipush 11, 2) := dk_16 11 (dk_at dksX4_best_2 9 rfl rfl)
theorem dX4_best_58 : decode cX4_best 58 = .ok (.if_icmp .ge 20, 3) := dk_162 0 20 (dk_at dksX4_best_2 11 rfl rfl)
theorem dX4_best_61 : decode cX4_best 61 = .ok (.aload_n 0, 1) := dk_42 (dk_at dksX4_best_2 14 rfl rfl)
theorem dX4_best_62 : decode cX4_best 62 = .ok (.getfield 3, 3) := dk_180 0 3 (dk_at dksX4_best_2 15 rfl rfl)
theorem dX4_best_65 : decode cX4_best 65 = .ok (.getfield 126, 3) := dk_180 0 126 (dk_at dksX4_best_2 18 rfl rfl)
theorem dX4_best_68 : decode cX4_best 68 = .ok (.iload 5, 2) := dk_21 5 (dk_at dksX4_best_2 21 rfl rfl)
theorem dX4_best_70 : decode cX4_best 70 = .ok (.iinc 5 1, 3) := dk_132 5 1 (dk_at dksX4_best_3 0 rfl rfl)
theorem dX4_best_73 : decode cX4_best 73 = .ok (.iload 4, 2) := dk_21 4 (dk_at dksX4_best_3 3 rfl rfl)
theorem dX4_best_75 : decode cX4_best 75 = .ok (.iconst 1, 1) := dk_4 (dk_at dksX4_best_3 5 rfl rfl)
theorem dX4_best_76 : decode cX4_best 76 = .ok (.iadd, 1) := dk_96 (dk_at dksX4_best_3 6 rfl rfl)
theorem dX4_best_77 : decode cX4_best 77 = .ok (.iastore, 1) := dk_79 (dk_at dksX4_best_3 7 rfl rfl)
theorem dX4_best_78 : decode cX4_best 78 = .ok (.iload 4, 2) := dk_21 4 (dk_at dksX4_best_3 8 rfl rfl)
theorem dX4_best_80 : decode cX4_best 80 = .ok (.bipush 84, 2) := dk_16 84 (dk_at dksX4_best_3 10 rfl rfl)
theorem dX4_best_82 : decode cX4_best 82 = .ok (.if_icmp .ge 21, 3) := dk_162 0 21 (dk_at dksX4_best_3 12 rfl rfl)
theorem dX4_best_85 : decode cX4_best 85 = .ok (.aload_n 0, 1) := dk_42 (dk_at dksX4_best_3 15 rfl rfl)
theorem dX4_best_86 : decode cX4_best 86 = .ok (.getfield 3, 3) := dk_180 0 3 (dk_at dksX4_best_3 16 rfl rfl)
theorem dX4_best_89 : decode cX4_best 89 = .ok (.getfield 126, 3) := dk_180 0 126 (dk_at dksX4_best_3 19 rfl rfl)
theorem dX4_best_92 : decode cX4_best 92 = .ok (.iload 5, 2) := dk_21 5 (dk_at dksX4_best_3 22 rfl rfl)
theorem dX4_best_94 : decode cX4_best 94 = .ok (.iinc 5 1, 3) := dk_132 5 1 (dk_at dksX4_best_4 0 rfl rfl)
theorem dX4_best_97 : decode cX4_best 97 = .ok (.iload 4, 2) := dk_21 4 (dk_at dksX4_best_4 3 rfl rfl)
theorem dX4_best_99 : decode cX4_best 99 = .ok (.bipush 12, 2) := dk_16 12 (dk_at dksX4_best_4 5 rfl rfl)
theorem dX4_best_101 : decode cX4_best 101 = .ok (.iadd, 1) := dk_96 (dk_at dksX4_best_4 7 rfl rfl)
theorem dX4_best_102 : decode cX4_best 102 = .ok (.iastore, 1) := dk_79 (dk_at dksX4_best_4 8 rfl rfl)
theorem dX4_best_103 : decode cX4_best 103 = .ok (.iload 4, 2) := dk_21 4 (dk_at dksX4_best_4 9 rfl rfl)
theorem dX4_best_105 : decode cX4_best 105 = .ok (.bipush 12, 2) := dk_16 12 (dk_at dksX4_best_4 11 rfl rfl)
theorem dX4_best_107 : decode cX4_best 107 = .ok (.irem, 1) := dk_112 (dk_at dksX4_best_4 13 rfl rfl)
theorem dX4_best_108 : decode cX4_best 108 = .ok (.ifCond .le 20, 3) := dk_158 0 20 (dk_at dksX4_best_4 14 rfl rfl)
theorem dX4_best_111 : decode cX4_best 111 = .ok (.aload_n 0, 1) := dk_42 (dk_at dksX4_best_4 17 rfl rfl)
theorem dX4_best_112 : decode cX4_best 112 = .ok (.getfield 3, 3) := dk_180 0 3 (dk_at dksX4_best_4 18 rfl rfl)
theorem dX4_best_115 : decode cX4_best 115 = .ok (.getfield 126, 3) := dk_180 0 126 (dk_at dksX4_best_4 21 rfl rfl)
theorem dX4_best_118 : decode cX4_best 118 = .ok (.iload 5, 2) := dk_21 5 (dk_at dksX4_best_5 0 rfl rfl)
theorem dX4_best_120 : decode cX4_best 120 = .ok (.iinc 5 1, 3) := dk_132 5 1 (dk_at dksX4_best_5 2 rfl rfl)
theorem dX4_best_123 : decode cX4_best 123 = .ok (.iload 4, 2) := dk_21 4 (dk_at dksX4_best_5 5 rfl rfl)
theorem dX4_best_125 : decode cX4_best 125 = .ok (.iconst 1, 1) := dk_4 (dk_at dksX4_best_5 7 rfl rfl)
theorem dX4_best_126 : decode cX4_best 126 = .ok (.isub, 1) := dk_100 (dk_at dksX4_best_5 8 rfl rfl)
theorem dX4_best_127 : decode cX4_best 127 = .ok (.iastore, 1) := dk_79 (dk_at dksX4_best_5 9 rfl rfl)
theorem dX4_best_128 : decode cX4_best 128 = .ok (.iload 4, 2) := dk_21 4 (dk_at dksX4_best_5 10 rfl rfl)
theorem dX4_best_130 : decode cX4_best 130 = .ok (.istore 6, 2) := dk_54 6 (dk_at dksX4_best_5 12 rfl rfl)
theorem dX4_best_132 : decode cX4_best 132 = .ok (.aload_n 0, 1) := dk_42 (dk_at dksX4_best_5 14 rfl rfl)
theorem dX4_best_133 : decode cX4_best 133 = .ok (.iload_n 1, 1) := dk_27 (dk_at dksX4_best_5 15 rfl rfl)
theorem dX4_best_134 : decode cX4_best 134 = .ok (.iload 4, 2) := dk_21 4 (dk_at dksX4_best_5 16 rfl rfl)
theorem dX4_best_136 : decode cX4_best 136 = .ok (.iload_n 2, 1) := dk_28 (dk_at dksX4_best_5 18 rfl rfl)
theorem dX4_best_137 : decode cX4_best 137 = .ok (.iload_n 3, 1) := dk_29 (dk_at dksX4_best_5 19 rfl rfl)
theorem dX4_best_138 : decode cX4_best 138 = .ok (.invokevirtual 129, 3) := dk_182 0 129 (dk_at dksX4_best_5 20 rfl rfl)
theorem dX4_best_141 : decode cX4_best 141 = .ok (.lstore 7, 2) := dk_55 7 (dk_at dksX4_best_6 0 rfl rfl)
theorem dX4_best_143 : decode cX4_best 143 = .ok (.iconst 1, 1) := dk_4 (dk_at dksX4_best_6 2 rfl rfl)
theorem dX4_best_144 : decode cX4_best 144 = .ok (.istore 9, 2) := dk_54 9 (dk_at dksX4_best_6 3 rfl rfl)
theorem dX4_best_146 : decode cX4_best 146 = .ok (.iload 9, 2) := dk_21 9 (dk_at dksX4_best_6 5 rfl rfl)
theorem dX4_best_148 : decode cX4_best 148 = .ok (.iload 5, 2) := dk_21 5 (dk_at dksX4_best_6 7 rfl rfl)
theorem dX4_best_150 : decode cX4_best 150 = .ok (.if_icmp .ge 82, 3) := dk_162 0 82 (dk_at dksX4_best_6 9 rfl rfl)
theorem dX4_best_153 : decode cX4_best 153 = .ok (.aload_n 0, 1) := dk_42 (dk_at dksX4_best_6 12 rfl rfl)
theorem dX4_best_154 : decode cX4_best 154 = .ok (.getfield 3, 3) := dk_180 0 3 (dk_at dksX4_best_6 13 rfl rfl)
theorem dX4_best_157 : decode cX4_best 157 = .ok (.getfield 32, 3) := dk_180 0 32 (dk_at dksX4_best_6 16 rfl rfl)
theorem dX4_best_160 : decode cX4_best 160 = .ok (.getfield 133, 3) := dk_180 0 133 (dk_at dksX4_best_6 19 rfl rfl)
theorem dX4_best_163 : decode cX4_best 163 = .ok (.aload_n 0, 1) := dk_42 (dk_at dksX4_best_6 22 rfl rfl)
theorem dX4_best_164 : decode cX4_best 164 = .ok (.getfield 3, 3) := dk_180 0 3 (dk_at dksX4_best_7 0 rfl rfl)
theorem dX4_best_167 : decode cX4_best 167 = .ok (.getfield 126, 3) := dk_180 0 126 (dk_at dksX4_best_7 3 rfl rfl)
theorem dX4_best_170 : decode cX4_best 170 = .ok (.iload 9, 2) := dk_21 9 (dk_at dksX4_best_7 6 rfl rfl)
theorem dX4_best_172 : decode cX4_best 172 = .ok (.iaload, 1) := dk_46 (dk_at dksX4_best_7 8 rfl rfl)
theorem dX4_best_173 : decode cX4_best 173 = .ok (.baload, 1) := dk_51 (dk_at dksX4_best_7 9 rfl rfl)
theorem dX4_best_174 : decode cX4_best 174 = .ok (.ifCond .eq 6, 3) := dk_153 0 6 (dk_at dksX4_best_7 10 rfl rfl)
theorem dX4_best_177 : decode cX4_best 177 = .ok (.goto 49, 3) := dk_167 0 49 (dk_at dksX4_best_7 13 rfl rfl)
theorem dX4_best_180 : decode cX4_best 180 = .ok (.aload_n 0, 1) := dk_42 (dk_at dksX4_best_7 16 rfl rfl)
theorem dX4_best_181 : decode cX4_best 181 = .ok (.iload_n 1, 1) := dk_27 (dk_at dksX4_best_7 17 rfl rfl)
theorem dX4_best_182 : decode cX4_best 182 = .ok (.aload_n 0, 1) := dk_42 (dk_at dksX4_best_7 18 rfl rfl)
theorem dX4_best_183 : decode cX4_best 183 = .ok (.getfield 3, 3) := dk_180 0 3 (dk_at dksX4_best_7 19 rfl rfl)
theorem dX4_best_186 : decode cX4_best 186 = .ok (.getfield 126, 3) := dk_180 0 126 (dk_at dksX4_best_8 0 rfl rfl)
theorem dX4_best_189 : decode cX4_best 189 = .ok (.iload 9, 2) := dk_21 9 (dk_at dksX4_best_8 3 rfl rfl)
theorem dX4_best_191 : decode cX4_best 191 = .ok (.iaload, 1) := dk_46 (dk_at dksX4_best_8 5 rfl rfl)
theorem dX4_best_192 : decode cX4_best 192 = .ok (.iload_n 2, 1) := dk_28 (dk_at dksX4_best_8 6 rfl rfl)
theorem dX4_best_193 : decode cX4_best 193 = .ok (.iload_n 3, 1) := dk_29 (dk_at dksX4_best_8 7 rfl rfl)
theorem dX4_best_194 : decode cX4_best 194 = .ok (.invokevirtual 129, 3) := dk_182 0 129 (dk_at dksX4_best_8 8 rfl rfl)
theorem dX4_best_197 : decode cX4_best 197 = .ok (.lstore 10, 2) := dk_55 10 (dk_at dksX4_best_8 11 rfl rfl)
theorem dX4_best_199 : decode cX4_best 199 = .ok (.lload 10, 2) := dk_22 10 (dk_at dksX4_best_8 13 rfl rfl)
theorem dX4_best_201 : decode cX4_best 201 = .ok (.lload 7, 2) := dk_22 7 (dk_at dksX4_best_8 15 rfl rfl)
theorem dX4_best_203 : decode cX4_best 203 = .ok (.lcmp, 1) := dk_148 (dk_at dksX4_best_8 17 rfl rfl)
theorem dX4_best_204 : decode cX4_best 204 = .ok (.ifCond .gt 6, 3) := dk_157 0 6 (dk_at dksX4_best_8 18 rfl rfl)
theorem dX4_best_207 : decode cX4_best 207 = .ok (.goto 19, 3) := dk_167 0 19 (dk_at dksX4_best_8 21 rfl rfl)
theorem dX4_best_210 : decode cX4_best 210 = .ok (.lload 10, 2) := dk_22 10 (dk_at dksX4_best_9 0 rfl rfl)
theorem dX4_best_212 : decode cX4_best 212 = .ok (.lstore 7, 2) := dk_55 7 (dk_at dksX4_best_9 2 rfl rfl)
theorem dX4_best_214 : decode cX4_best 214 = .ok (.aload_n 0, 1) := dk_42 (dk_at dksX4_best_9 4 rfl rfl)
theorem dX4_best_215 : decode cX4_best 215 = .ok (.getfield 3, 3) := dk_180 0 3 (dk_at dksX4_best_9 5 rfl rfl)
theorem dX4_best_218 : decode cX4_best 218 = .ok (.getfield 126, 3) := dk_180 0 126 (dk_at dksX4_best_9 8 rfl rfl)
theorem dX4_best_221 : decode cX4_best 221 = .ok (.iload 9, 2) := dk_21 9 (dk_at dksX4_best_9 11 rfl rfl)
theorem dX4_best_223 : decode cX4_best 223 = .ok (.iaload, 1) := dk_46 (dk_at dksX4_best_9 13 rfl rfl)
theorem dX4_best_224 : decode cX4_best 224 = .ok (.istore 6, 2) := dk_54 6 (dk_at dksX4_best_9 14 rfl rfl)
theorem dX4_best_226 : decode cX4_best 226 = .ok (.iinc 9 1, 3) := dk_132 9 1 (dk_at dksX4_best_9 16 rfl rfl)
theorem dX4_best_229 : decode cX4_best 229 = .ok (.goto (-83), 3) := dk_167 255 173 (dk_at dksX4_best_9 19 rfl rfl)
theorem dX4_best_232 : decode cX4_best 232 = .ok (.iload 6, 2) := dk_21 6 (dk_at dksX4_best_9 22 rfl rfl)
theorem dX4_best_234 : decode cX4_best 234 = .ok (.ireturn, 1) := dk_172 (dk_at dksX4_best_10 0 rfl rfl)
abbrev cX4_lure : ByteArray := prog_21_method_6_code
def yX4_lure : MethodName := ⟨RX4, "lure", "(IIII)J"⟩
def dkwX4_lure_2 : List UInt8 := [22, 5, 173]
abbrev dktX4_lure_2 : List UInt8 := dkwX4_lure_2 ++ []
def dkwX4_lure_1 : List UInt8 := [180, 0, 3, 180, 0, 32, 180, 0, 80, 28, 46, 42, 28, 21, 4, 182, 0, 83, 96, 133, 167, 0, 5]
abbrev dktX4_lure_1 : List UInt8 := dkwX4_lure_1 ++ dktX4_lure_2
def dkwX4_lure_0 : List UInt8 := [42, 3, 27, 28, 29, 21, 4, 182, 0, 106, 55, 5, 22, 5, 20, 0, 68, 148, 154, 0, 27, 42]
abbrev dktX4_lure_0 : List UInt8 := dkwX4_lure_0 ++ dktX4_lure_1
theorem dksX4_lure_0 : cX4_lure.data.toList.drop 0 = dktX4_lure_0 := by decide +kernel
theorem dksX4_lure_1 : cX4_lure.data.toList.drop 22 = dktX4_lure_1 := dk_seg dksX4_lure_0 22 rfl rfl
theorem dksX4_lure_2 : cX4_lure.data.toList.drop 45 = dktX4_lure_2 := dk_seg dksX4_lure_1 23 rfl rfl
theorem dX4_lure_0 : decode cX4_lure 0 = .ok (.aload_n 0, 1) := dk_42 (dk_at dksX4_lure_0 0 rfl rfl)
theorem dX4_lure_1 : decode cX4_lure 1 = .ok (.iconst 0, 1) := dk_3 (dk_at dksX4_lure_0 1 rfl rfl)
theorem dX4_lure_2 : decode cX4_lure 2 = .ok (.iload_n 1, 1) := dk_27 (dk_at dksX4_lure_0 2 rfl rfl)
theorem dX4_lure_3 : decode cX4_lure 3 = .ok (.iload_n 2, 1) := dk_28 (dk_at dksX4_lure_0 3 rfl rfl)
theorem dX4_lure_4 : decode cX4_lure 4 = .ok (.iload_n 3, 1) := dk_29 (dk_at dksX4_lure_0 4 rfl rfl)
theorem dX4_lure_5 : decode cX4_lure 5 = .ok (.iload 4, 2) := dk_21 4 (dk_at dksX4_lure_0 5 rfl rfl)
theorem dX4_lure_7 : decode cX4_lure 7 = .ok (.invokevirtual 106, 3) := dk_182 0 106 (dk_at dksX4_lure_0 7 rfl rfl)
theorem dX4_lure_10 : decode cX4_lure 10 = .ok (.lstore 5, 2) := dk_55 5 (dk_at dksX4_lure_0 10 rfl rfl)
theorem dX4_lure_12 : decode cX4_lure 12 = .ok (.lload 5, 2) := dk_22 5 (dk_at dksX4_lure_0 12 rfl rfl)
theorem dX4_lure_14 : decode cX4_lure 14 = .ok (.ldc2_w 68, 3) := dk_20 0 68 (dk_at dksX4_lure_0 14 rfl rfl)
theorem dX4_lure_17 : decode cX4_lure 17 = .ok (.lcmp, 1) := dk_148 (dk_at dksX4_lure_0 17 rfl rfl)
theorem dX4_lure_18 : decode cX4_lure 18 = .ok (.ifCond .ne 27, 3) := dk_154 0 27 (dk_at dksX4_lure_0 18 rfl rfl)
theorem dX4_lure_21 : decode cX4_lure 21 = .ok (.aload_n 0, 1) := dk_42 (dk_at dksX4_lure_0 21 rfl rfl)
theorem dX4_lure_22 : decode cX4_lure 22 = .ok (.getfield 3, 3) := dk_180 0 3 (dk_at dksX4_lure_1 0 rfl rfl)
theorem dX4_lure_25 : decode cX4_lure 25 = .ok (.getfield 32, 3) := dk_180 0 32 (dk_at dksX4_lure_1 3 rfl rfl)
theorem dX4_lure_28 : decode cX4_lure 28 = .ok (.getfield 80, 3) := dk_180 0 80 (dk_at dksX4_lure_1 6 rfl rfl)
theorem dX4_lure_31 : decode cX4_lure 31 = .ok (.iload_n 2, 1) := dk_28 (dk_at dksX4_lure_1 9 rfl rfl)
theorem dX4_lure_32 : decode cX4_lure 32 = .ok (.iaload, 1) := dk_46 (dk_at dksX4_lure_1 10 rfl rfl)
theorem dX4_lure_33 : decode cX4_lure 33 = .ok (.aload_n 0, 1) := dk_42 (dk_at dksX4_lure_1 11 rfl rfl)
theorem dX4_lure_34 : decode cX4_lure 34 = .ok (.iload_n 2, 1) := dk_28 (dk_at dksX4_lure_1 12 rfl rfl)
theorem dX4_lure_35 : decode cX4_lure 35 = .ok (.iload 4, 2) := dk_21 4 (dk_at dksX4_lure_1 13 rfl rfl)
theorem dX4_lure_37 : decode cX4_lure 37 = .ok (.invokevirtual 83, 3) := dk_182 0 83 (dk_at dksX4_lure_1 15 rfl rfl)
theorem dX4_lure_40 : decode cX4_lure 40 = .ok (.iadd, 1) := dk_96 (dk_at dksX4_lure_1 18 rfl rfl)
theorem dX4_lure_41 : decode cX4_lure 41 = .ok (.i2l, 1) := dk_133 (dk_at dksX4_lure_1 19 rfl rfl)
theorem dX4_lure_42 : decode cX4_lure 42 = .ok (.goto 5, 3) := dk_167 0 5 (dk_at dksX4_lure_1 20 rfl rfl)
theorem dX4_lure_45 : decode cX4_lure 45 = .ok (.lload 5, 2) := dk_22 5 (dk_at dksX4_lure_2 0 rfl rfl)
theorem dX4_lure_47 : decode cX4_lure 47 = .ok (.lreturn, 1) := dk_173 (dk_at dksX4_lure_2 2 rfl rfl)
abbrev cX4_takes : ByteArray := prog_21_method_3_code
def yX4_takes : MethodName := ⟨RX4, "takes", "(LSnailPost$Walk;)V"⟩
def dkwX4_takes_2 : List UInt8 := [180, 0, 25, 3, 42, 180, 0, 25, 3, 16, 96, 184, 0, 45, 42, 43, 180, 0, 28, 181, 0, 28, 177]
abbrev dktX4_takes_2 : List UInt8 := dkwX4_takes_2 ++ []
def dkwX4_takes_1 : List UInt8 := [3, 16, 6, 184, 0, 45, 43, 180, 0, 22, 3, 42, 180, 0, 22, 3, 16, 6, 184, 0, 45, 43]
abbrev dktX4_takes_1 : List UInt8 := dkwX4_takes_1 ++ dktX4_takes_2
def dkwX4_takes_0 : List UInt8 := [43, 180, 0, 15, 3, 42, 180, 0, 15, 3, 16, 6, 184, 0, 45, 43, 180, 0, 19, 3, 42, 180, 0, 19]
abbrev dktX4_takes_0 : List UInt8 := dkwX4_takes_0 ++ dktX4_takes_1
theorem dksX4_takes_0 : cX4_takes.data.toList.drop 0 = dktX4_takes_0 := by decide +kernel
theorem dksX4_takes_1 : cX4_takes.data.toList.drop 24 = dktX4_takes_1 := dk_seg dksX4_takes_0 24 rfl rfl
theorem dksX4_takes_2 : cX4_takes.data.toList.drop 46 = dktX4_takes_2 := dk_seg dksX4_takes_1 22 rfl rfl
theorem dX4_takes_0 : decode cX4_takes 0 = .ok (.aload_n 1, 1) := dk_43 (dk_at dksX4_takes_0 0 rfl rfl)
theorem dX4_takes_1 : decode cX4_takes 1 = .ok (.getfield 15, 3) := dk_180 0 15 (dk_at dksX4_takes_0 1 rfl rfl)
theorem dX4_takes_4 : decode cX4_takes 4 = .ok (.iconst 0, 1) := dk_3 (dk_at dksX4_takes_0 4 rfl rfl)
theorem dX4_takes_5 : decode cX4_takes 5 = .ok (.aload_n 0, 1) := dk_42 (dk_at dksX4_takes_0 5 rfl rfl)
theorem dX4_takes_6 : decode cX4_takes 6 = .ok (.getfield 15, 3) := dk_180 0 15 (dk_at dksX4_takes_0 6 rfl rfl)
theorem dX4_takes_9 : decode cX4_takes 9 = .ok (.iconst 0, 1) := dk_3 (dk_at dksX4_takes_0 9 rfl rfl)
theorem dX4_takes_10 : decode cX4_takes 10 = .ok (.bipush 6, 2) := dk_16 6 (dk_at dksX4_takes_0 10 rfl rfl)
theorem dX4_takes_12 : decode cX4_takes 12 = .ok (.invokestatic 45, 3) := dk_184 0 45 (dk_at dksX4_takes_0 12 rfl rfl)
theorem dX4_takes_15 : decode cX4_takes 15 = .ok (.aload_n 1, 1) := dk_43 (dk_at dksX4_takes_0 15 rfl rfl)
theorem dX4_takes_16 : decode cX4_takes 16 = .ok (.getfield 19, 3) := dk_180 0 19 (dk_at dksX4_takes_0 16 rfl rfl)
theorem dX4_takes_19 : decode cX4_takes 19 = .ok (.iconst 0, 1) := dk_3 (dk_at dksX4_takes_0 19 rfl rfl)
theorem dX4_takes_20 : decode cX4_takes 20 = .ok (.aload_n 0, 1) := dk_42 (dk_at dksX4_takes_0 20 rfl rfl)
theorem dX4_takes_21 : decode cX4_takes 21 = .ok (.getfield 19, 3) := dk_180 0 19 (dk_at dksX4_takes_0 21 rfl rfl)
theorem dX4_takes_24 : decode cX4_takes 24 = .ok (.iconst 0, 1) := dk_3 (dk_at dksX4_takes_1 0 rfl rfl)
theorem dX4_takes_25 : decode cX4_takes 25 = .ok (.bipush 6, 2) := dk_16 6 (dk_at dksX4_takes_1 1 rfl rfl)
theorem dX4_takes_27 : decode cX4_takes 27 = .ok (.invokestatic 45, 3) := dk_184 0 45 (dk_at dksX4_takes_1 3 rfl rfl)
theorem dX4_takes_30 : decode cX4_takes 30 = .ok (.aload_n 1, 1) := dk_43 (dk_at dksX4_takes_1 6 rfl rfl)
theorem dX4_takes_31 : decode cX4_takes 31 = .ok (.getfield 22, 3) := dk_180 0 22 (dk_at dksX4_takes_1 7 rfl rfl)
theorem dX4_takes_34 : decode cX4_takes 34 = .ok (.iconst 0, 1) := dk_3 (dk_at dksX4_takes_1 10 rfl rfl)
theorem dX4_takes_35 : decode cX4_takes 35 = .ok (.aload_n 0, 1) := dk_42 (dk_at dksX4_takes_1 11 rfl rfl)
theorem dX4_takes_36 : decode cX4_takes 36 = .ok (.getfield 22, 3) := dk_180 0 22 (dk_at dksX4_takes_1 12 rfl rfl)
theorem dX4_takes_39 : decode cX4_takes 39 = .ok (.iconst 0, 1) := dk_3 (dk_at dksX4_takes_1 15 rfl rfl)
theorem dX4_takes_40 : decode cX4_takes 40 = .ok (.bipush 6, 2) := dk_16 6 (dk_at dksX4_takes_1 16 rfl rfl)
theorem dX4_takes_42 : decode cX4_takes 42 = .ok (.invokestatic 45, 3) := dk_184 0 45 (dk_at dksX4_takes_1 18 rfl rfl)
theorem dX4_takes_45 : decode cX4_takes 45 = .ok (.aload_n 1, 1) := dk_43 (dk_at dksX4_takes_1 21 rfl rfl)
theorem dX4_takes_46 : decode cX4_takes 46 = .ok (.getfield 25, 3) := dk_180 0 25 (dk_at dksX4_takes_2 0 rfl rfl)
theorem dX4_takes_49 : decode cX4_takes 49 = .ok (.iconst 0, 1) := dk_3 (dk_at dksX4_takes_2 3 rfl rfl)
theorem dX4_takes_50 : decode cX4_takes 50 = .ok (.aload_n 0, 1) := dk_42 (dk_at dksX4_takes_2 4 rfl rfl)
theorem dX4_takes_51 : decode cX4_takes 51 = .ok (.getfield 25, 3) := dk_180 0 25 (dk_at dksX4_takes_2 5 rfl rfl)
theorem dX4_takes_54 : decode cX4_takes 54 = .ok (.iconst 0, 1) := dk_3 (dk_at dksX4_takes_2 8 rfl rfl)
theorem dX4_takes_55 : decode cX4_takes 55 = .ok (.bipush 96, 2) := dk_16 96 (dk_at dksX4_takes_2 9 rfl rfl)
theorem dX4_takes_57 : decode cX4_takes 57 = .ok (.invokestatic 45, 3) := dk_184 0 45 (dk_at dksX4_takes_2 11 rfl rfl)
theorem dX4_takes_60 : decode cX4_takes 60 = .ok (.aload_n 0, 1) := dk_42 (dk_at dksX4_takes_2 14 rfl rfl)
theorem dX4_takes_61 : decode cX4_takes 61 = .ok (.aload_n 1, 1) := dk_43 (dk_at dksX4_takes_2 15 rfl rfl)
theorem dX4_takes_62 : decode cX4_takes 62 = .ok (.getfield 28, 3) := dk_180 0 28 (dk_at dksX4_takes_2 16 rfl rfl)
theorem dX4_takes_65 : decode cX4_takes 65 = .ok (.putfield 28, 3) := dk_181 0 28 (dk_at dksX4_takes_2 19 rfl rfl)
theorem dX4_takes_68 : decode cX4_takes 68 = .ok (.return_, 1) := dk_177 (dk_at dksX4_takes_2 22 rfl rfl)
abbrev cX4_hour : ByteArray := prog_21_method_10_code
def yX4_hour : MethodName := ⟨RX4, "hour", "(II)V"⟩
def dkwX4_hour_1 : List UInt8 := [132, 3, 1, 167, 255, 236, 177]
abbrev dktX4_hour_1 : List UInt8 := dkwX4_hour_1 ++ []
def dkwX4_hour_0 : List UInt8 := [16, 12, 27, 104, 62, 29, 16, 12, 27, 104, 16, 12, 96, 162, 0, 15, 42, 29, 28, 182, 0, 137]
abbrev dktX4_hour_0 : List UInt8 := dkwX4_hour_0 ++ dktX4_hour_1
theorem dksX4_hour_0 : cX4_hour.data.toList.drop 0 = dktX4_hour_0 := by decide +kernel
theorem dksX4_hour_1 : cX4_hour.data.toList.drop 22 = dktX4_hour_1 := dk_seg dksX4_hour_0 22 rfl rfl
theorem dX4_hour_0 : decode cX4_hour 0 = .ok (.bipush 12, 2) := dk_16 12 (dk_at dksX4_hour_0 0 rfl rfl)
theorem dX4_hour_2 : decode cX4_hour 2 = .ok (.iload_n 1, 1) := dk_27 (dk_at dksX4_hour_0 2 rfl rfl)
theorem dX4_hour_3 : decode cX4_hour 3 = .ok (.imul, 1) := dk_104 (dk_at dksX4_hour_0 3 rfl rfl)
theorem dX4_hour_4 : decode cX4_hour 4 = .ok (.istore_n 3, 1) := dk_62 (dk_at dksX4_hour_0 4 rfl rfl)
theorem dX4_hour_5 : decode cX4_hour 5 = .ok (.iload_n 3, 1) := dk_29 (dk_at dksX4_hour_0 5 rfl rfl)
theorem dX4_hour_6 : decode cX4_hour 6 = .ok (.bipush 12, 2) := dk_16 12 (dk_at dksX4_hour_0 6 rfl rfl)
theorem dX4_hour_8 : decode cX4_hour 8 = .ok (.iload_n 1, 1) := dk_27 (dk_at dksX4_hour_0 8 rfl rfl)
theorem dX4_hour_9 : decode cX4_hour 9 = .ok (.imul, 1) := dk_104 (dk_at dksX4_hour_0 9 rfl rfl)
theorem dX4_hour_10 : decode cX4_hour 10 = .ok (.bipush 12, 2) := dk_16 12 (dk_at dksX4_hour_0 10 rfl rfl)
theorem dX4_hour_12 : decode cX4_hour 12 = .ok (.iadd, 1) := dk_96 (dk_at dksX4_hour_0 12 rfl rfl)
theorem dX4_hour_13 : decode cX4_hour 13 = .ok (.if_icmp .ge 15, 3) := dk_162 0 15 (dk_at dksX4_hour_0 13 rfl rfl)
theorem dX4_hour_16 : decode cX4_hour 16 = .ok (.aload_n 0, 1) := dk_42 (dk_at dksX4_hour_0 16 rfl rfl)
theorem dX4_hour_17 : decode cX4_hour 17 = .ok (.iload_n 3, 1) := dk_29 (dk_at dksX4_hour_0 17 rfl rfl)
theorem dX4_hour_18 : decode cX4_hour 18 = .ok (.iload_n 2, 1) := dk_28 (dk_at dksX4_hour_0 18 rfl rfl)
theorem dX4_hour_19 : decode cX4_hour 19 = .ok (.invokevirtual 137, 3) := dk_182 0 137 (dk_at dksX4_hour_0 19 rfl rfl)
theorem dX4_hour_22 : decode cX4_hour 22 = .ok (.iinc 3 1, 3) := dk_132 3 1 (dk_at dksX4_hour_1 0 rfl rfl)
theorem dX4_hour_25 : decode cX4_hour 25 = .ok (.goto (-20), 3) := dk_167 255 236 (dk_at dksX4_hour_1 3 rfl rfl)
theorem dX4_hour_28 : decode cX4_hour 28 = .ok (.return_, 1) := dk_177 (dk_at dksX4_hour_1 6 rfl rfl)
abbrev cX4_eats : ByteArray := prog_21_method_7_code
def yX4_eats : MethodName := ⟨RX4, "eats", "(III)I"⟩
def dkwX4_eats_1 : List UInt8 := [154, 0, 7, 3, 167, 0, 16, 9, 20, 0, 110, 22, 4, 184, 0, 112, 184, 0, 116, 136, 172]
abbrev dktX4_eats_1 : List UInt8 := dkwX4_eats_1 ++ []
def dkwX4_eats_0 : List UInt8 := [42, 4, 27, 42, 180, 0, 15, 27, 46, 28, 29, 182, 0, 106, 55, 4, 22, 4, 20, 0, 68, 148]
abbrev dktX4_eats_0 : List UInt8 := dkwX4_eats_0 ++ dktX4_eats_1
theorem dksX4_eats_0 : cX4_eats.data.toList.drop 0 = dktX4_eats_0 := by decide +kernel
theorem dksX4_eats_1 : cX4_eats.data.toList.drop 22 = dktX4_eats_1 := dk_seg dksX4_eats_0 22 rfl rfl
theorem dX4_eats_0 : decode cX4_eats 0 = .ok (.aload_n 0, 1) := dk_42 (dk_at dksX4_eats_0 0 rfl rfl)
theorem dX4_eats_1 : decode cX4_eats 1 = .ok (.iconst 1, 1) := dk_4 (dk_at dksX4_eats_0 1 rfl rfl)
theorem dX4_eats_2 : decode cX4_eats 2 = .ok (.iload_n 1, 1) := dk_27 (dk_at dksX4_eats_0 2 rfl rfl)
theorem dX4_eats_3 : decode cX4_eats 3 = .ok (.aload_n 0, 1) := dk_42 (dk_at dksX4_eats_0 3 rfl rfl)
theorem dX4_eats_4 : decode cX4_eats 4 = .ok (.getfield 15, 3) := dk_180 0 15 (dk_at dksX4_eats_0 4 rfl rfl)
theorem dX4_eats_7 : decode cX4_eats 7 = .ok (.iload_n 1, 1) := dk_27 (dk_at dksX4_eats_0 7 rfl rfl)
theorem dX4_eats_8 : decode cX4_eats 8 = .ok (.iaload, 1) := dk_46 (dk_at dksX4_eats_0 8 rfl rfl)
theorem dX4_eats_9 : decode cX4_eats 9 = .ok (.iload_n 2, 1) := dk_28 (dk_at dksX4_eats_0 9 rfl rfl)
theorem dX4_eats_10 : decode cX4_eats 10 = .ok (.iload_n 3, 1) := dk_29 (dk_at dksX4_eats_0 10 rfl rfl)
theorem dX4_eats_11 : decode cX4_eats 11 = .ok (.invokevirtual 106, 3) := dk_182 0 106 (dk_at dksX4_eats_0 11 rfl rfl)
theorem dX4_eats_14 : decode cX4_eats 14 = .ok (.lstore 4, 2) := dk_55 4 (dk_at dksX4_eats_0 14 rfl rfl)
theorem dX4_eats_16 : decode cX4_eats 16 = .ok (.lload 4, 2) := dk_22 4 (dk_at dksX4_eats_0 16 rfl rfl)
theorem dX4_eats_18 : decode cX4_eats 18 = .ok (.ldc2_w 68, 3) := dk_20 0 68 (dk_at dksX4_eats_0 18 rfl rfl)
theorem dX4_eats_21 : decode cX4_eats 21 = .ok (.lcmp, 1) := dk_148 (dk_at dksX4_eats_0 21 rfl rfl)
theorem dX4_eats_22 : decode cX4_eats 22 = .ok (.ifCond .ne 7, 3) := dk_154 0 7 (dk_at dksX4_eats_1 0 rfl rfl)
theorem dX4_eats_25 : decode cX4_eats 25 = .ok (.iconst 0, 1) := dk_3 (dk_at dksX4_eats_1 3 rfl rfl)
theorem dX4_eats_26 : decode cX4_eats 26 = .ok (.goto 16, 3) := dk_167 0 16 (dk_at dksX4_eats_1 4 rfl rfl)
theorem dX4_eats_29 : decode cX4_eats 29 = .ok (.lconst 0, 1) := dk_9 (dk_at dksX4_eats_1 7 rfl rfl)
theorem dX4_eats_30 : decode cX4_eats 30 = .ok (.ldc2_w 110, 3) := dk_20 0 110 (dk_at dksX4_eats_1 8 rfl rfl)
theorem dX4_eats_33 : decode cX4_eats 33 = .ok (.lload 4, 2) := dk_22 4 (dk_at dksX4_eats_1 11 rfl rfl)
theorem dX4_eats_35 : decode cX4_eats 35 = .ok (.invokestatic 112, 3) := dk_184 0 112 (dk_at dksX4_eats_1 13 rfl rfl)
theorem dX4_eats_38 : decode cX4_eats 38 = .ok (.invokestatic 116, 3) := dk_184 0 116 (dk_at dksX4_eats_1 16 rfl rfl)
theorem dX4_eats_41 : decode cX4_eats 41 = .ok (.l2i, 1) := dk_136 (dk_at dksX4_eats_1 19 rfl rfl)
theorem dX4_eats_42 : decode cX4_eats 42 = .ok (.ireturn, 1) := dk_172 (dk_at dksX4_eats_1 20 rfl rfl)
theorem q112 : (Jvm.Cond.initialized "SnailPost$Walk") ∈ lw_all := lw_g (lw_at lw_m1 10 rfl) rfl
theorem q185 : (Jvm.Cond.fieldLinkNest "SnailPost$Walk" (80 : Nat) "SnailPost$State" "damp" "[I" "SnailPost") ∈ lw_tbl := lw_at lw_m1 83 rfl
theorem q190 : (Jvm.Cond.fieldLinkNest "SnailPost$Walk" (54 : Nat) "SnailPost$State" "spots" "[I" "SnailPost") ∈ lw_tbl := lw_at lw_m1 88 rfl
theorem q195 : (Jvm.Cond.fieldLinkNest "SnailPost$Walk" (51 : Nat) "SnailPost$State" "terms" "[I" "SnailPost") ∈ lw_tbl := lw_at lw_m1 93 rfl
theorem q201 : (Jvm.Cond.fieldLinkNest "SnailPost$Walk" (133 : Nat) "SnailPost$State" "salt" "[Z" "SnailPost") ∈ lw_tbl := lw_at lw_m1 99 rfl
theorem q204 : (Jvm.Cond.fieldLinkNest "SnailPost$Walk" (90 : Nat) "SnailPost$State" "laws" "Ljava/util/ArrayList;" "SnailPost") ∈ lw_tbl := lw_at lw_m1 102 rfl
theorem q206 : (Jvm.Cond.fieldLinkNest "SnailPost$Walk" (36 : Nat) "SnailPost$State" "many" "I" "SnailPost") ∈ lw_tbl := lw_at lw_m1 104 rfl
theorem q218 : (Jvm.Cond.fieldLinkNest "SnailPost$Walk" (65 : Nat) "SnailPost$State" "force" "I" "SnailPost") ∈ lw_tbl := lw_at lw_m1 116 rfl
theorem q317 : (Jvm.Cond.fieldLinkNest "SnailPost$Walk" (74 : Nat) "SnailPost$Setting" "values" "[J" "SnailPost") ∈ lw_tbl := lw_at lw_m1 215 rfl
theorem q325 : (Jvm.Cond.instantiable "SnailPost$Walk" (6 : Nat)) ∈ lw_all := lw_g (lw_at lw_m1 223 rfl) rfl
theorem q327 : (Jvm.Cond.instanceMethod ({ cls := "SnailPost$Walk", name := "<init>", desc := "(LSnailPost;)V" } : Jvm.MethodName)) ∈ lw_all := lw_g (lw_at lw_m1 225 rfl) rfl
theorem q328 : (Jvm.Cond.code ({ cls := "SnailPost$Walk", name := "<init>", desc := "(LSnailPost;)V" } : Jvm.MethodName) prog_21_method_1_code (2 : Nat) (Option.none : Option Jvm.ClassFile.FieldType)) ∈ lw_all := lw_g (lw_at lw_m1 226 rfl) rfl
theorem q329 : (Jvm.Cond.methodLink "SnailPost$Walk" (9 : Nat) ({ cls := "java/lang/Object", name := "<init>", desc := "()V" } : Jvm.MethodName)) ∈ lw_all := lw_g (lw_at lw_m1 227 rfl) rfl
theorem q330 : (Jvm.Cond.fieldLink "SnailPost$Walk" (15 : Nat) "SnailPost$Walk" "cells" "[I") ∈ lw_all := lw_g (lw_at lw_m1 228 rfl) rfl
theorem q333 : (Jvm.Cond.fieldLink "SnailPost$Walk" (19 : Nat) "SnailPost$Walk" "came" "[I") ∈ lw_all := lw_g (lw_at lw_m1 231 rfl) rfl
theorem q336 : (Jvm.Cond.fieldLink "SnailPost$Walk" (22 : Nat) "SnailPost$Walk" "stayed" "[I") ∈ lw_all := lw_g (lw_at lw_m1 234 rfl) rfl
theorem q338 : (Jvm.Cond.fieldLink "SnailPost$Walk" (25 : Nat) "SnailPost$Walk" "been" "[I") ∈ lw_all := lw_g (lw_at lw_m1 236 rfl) rfl
theorem q340 : (Jvm.Cond.fieldLink "SnailPost$Walk" (28 : Nat) "SnailPost$Walk" "eaten" "I") ∈ lw_all := lw_g (lw_at lw_m1 238 rfl) rfl
theorem q342 : (Jvm.Cond.fieldLink "SnailPost$Walk" (3 : Nat) "SnailPost$Walk" "this$0" "LSnailPost;") ∈ lw_all := lw_g (lw_at lw_m2 0 rfl) rfl
theorem q343 : (Jvm.Cond.laysFinal "SnailPost$Walk" "SnailPost$Walk" "cells" "[I") ∈ lw_all := lw_g (lw_at lw_m2 1 rfl) rfl
theorem q344 : (Jvm.Cond.soleField "SnailPost$Walk" "cells") ∈ lw_all := lw_g (lw_at lw_m2 2 rfl) rfl
theorem q345 : (Jvm.Cond.laysFinal "SnailPost$Walk" "SnailPost$Walk" "came" "[I") ∈ lw_all := lw_g (lw_at lw_m2 3 rfl) rfl
theorem q346 : (Jvm.Cond.soleField "SnailPost$Walk" "came") ∈ lw_all := lw_g (lw_at lw_m2 4 rfl) rfl
theorem q347 : (Jvm.Cond.laysFinal "SnailPost$Walk" "SnailPost$Walk" "stayed" "[I") ∈ lw_all := lw_g (lw_at lw_m2 5 rfl) rfl
theorem q348 : (Jvm.Cond.soleField "SnailPost$Walk" "stayed") ∈ lw_all := lw_g (lw_at lw_m2 6 rfl) rfl
theorem q349 : (Jvm.Cond.laysFinal "SnailPost$Walk" "SnailPost$Walk" "been" "[I") ∈ lw_all := lw_g (lw_at lw_m2 7 rfl) rfl
theorem q350 : (Jvm.Cond.soleField "SnailPost$Walk" "been") ∈ lw_all := lw_g (lw_at lw_m2 8 rfl) rfl
theorem q351 : (Jvm.Cond.lays "SnailPost$Walk" "SnailPost$Walk" "eaten" "I") ∈ lw_all := lw_g (lw_at lw_m2 9 rfl) rfl
theorem q352 : (Jvm.Cond.soleField "SnailPost$Walk" "eaten") ∈ lw_all := lw_g (lw_at lw_m2 10 rfl) rfl
theorem q353 : (Jvm.Cond.laysFinal "SnailPost$Walk" "SnailPost$Walk" "this$0" "LSnailPost;") ∈ lw_all := lw_g (lw_at lw_m2 11 rfl) rfl
theorem q354 : (Jvm.Cond.soleField "SnailPost$Walk" "this$0") ∈ lw_all := lw_g (lw_at lw_m2 12 rfl) rfl
theorem q355 : (Jvm.Cond.superclass "SnailPost$Walk" "java/lang/Object") ∈ lw_all := lw_g (lw_at lw_m2 13 rfl) rfl
theorem q484 : (Jvm.Cond.fieldLinkNest "SnailPost$Walk" (32 : Nat) "SnailPost" "state" "LSnailPost$State;" "SnailPost") ∈ lw_tbl := lw_at lw_m2 142 rfl
theorem q496 : (Jvm.Cond.fieldLinkNest "SnailPost$Walk" (70 : Nat) "SnailPost" "setting" "LSnailPost$Setting;" "SnailPost") ∈ lw_tbl := lw_at lw_m2 154 rfl
theorem q498 : (Jvm.Cond.fieldLinkNest "SnailPost$Walk" (126 : Nat) "SnailPost" "around" "[I" "SnailPost") ∈ lw_tbl := lw_at lw_m2 156 rfl
theorem q637 : (Jvm.Cond.selects "SnailPost$Walk" ({ cls := "java/lang/Object", name := "getClass", desc := "()Ljava/lang/Class;" } : Jvm.MethodName) ({ cls := "java/lang/Object", name := "getClass", desc := "()Ljava/lang/Class;" } : Jvm.MethodName)) ∈ lw_all := lw_g (lw_at lw_m3 55 rfl) rfl
theorem q1113 : (Jvm.Cond.instanceMethod ({ cls := "SnailPost$Walk", name := "begins", desc := "()V" } : Jvm.MethodName)) ∈ lw_all := lw_g (lw_at lw_m5 51 rfl) rfl
theorem q1114 : (Jvm.Cond.selects "SnailPost$Walk" ({ cls := "SnailPost$Walk", name := "begins", desc := "()V" } : Jvm.MethodName) ({ cls := "SnailPost$Walk", name := "begins", desc := "()V" } : Jvm.MethodName)) ∈ lw_all := lw_g (lw_at lw_m5 52 rfl) rfl
theorem q1115 : (Jvm.Cond.code ({ cls := "SnailPost$Walk", name := "begins", desc := "()V" } : Jvm.MethodName) prog_21_method_2_code (2 : Nat) (Option.none : Option Jvm.ClassFile.FieldType)) ∈ lw_all := lw_g (lw_at lw_m5 53 rfl) rfl
theorem q1116 : (Jvm.Cond.methodLinkNest "SnailPost$Walk" (41 : Nat) ({ cls := "SnailPost", name := "of0", desc := "(II)I" } : Jvm.MethodName) "SnailPost") ∈ lw_tbl := lw_at lw_m5 54 rfl
theorem q1118 : (Jvm.Cond.instanceMethod ({ cls := "SnailPost$Walk", name := "minute", desc := "(II)V" } : Jvm.MethodName)) ∈ lw_all := lw_g (lw_at lw_m5 56 rfl) rfl
theorem q1119 : (Jvm.Cond.selects "SnailPost$Walk" ({ cls := "SnailPost$Walk", name := "minute", desc := "(II)V" } : Jvm.MethodName) ({ cls := "SnailPost$Walk", name := "minute", desc := "(II)V" } : Jvm.MethodName)) ∈ lw_all := lw_g (lw_at lw_m5 57 rfl) rfl
theorem q1120 : (Jvm.Cond.code ({ cls := "SnailPost$Walk", name := "minute", desc := "(II)V" } : Jvm.MethodName) prog_21_method_8_code (6 : Nat) (Option.none : Option Jvm.ClassFile.FieldType)) ∈ lw_all := lw_g (lw_at lw_m5 58 rfl) rfl
theorem q1121 : (Jvm.Cond.methodLinkNest "SnailPost$Walk" (118 : Nat) ({ cls := "SnailPost", name := "isOf", desc := "(II)Z" } : Jvm.MethodName) "SnailPost") ∈ lw_tbl := lw_at lw_m5 59 rfl
theorem q1124 : (Jvm.Cond.methodLink "SnailPost$Walk" (106 : Nat) ({ cls := "SnailPost$Walk", name := "asks", desc := "(IIIII)J" } : Jvm.MethodName)) ∈ lw_all := lw_g (lw_at lw_m5 62 rfl) rfl
theorem q1125 : (Jvm.Cond.privateMethod ({ cls := "SnailPost$Walk", name := "asks", desc := "(IIIII)J" } : Jvm.MethodName)) ∈ lw_tbl := lw_at lw_m5 63 rfl
theorem q1126 : (Jvm.Cond.instanceMethod ({ cls := "SnailPost$Walk", name := "asks", desc := "(IIIII)J" } : Jvm.MethodName)) ∈ lw_all := lw_g (lw_at lw_m5 64 rfl) rfl
theorem q1127 : (Jvm.Cond.code ({ cls := "SnailPost$Walk", name := "asks", desc := "(IIIII)J" } : Jvm.MethodName) prog_21_method_5_code (7 : Nat) (Option.some Jvm.ClassFile.FieldType.long)) ∈ lw_all := lw_g (lw_at lw_m5 65 rfl) rfl
theorem q1128 : (Jvm.Cond.constantLong "SnailPost$Walk" (68 : Nat) (-4000000000 : Int64)) ∈ lw_all := lw_g (lw_at lw_m5 66 rfl) rfl
theorem q1129 : (Jvm.Cond.methodLink "SnailPost$Walk" (83 : Nat) ({ cls := "SnailPost$Walk", name := "lightAt", desc := "(II)I" } : Jvm.MethodName)) ∈ lw_all := lw_g (lw_at lw_m5 67 rfl) rfl
theorem q1130 : (Jvm.Cond.privateMethod ({ cls := "SnailPost$Walk", name := "lightAt", desc := "(II)I" } : Jvm.MethodName)) ∈ lw_tbl := lw_at lw_m5 68 rfl
theorem q1131 : (Jvm.Cond.instanceMethod ({ cls := "SnailPost$Walk", name := "lightAt", desc := "(II)I" } : Jvm.MethodName)) ∈ lw_all := lw_g (lw_at lw_m5 69 rfl) rfl
theorem q1132 : (Jvm.Cond.code ({ cls := "SnailPost$Walk", name := "lightAt", desc := "(II)I" } : Jvm.MethodName) prog_21_method_4_code (3 : Nat) (Option.some Jvm.ClassFile.FieldType.int)) ∈ lw_all := lw_g (lw_at lw_m5 70 rfl) rfl
theorem q1133 : (Jvm.Cond.methodLinkNest "SnailPost$Walk" (57 : Nat) ({ cls := "SnailPost", name := "apart", desc := "(II)I" } : Jvm.MethodName) "SnailPost") ∈ lw_tbl := lw_at lw_m5 71 rfl
theorem q1139 : (Jvm.Cond.methodLink "SnailPost$Walk" (60 : Nat) ({ cls := "java/lang/Math", name := "max", desc := "(II)I" } : Jvm.MethodName)) ∈ lw_all := lw_g (lw_at lw_m5 77 rfl) rfl
theorem q1140 : (Jvm.Cond.methodLinkNest "SnailPost$Walk" (86 : Nat) ({ cls := "SnailPost", name := "ones", desc := "(I)I" } : Jvm.MethodName) "SnailPost") ∈ lw_tbl := lw_at lw_m5 78 rfl
theorem q1149 : (Jvm.Cond.methodLink "SnailPost$Walk" (94 : Nat) ({ cls := "java/util/ArrayList", name := "get", desc := "(I)Ljava/lang/Object;" } : Jvm.MethodName)) ∈ lw_all := lw_g (lw_at lw_m5 87 rfl) rfl
theorem q1161 : (Jvm.Cond.classLink "SnailPost$Walk" (100 : Nat) "SnailPost$Law") ∈ lw_all := lw_g (lw_at lw_m5 99 rfl) rfl
theorem q1162 : (Jvm.Cond.methodLink "SnailPost$Walk" (102 : Nat) ({ cls := "SnailPost$Law", name := "told", desc := "(ILSnailPost$Setting;)J" } : Jvm.MethodName)) ∈ lw_all := lw_g (lw_at lw_m5 100 rfl) rfl
theorem q1209 : (Jvm.Cond.methodLink "SnailPost$Walk" (122 : Nat) ({ cls := "SnailPost$Walk", name := "best", desc := "(III)I" } : Jvm.MethodName)) ∈ lw_all := lw_g (lw_at lw_m5 147 rfl) rfl
theorem q1210 : (Jvm.Cond.privateMethod ({ cls := "SnailPost$Walk", name := "best", desc := "(III)I" } : Jvm.MethodName)) ∈ lw_tbl := lw_at lw_m5 148 rfl
theorem q1211 : (Jvm.Cond.instanceMethod ({ cls := "SnailPost$Walk", name := "best", desc := "(III)I" } : Jvm.MethodName)) ∈ lw_all := lw_g (lw_at lw_m5 149 rfl) rfl
theorem q1212 : (Jvm.Cond.code ({ cls := "SnailPost$Walk", name := "best", desc := "(III)I" } : Jvm.MethodName) prog_21_method_9_code (12 : Nat) (Option.some Jvm.ClassFile.FieldType.int)) ∈ lw_all := lw_g (lw_at lw_m5 150 rfl) rfl
theorem q1213 : (Jvm.Cond.methodLink "SnailPost$Walk" (129 : Nat) ({ cls := "SnailPost$Walk", name := "lure", desc := "(IIII)J" } : Jvm.MethodName)) ∈ lw_all := lw_g (lw_at lw_m5 151 rfl) rfl
theorem q1214 : (Jvm.Cond.privateMethod ({ cls := "SnailPost$Walk", name := "lure", desc := "(IIII)J" } : Jvm.MethodName)) ∈ lw_tbl := lw_at lw_m5 152 rfl
theorem q1215 : (Jvm.Cond.instanceMethod ({ cls := "SnailPost$Walk", name := "lure", desc := "(IIII)J" } : Jvm.MethodName)) ∈ lw_all := lw_g (lw_at lw_m5 153 rfl) rfl
theorem q1216 : (Jvm.Cond.code ({ cls := "SnailPost$Walk", name := "lure", desc := "(IIII)J" } : Jvm.MethodName) prog_21_method_6_code (7 : Nat) (Option.some Jvm.ClassFile.FieldType.long)) ∈ lw_all := lw_g (lw_at lw_m5 154 rfl) rfl
theorem q1258 : (Jvm.Cond.instanceMethod ({ cls := "SnailPost$Walk", name := "takes", desc := "(LSnailPost$Walk;)V" } : Jvm.MethodName)) ∈ lw_all := lw_g (lw_at lw_m5 196 rfl) rfl
theorem q1259 : (Jvm.Cond.selects "SnailPost$Walk" ({ cls := "SnailPost$Walk", name := "takes", desc := "(LSnailPost$Walk;)V" } : Jvm.MethodName) ({ cls := "SnailPost$Walk", name := "takes", desc := "(LSnailPost$Walk;)V" } : Jvm.MethodName)) ∈ lw_all := lw_g (lw_at lw_m5 197 rfl) rfl
theorem q1260 : (Jvm.Cond.code ({ cls := "SnailPost$Walk", name := "takes", desc := "(LSnailPost$Walk;)V" } : Jvm.MethodName) prog_21_method_3_code (2 : Nat) (Option.none : Option Jvm.ClassFile.FieldType)) ∈ lw_all := lw_g (lw_at lw_m5 198 rfl) rfl
theorem q1261 : (Jvm.Cond.methodLink "SnailPost$Walk" (45 : Nat) ({ cls := "java/lang/System", name := "arraycopy", desc := "(Ljava/lang/Object;ILjava/lang/Object;II)V" } : Jvm.MethodName)) ∈ lw_all := lw_g (lw_at lw_m5 199 rfl) rfl
theorem q1263 : (Jvm.Cond.instanceMethod ({ cls := "SnailPost$Walk", name := "hour", desc := "(II)V" } : Jvm.MethodName)) ∈ lw_all := lw_g (lw_at lw_m5 201 rfl) rfl
theorem q1264 : (Jvm.Cond.selects "SnailPost$Walk" ({ cls := "SnailPost$Walk", name := "hour", desc := "(II)V" } : Jvm.MethodName) ({ cls := "SnailPost$Walk", name := "hour", desc := "(II)V" } : Jvm.MethodName)) ∈ lw_all := lw_g (lw_at lw_m5 202 rfl) rfl
theorem q1265 : (Jvm.Cond.code ({ cls := "SnailPost$Walk", name := "hour", desc := "(II)V" } : Jvm.MethodName) prog_21_method_10_code (4 : Nat) (Option.none : Option Jvm.ClassFile.FieldType)) ∈ lw_all := lw_g (lw_at lw_m5 203 rfl) rfl
theorem q1266 : (Jvm.Cond.methodLink "SnailPost$Walk" (137 : Nat) ({ cls := "SnailPost$Walk", name := "minute", desc := "(II)V" } : Jvm.MethodName)) ∈ lw_all := lw_g (lw_at lw_m5 204 rfl) rfl
theorem q1412 : (Jvm.Cond.instanceMethod ({ cls := "SnailPost$Walk", name := "eats", desc := "(III)I" } : Jvm.MethodName)) ∈ lw_all := lw_g (lw_at lw_m6 110 rfl) rfl
theorem q1413 : (Jvm.Cond.selects "SnailPost$Walk" ({ cls := "SnailPost$Walk", name := "eats", desc := "(III)I" } : Jvm.MethodName) ({ cls := "SnailPost$Walk", name := "eats", desc := "(III)I" } : Jvm.MethodName)) ∈ lw_all := lw_g (lw_at lw_m6 111 rfl) rfl
theorem q1414 : (Jvm.Cond.code ({ cls := "SnailPost$Walk", name := "eats", desc := "(III)I" } : Jvm.MethodName) prog_21_method_7_code (6 : Nat) (Option.some Jvm.ClassFile.FieldType.int)) ∈ lw_all := lw_g (lw_at lw_m6 112 rfl) rfl
theorem q1415 : (Jvm.Cond.constantLong "SnailPost$Walk" (110 : Nat) (100 : Int64)) ∈ lw_all := lw_g (lw_at lw_m6 113 rfl) rfl
theorem q1416 : (Jvm.Cond.methodLink "SnailPost$Walk" (112 : Nat) ({ cls := "java/lang/Math", name := "min", desc := "(JJ)J" } : Jvm.MethodName)) ∈ lw_all := lw_g (lw_at lw_m6 114 rfl) rfl
theorem q1419 : (Jvm.Cond.methodLink "SnailPost$Walk" (116 : Nat) ({ cls := "java/lang/Math", name := "max", desc := "(JJ)J" } : Jvm.MethodName)) ∈ lw_all := lw_g (lw_at lw_m6 117 rfl) rfl
theorem q2075 : (Jvm.Cond.castable "SnailPost$Walk" "java/lang/Object") ∈ lw_tbl := lw_at lw_m9 53 rfl
theorem in_X4 : ∀ w ∈ wsX40, w ∈ lw_all := lw_in wsX40 [343, 345, 347, 349, 351, 353] (by decide +kernel) (by decide +kernel)
/-! SnailPost$Lantern -/
set_option maxRecDepth 100000
def RX5 : String := "SnailPost$Lantern"
def TX5 : u_T := fun k => match k with
  | 0 => ("SnailPost$Lantern", "walks", "[LSnailPost$Walk;", true)
  | 1 => ("SnailPost$Lantern", "row", "[I", true)
  | 2 => ("SnailPost$Lantern", "first", "[I", true)
  | 3 => ("SnailPost$Lantern", "made", "I", false)
  | 4 => ("SnailPost$Lantern", "madeHours", "I", false)
  | 5 => ("SnailPost$Lantern", "madeSnails", "I", false)
  | 6 => ("SnailPost$Lantern", "hours", "I", false)
  | 7 => ("SnailPost$Lantern", "snails", "I", false)
  | 8 => ("SnailPost$Lantern", "most", "I", false)
  | 9 => ("SnailPost$Lantern", "least", "I", false)
  | 10 => ("SnailPost$Lantern", "many", "I", false)
  | _ => ("SnailPost$Lantern", "this$0", "LSnailPost;", true)
def tyX5 : Nat → FieldType := fun k => match k with
  | 0 => .array (.object "SnailPost$Walk")
  | 1 => .array .int
  | 2 => .array .int
  | 3 => .int
  | 4 => .int
  | 5 => .int
  | 6 => .int
  | 7 => .int
  | 8 => .int
  | 9 => .int
  | 10 => .int
  | _ => .object "SnailPost"
abbrev wsX50 : List Cond := u_ws RX5 TX5 12
theorem nmX5 : ∀ a, a < 12 → ∀ b, b < 12 → a ≠ b → (TX5 a).2.1 ≠ (TX5 b).2.1 := by decide +kernel
theorem tyX5_ok : ∀ k, k < 12 → parseFieldDescriptor (TX5 k).2.2.1 = some (tyX5 k) := by decide +kernel
abbrev cX5_init : ByteArray := prog_6_method_1_code
def yX5_init : MethodName := ⟨RX5, "<init>", "(LSnailPost;)V"⟩
def dkwX5_init_5 : List UInt8 := [181, 0, 28, 42, 2, 181, 0, 31, 177]
abbrev dktX5_init_5 : List UInt8 := dkwX5_init_5 ++ []
def dkwX5_init_4 : List UInt8 := [42, 180, 0, 3, 183, 0, 17, 83, 181, 0, 20, 42, 8, 188, 10, 181, 0, 24, 42, 8, 188, 10]
abbrev dktX5_init_4 : List UInt8 := dkwX5_init_4 ++ dktX5_init_5
def dkwX5_init_3 : List UInt8 := [183, 0, 17, 83, 89, 7, 187, 0, 15, 89, 42, 180, 0, 3, 183, 0, 17, 83, 89, 8, 187, 0, 15, 89]
abbrev dktX5_init_3 : List UInt8 := dkwX5_init_3 ++ dktX5_init_4
def dkwX5_init_2 : List UInt8 := [187, 0, 15, 89, 42, 180, 0, 3, 183, 0, 17, 83, 89, 6, 187, 0, 15, 89, 42, 180, 0, 3]
abbrev dktX5_init_2 : List UInt8 := dkwX5_init_2 ++ dktX5_init_3
def dkwX5_init_1 : List UInt8 := [180, 0, 3, 183, 0, 17, 83, 89, 4, 187, 0, 15, 89, 42, 180, 0, 3, 183, 0, 17, 83, 89, 5]
abbrev dktX5_init_1 : List UInt8 := dkwX5_init_1 ++ dktX5_init_2
def dkwX5_init_0 : List UInt8 := [42, 43, 181, 0, 3, 42, 183, 0, 9, 42, 16, 6, 189, 0, 15, 89, 3, 187, 0, 15, 89, 42]
abbrev dktX5_init_0 : List UInt8 := dkwX5_init_0 ++ dktX5_init_1
theorem dksX5_init_0 : cX5_init.data.toList.drop 0 = dktX5_init_0 := by decide +kernel
theorem dksX5_init_1 : cX5_init.data.toList.drop 22 = dktX5_init_1 := dk_seg dksX5_init_0 22 rfl rfl
theorem dksX5_init_2 : cX5_init.data.toList.drop 45 = dktX5_init_2 := dk_seg dksX5_init_1 23 rfl rfl
theorem dksX5_init_3 : cX5_init.data.toList.drop 67 = dktX5_init_3 := dk_seg dksX5_init_2 22 rfl rfl
theorem dksX5_init_4 : cX5_init.data.toList.drop 91 = dktX5_init_4 := dk_seg dksX5_init_3 24 rfl rfl
theorem dksX5_init_5 : cX5_init.data.toList.drop 113 = dktX5_init_5 := dk_seg dksX5_init_4 22 rfl rfl
theorem dX5_init_0 : decode cX5_init 0 = .ok (.aload_n 0, 1) := dk_42 (dk_at dksX5_init_0 0 rfl rfl)
theorem dX5_init_1 : decode cX5_init 1 = .ok (.aload_n 1, 1) := dk_43 (dk_at dksX5_init_0 1 rfl rfl)
theorem dX5_init_2 : decode cX5_init 2 = .ok (.putfield 3, 3) := dk_181 0 3 (dk_at dksX5_init_0 2 rfl rfl)
theorem dX5_init_5 : decode cX5_init 5 = .ok (.aload_n 0, 1) := dk_42 (dk_at dksX5_init_0 5 rfl rfl)
theorem dX5_init_6 : decode cX5_init 6 = .ok (.invokespecial 9, 3) := dk_183 0 9 (dk_at dksX5_init_0 6 rfl rfl)
theorem dX5_init_9 : decode cX5_init 9 = .ok (.aload_n 0, 1) := dk_42 (dk_at dksX5_init_0 9 rfl rfl)
theorem dX5_init_10 : decode cX5_init 10 = .ok (.bipush 6, 2) := dk_16 6 (dk_at dksX5_init_0 10 rfl rfl)
theorem dX5_init_12 : decode cX5_init 12 = .ok (.anewarray 15, 3) := dk_189 0 15 (dk_at dksX5_init_0 12 rfl rfl)
theorem dX5_init_15 : decode cX5_init 15 = .ok (.dup, 1) := dk_89 (dk_at dksX5_init_0 15 rfl rfl)
theorem dX5_init_16 : decode cX5_init 16 = .ok (.iconst 0, 1) := dk_3 (dk_at dksX5_init_0 16 rfl rfl)
theorem dX5_init_17 : decode cX5_init 17 = .ok (.new 15, 3) := dk_187 0 15 (dk_at dksX5_init_0 17 rfl rfl)
theorem dX5_init_20 : decode cX5_init 20 = .ok (.dup, 1) := dk_89 (dk_at dksX5_init_0 20 rfl rfl)
theorem dX5_init_21 : decode cX5_init 21 = .ok (.aload_n 0, 1) := dk_42 (dk_at dksX5_init_0 21 rfl rfl)
theorem dX5_init_22 : decode cX5_init 22 = .ok (.getfield 3, 3) := dk_180 0 3 (dk_at dksX5_init_1 0 rfl rfl)
theorem dX5_init_25 : decode cX5_init 25 = .ok (.invokespecial 17, 3) := dk_183 0 17 (dk_at dksX5_init_1 3 rfl rfl)
theorem dX5_init_28 : decode cX5_init 28 = .ok (.aastore, 1) := dk_83 (dk_at dksX5_init_1 6 rfl rfl)
theorem dX5_init_29 : decode cX5_init 29 = .ok (.dup, 1) := dk_89 (dk_at dksX5_init_1 7 rfl rfl)
theorem dX5_init_30 : decode cX5_init 30 = .ok (.iconst 1, 1) := dk_4 (dk_at dksX5_init_1 8 rfl rfl)
theorem dX5_init_31 : decode cX5_init 31 = .ok (.new 15, 3) := dk_187 0 15 (dk_at dksX5_init_1 9 rfl rfl)
theorem dX5_init_34 : decode cX5_init 34 = .ok (.dup, 1) := dk_89 (dk_at dksX5_init_1 12 rfl rfl)
theorem dX5_init_35 : decode cX5_init 35 = .ok (.aload_n 0, 1) := dk_42 (dk_at dksX5_init_1 13 rfl rfl)
theorem dX5_init_36 : decode cX5_init 36 = .ok (.getfield 3, 3) := dk_180 0 3 (dk_at dksX5_init_1 14 rfl rfl)
theorem dX5_init_39 : decode cX5_init 39 = .ok (.invokespecial 17, 3) := dk_183 0 17 (dk_at dksX5_init_1 17 rfl rfl)
theorem dX5_init_42 : decode cX5_init 42 = .ok (.aastore, 1) := dk_83 (dk_at dksX5_init_1 20 rfl rfl)
theorem dX5_init_43 : decode cX5_init 43 = .ok (.dup, 1) := dk_89 (dk_at dksX5_init_1 21 rfl rfl)
theorem dX5_init_44 : decode cX5_init 44 = .ok (.iconst 2, 1) := dk_5 (dk_at dksX5_init_1 22 rfl rfl)
theorem dX5_init_45 : decode cX5_init 45 = .ok (.new 15, 3) := dk_187 0 15 (dk_at dksX5_init_2 0 rfl rfl)
theorem dX5_init_48 : decode cX5_init 48 = .ok (.dup, 1) := dk_89 (dk_at dksX5_init_2 3 rfl rfl)
theorem dX5_init_49 : decode cX5_init 49 = .ok (.aload_n 0, 1) := dk_42 (dk_at dksX5_init_2 4 rfl rfl)
theorem dX5_init_50 : decode cX5_init 50 = .ok (.getfield 3, 3) := dk_180 0 3 (dk_at dksX5_init_2 5 rfl rfl)
theorem dX5_init_53 : decode cX5_init 53 = .ok (.invokespecial 17, 3) := dk_183 0 17 (dk_at dksX5_init_2 8 rfl rfl)
theorem dX5_init_56 : decode cX5_init 56 = .ok (.aastore, 1) := dk_83 (dk_at dksX5_init_2 11 rfl rfl)
theorem dX5_init_57 : decode cX5_init 57 = .ok (.dup, 1) := dk_89 (dk_at dksX5_init_2 12 rfl rfl)
theorem dX5_init_58 : decode cX5_init 58 = .ok (.iconst 3, 1) := dk_6 (dk_at dksX5_init_2 13 rfl rfl)
theorem dX5_init_59 : decode cX5_init 59 = .ok (.new 15, 3) := dk_187 0 15 (dk_at dksX5_init_2 14 rfl rfl)
theorem dX5_init_62 : decode cX5_init 62 = .ok (.dup, 1) := dk_89 (dk_at dksX5_init_2 17 rfl rfl)
theorem dX5_init_63 : decode cX5_init 63 = .ok (.aload_n 0, 1) := dk_42 (dk_at dksX5_init_2 18 rfl rfl)
theorem dX5_init_64 : decode cX5_init 64 = .ok (.getfield 3, 3) := dk_180 0 3 (dk_at dksX5_init_2 19 rfl rfl)
theorem dX5_init_67 : decode cX5_init 67 = .ok (.invokespecial 17, 3) := dk_183 0 17 (dk_at dksX5_init_3 0 rfl rfl)
theorem dX5_init_70 : decode cX5_init 70 = .ok (.aastore, 1) := dk_83 (dk_at dksX5_init_3 3 rfl rfl)
theorem dX5_init_71 : decode cX5_init 71 = .ok (.dup, 1) := dk_89 (dk_at dksX5_init_3 4 rfl rfl)
theorem dX5_init_72 : decode cX5_init 72 = .ok (.iconst 4, 1) := dk_7 (dk_at dksX5_init_3 5 rfl rfl)
theorem dX5_init_73 : decode cX5_init 73 = .ok (.new 15, 3) := dk_187 0 15 (dk_at dksX5_init_3 6 rfl rfl)
theorem dX5_init_76 : decode cX5_init 76 = .ok (.dup, 1) := dk_89 (dk_at dksX5_init_3 9 rfl rfl)
theorem dX5_init_77 : decode cX5_init 77 = .ok (.aload_n 0, 1) := dk_42 (dk_at dksX5_init_3 10 rfl rfl)
theorem dX5_init_78 : decode cX5_init 78 = .ok (.getfield 3, 3) := dk_180 0 3 (dk_at dksX5_init_3 11 rfl rfl)
theorem dX5_init_81 : decode cX5_init 81 = .ok (.invokespecial 17, 3) := dk_183 0 17 (dk_at dksX5_init_3 14 rfl rfl)
theorem dX5_init_84 : decode cX5_init 84 = .ok (.aastore, 1) := dk_83 (dk_at dksX5_init_3 17 rfl rfl)
theorem dX5_init_85 : decode cX5_init 85 = .ok (.dup, 1) := dk_89 (dk_at dksX5_init_3 18 rfl rfl)
theorem dX5_init_86 : decode cX5_init 86 = .ok (.iconst 5, 1) := dk_8 (dk_at dksX5_init_3 19 rfl rfl)
theorem dX5_init_87 : decode cX5_init 87 = .ok (.new 15, 3) := dk_187 0 15 (dk_at dksX5_init_3 20 rfl rfl)
theorem dX5_init_90 : decode cX5_init 90 = .ok (.dup, 1) := dk_89 (dk_at dksX5_init_3 23 rfl rfl)
theorem dX5_init_91 : decode cX5_init 91 = .ok (.aload_n 0, 1) := dk_42 (dk_at dksX5_init_4 0 rfl rfl)
theorem dX5_init_92 : decode cX5_init 92 = .ok (.getfield 3, 3) := dk_180 0 3 (dk_at dksX5_init_4 1 rfl rfl)
theorem dX5_init_95 : decode cX5_init 95 = .ok (.invokespecial 17, 3) := dk_183 0 17 (dk_at dksX5_init_4 4 rfl rfl)
theorem dX5_init_98 : decode cX5_init 98 = .ok (.aastore, 1) := dk_83 (dk_at dksX5_init_4 7 rfl rfl)
theorem dX5_init_99 : decode cX5_init 99 = .ok (.putfield 20, 3) := dk_181 0 20 (dk_at dksX5_init_4 8 rfl rfl)
theorem dX5_init_102 : decode cX5_init 102 = .ok (.aload_n 0, 1) := dk_42 (dk_at dksX5_init_4 11 rfl rfl)
theorem dX5_init_103 : decode cX5_init 103 = .ok (.iconst 5, 1) := dk_8 (dk_at dksX5_init_4 12 rfl rfl)
theorem dX5_init_104 : decode cX5_init 104 = .ok (.newarray .int, 2) := dk_188_10 (dk_at dksX5_init_4 13 rfl rfl)
theorem dX5_init_106 : decode cX5_init 106 = .ok (.putfield 24, 3) := dk_181 0 24 (dk_at dksX5_init_4 15 rfl rfl)
theorem dX5_init_109 : decode cX5_init 109 = .ok (.aload_n 0, 1) := dk_42 (dk_at dksX5_init_4 18 rfl rfl)
theorem dX5_init_110 : decode cX5_init 110 = .ok (.iconst 5, 1) := dk_8 (dk_at dksX5_init_4 19 rfl rfl)
theorem dX5_init_111 : decode cX5_init 111 = .ok (.newarray .int, 2) := dk_188_10 (dk_at dksX5_init_4 20 rfl rfl)
theorem dX5_init_113 : decode cX5_init 113 = .ok (.putfield 28, 3) := dk_181 0 28 (dk_at dksX5_init_5 0 rfl rfl)
theorem dX5_init_116 : decode cX5_init 116 = .ok (.aload_n 0, 1) := dk_42 (dk_at dksX5_init_5 3 rfl rfl)
theorem dX5_init_117 : decode cX5_init 117 = .ok (.iconst (-1), 1) := dk_2 (dk_at dksX5_init_5 4 rfl rfl)
theorem dX5_init_118 : decode cX5_init 118 = .ok (.putfield 31, 3) := dk_181 0 31 (dk_at dksX5_init_5 5 rfl rfl)
theorem dX5_init_121 : decode cX5_init 121 = .ok (.return_, 1) := dk_177 (dk_at dksX5_init_5 8 rfl rfl)
abbrev cX5_looks : ByteArray := prog_6_method_2_code
def yX5_looks : MethodName := ⟨RX5, "looks", "(II)V"⟩
def dkwX5_looks_3 : List UInt8 := [3, 50, 182, 0, 53, 42, 3, 182, 0, 56, 177]
abbrev dktX5_looks_3 : List UInt8 := dkwX5_looks_3 ++ []
def dkwX5_looks_2 : List UInt8 := [42, 28, 181, 0, 41, 42, 27, 181, 0, 44, 42, 28, 181, 0, 47, 42, 3, 181, 0, 50, 42, 180, 0, 20]
abbrev dktX5_looks_2 : List UInt8 := dkwX5_looks_2 ++ dktX5_looks_3
def dkwX5_looks_1 : List UInt8 := [180, 0, 41, 28, 160, 0, 4, 177, 42, 42, 180, 0, 3, 180, 0, 35, 181, 0, 31, 42, 27, 181, 0, 38]
abbrev dktX5_looks_1 : List UInt8 := dkwX5_looks_1 ++ dktX5_looks_2
def dkwX5_looks_0 : List UInt8 := [42, 180, 0, 31, 42, 180, 0, 3, 180, 0, 35, 160, 0, 20, 42, 180, 0, 38, 27, 160, 0, 12, 42]
abbrev dktX5_looks_0 : List UInt8 := dkwX5_looks_0 ++ dktX5_looks_1
theorem dksX5_looks_0 : cX5_looks.data.toList.drop 0 = dktX5_looks_0 := by decide +kernel
theorem dksX5_looks_1 : cX5_looks.data.toList.drop 23 = dktX5_looks_1 := dk_seg dksX5_looks_0 23 rfl rfl
theorem dksX5_looks_2 : cX5_looks.data.toList.drop 47 = dktX5_looks_2 := dk_seg dksX5_looks_1 24 rfl rfl
theorem dksX5_looks_3 : cX5_looks.data.toList.drop 71 = dktX5_looks_3 := dk_seg dksX5_looks_2 24 rfl rfl
theorem dX5_looks_0 : decode cX5_looks 0 = .ok (.aload_n 0, 1) := dk_42 (dk_at dksX5_looks_0 0 rfl rfl)
theorem dX5_looks_1 : decode cX5_looks 1 = .ok (.getfield 31, 3) := dk_180 0 31 (dk_at dksX5_looks_0 1 rfl rfl)
theorem dX5_looks_4 : decode cX5_looks 4 = .ok (.aload_n 0, 1) := dk_42 (dk_at dksX5_looks_0 4 rfl rfl)
theorem dX5_looks_5 : decode cX5_looks 5 = .ok (.getfield 3, 3) := dk_180 0 3 (dk_at dksX5_looks_0 5 rfl rfl)
theorem dX5_looks_8 : decode cX5_looks 8 = .ok (.getfield 35, 3) := dk_180 0 35 (dk_at dksX5_looks_0 8 rfl rfl)
theorem dX5_looks_11 : decode cX5_looks 11 = .ok (.if_icmp .ne 20, 3) := dk_160 0 20 (dk_at dksX5_looks_0 11 rfl rfl)
theorem dX5_looks_14 : decode cX5_looks 14 = .ok (.aload_n 0, 1) := dk_42 (dk_at dksX5_looks_0 14 rfl rfl)
theorem dX5_looks_15 : decode cX5_looks 15 = .ok (.getfield 38, 3) := dk_180 0 38 (dk_at dksX5_looks_0 15 rfl rfl)
theorem dX5_looks_18 : decode cX5_looks 18 = .ok (.iload_n 1, 1) := dk_27 (dk_at dksX5_looks_0 18 rfl rfl)
theorem dX5_looks_19 : decode cX5_looks 19 = .ok (.if_icmp .ne 12, 3) := dk_160 0 12 (dk_at dksX5_looks_0 19 rfl rfl)
theorem dX5_looks_22 : decode cX5_looks 22 = .ok (.aload_n 0, 1) := dk_42 (dk_at dksX5_looks_0 22 rfl rfl)
theorem dX5_looks_23 : decode cX5_looks 23 = .ok (.getfield 41, 3) := dk_180 0 41 (dk_at dksX5_looks_1 0 rfl rfl)
theorem dX5_looks_26 : decode cX5_looks 26 = .ok (.iload_n 2, 1) := dk_28 (dk_at dksX5_looks_1 3 rfl rfl)
theorem dX5_looks_27 : decode cX5_looks 27 = .ok (.if_icmp .ne 4, 3) := dk_160 0 4 (dk_at dksX5_looks_1 4 rfl rfl)
theorem dX5_looks_30 : decode cX5_looks 30 = .ok (.return_, 1) := dk_177 (dk_at dksX5_looks_1 7 rfl rfl)
theorem dX5_looks_31 : decode cX5_looks 31 = .ok (.aload_n 0, 1) := dk_42 (dk_at dksX5_looks_1 8 rfl rfl)
theorem dX5_looks_32 : decode cX5_looks 32 = .ok (.aload_n 0, 1) := dk_42 (dk_at dksX5_looks_1 9 rfl rfl)
theorem dX5_looks_33 : decode cX5_looks 33 = .ok (.getfield 3, 3) := dk_180 0 3 (dk_at dksX5_looks_1 10 rfl rfl)
theorem dX5_looks_36 : decode cX5_looks 36 = .ok (.getfield 35, 3) := dk_180 0 35 (dk_at dksX5_looks_1 13 rfl rfl)
theorem dX5_looks_39 : decode cX5_looks 39 = .ok (.putfield 31, 3) := dk_181 0 31 (dk_at dksX5_looks_1 16 rfl rfl)
theorem dX5_looks_42 : decode cX5_looks 42 = .ok (.aload_n 0, 1) := dk_42 (dk_at dksX5_looks_1 19 rfl rfl)
theorem dX5_looks_43 : decode cX5_looks 43 = .ok (.iload_n 1, 1) := dk_27 (dk_at dksX5_looks_1 20 rfl rfl)
theorem dX5_looks_44 : decode cX5_looks 44 = .ok (.putfield 38, 3) := dk_181 0 38 (dk_at dksX5_looks_1 21 rfl rfl)
theorem dX5_looks_47 : decode cX5_looks 47 = .ok (.aload_n 0, 1) := dk_42 (dk_at dksX5_looks_2 0 rfl rfl)
theorem dX5_looks_48 : decode cX5_looks 48 = .ok (.iload_n 2, 1) := dk_28 (dk_at dksX5_looks_2 1 rfl rfl)
theorem dX5_looks_49 : decode cX5_looks 49 = .ok (.putfield 41, 3) := dk_181 0 41 (dk_at dksX5_looks_2 2 rfl rfl)
theorem dX5_looks_52 : decode cX5_looks 52 = .ok (.aload_n 0, 1) := dk_42 (dk_at dksX5_looks_2 5 rfl rfl)
theorem dX5_looks_53 : decode cX5_looks 53 = .ok (.iload_n 1, 1) := dk_27 (dk_at dksX5_looks_2 6 rfl rfl)
theorem dX5_looks_54 : decode cX5_looks 54 = .ok (.putfield 44, 3) := dk_181 0 44 (dk_at dksX5_looks_2 7 rfl rfl)
theorem dX5_looks_57 : decode cX5_looks 57 = .ok (.aload_n 0, 1) := dk_42 (dk_at dksX5_looks_2 10 rfl rfl)
theorem dX5_looks_58 : decode cX5_looks 58 = .ok (.iload_n 2, 1) := dk_28 (dk_at dksX5_looks_2 11 rfl rfl)
theorem dX5_looks_59 : decode cX5_looks 59 = .ok (.putfield 47, 3) := dk_181 0 47 (dk_at dksX5_looks_2 12 rfl rfl)
theorem dX5_looks_62 : decode cX5_looks 62 = .ok (.aload_n 0, 1) := dk_42 (dk_at dksX5_looks_2 15 rfl rfl)
theorem dX5_looks_63 : decode cX5_looks 63 = .ok (.iconst 0, 1) := dk_3 (dk_at dksX5_looks_2 16 rfl rfl)
theorem dX5_looks_64 : decode cX5_looks 64 = .ok (.putfield 50, 3) := dk_181 0 50 (dk_at dksX5_looks_2 17 rfl rfl)
theorem dX5_looks_67 : decode cX5_looks 67 = .ok (.aload_n 0, 1) := dk_42 (dk_at dksX5_looks_2 20 rfl rfl)
theorem dX5_looks_68 : decode cX5_looks 68 = .ok (.getfield 20, 3) := dk_180 0 20 (dk_at dksX5_looks_2 21 rfl rfl)
theorem dX5_looks_71 : decode cX5_looks 71 = .ok (.iconst 0, 1) := dk_3 (dk_at dksX5_looks_3 0 rfl rfl)
theorem dX5_looks_72 : decode cX5_looks 72 = .ok (.aaload, 1) := dk_50 (dk_at dksX5_looks_3 1 rfl rfl)
theorem dX5_looks_73 : decode cX5_looks 73 = .ok (.invokevirtual 53, 3) := dk_182 0 53 (dk_at dksX5_looks_3 2 rfl rfl)
theorem dX5_looks_76 : decode cX5_looks 76 = .ok (.aload_n 0, 1) := dk_42 (dk_at dksX5_looks_3 5 rfl rfl)
theorem dX5_looks_77 : decode cX5_looks 77 = .ok (.iconst 0, 1) := dk_3 (dk_at dksX5_looks_3 6 rfl rfl)
theorem dX5_looks_78 : decode cX5_looks 78 = .ok (.invokevirtual 56, 3) := dk_182 0 56 (dk_at dksX5_looks_3 7 rfl rfl)
theorem dX5_looks_81 : decode cX5_looks 81 = .ok (.return_, 1) := dk_177 (dk_at dksX5_looks_3 10 rfl rfl)
abbrev cX5_tries : ByteArray := prog_6_method_3_code
def yX5_tries : MethodName := ⟨RX5, "tries", "(I)V"⟩
def dkwX5_tries_2 : List UInt8 := [182, 0, 73, 42, 27, 4, 96, 182, 0, 56, 132, 2, 1, 167, 255, 219, 177]
abbrev dktX5_tries_2 : List UInt8 := dkwX5_tries_2 ++ []
def dkwX5_tries_1 : List UInt8 := [180, 0, 3, 180, 0, 64, 180, 0, 68, 162, 0, 29, 42, 180, 0, 24, 27, 28, 79, 42, 27, 28]
abbrev dktX5_tries_1 : List UInt8 := dkwX5_tries_1 ++ dktX5_tries_2
def dkwX5_tries_0 : List UInt8 := [27, 42, 180, 0, 44, 160, 0, 14, 42, 42, 180, 0, 20, 27, 50, 182, 0, 60, 177, 2, 61, 28, 42]
abbrev dktX5_tries_0 : List UInt8 := dkwX5_tries_0 ++ dktX5_tries_1
theorem dksX5_tries_0 : cX5_tries.data.toList.drop 0 = dktX5_tries_0 := by decide +kernel
theorem dksX5_tries_1 : cX5_tries.data.toList.drop 23 = dktX5_tries_1 := dk_seg dksX5_tries_0 23 rfl rfl
theorem dksX5_tries_2 : cX5_tries.data.toList.drop 45 = dktX5_tries_2 := dk_seg dksX5_tries_1 22 rfl rfl
theorem dX5_tries_0 : decode cX5_tries 0 = .ok (.iload_n 1, 1) := dk_27 (dk_at dksX5_tries_0 0 rfl rfl)
theorem dX5_tries_1 : decode cX5_tries 1 = .ok (.aload_n 0, 1) := dk_42 (dk_at dksX5_tries_0 1 rfl rfl)
theorem dX5_tries_2 : decode cX5_tries 2 = .ok (.getfield 44, 3) := dk_180 0 44 (dk_at dksX5_tries_0 2 rfl rfl)
theorem dX5_tries_5 : decode cX5_tries 5 = .ok (.if_icmp .ne 14, 3) := dk_160 0 14 (dk_at dksX5_tries_0 5 rfl rfl)
theorem dX5_tries_8 : decode cX5_tries 8 = .ok (.aload_n 0, 1) := dk_42 (dk_at dksX5_tries_0 8 rfl rfl)
theorem dX5_tries_9 : decode cX5_tries 9 = .ok (.aload_n 0, 1) := dk_42 (dk_at dksX5_tries_0 9 rfl rfl)
theorem dX5_tries_10 : decode cX5_tries 10 = .ok (.getfield 20, 3) := dk_180 0 20 (dk_at dksX5_tries_0 10 rfl rfl)
theorem dX5_tries_13 : decode cX5_tries 13 = .ok (.iload_n 1, 1) := dk_27 (dk_at dksX5_tries_0 13 rfl rfl)
theorem dX5_tries_14 : decode cX5_tries 14 = .ok (.aaload, 1) := dk_50 (dk_at dksX5_tries_0 14 rfl rfl)
theorem dX5_tries_15 : decode cX5_tries 15 = .ok (.invokevirtual 60, 3) := dk_182 0 60 (dk_at dksX5_tries_0 15 rfl rfl)
theorem dX5_tries_18 : decode cX5_tries 18 = .ok (.return_, 1) := dk_177 (dk_at dksX5_tries_0 18 rfl rfl)
theorem dX5_tries_19 : decode cX5_tries 19 = .ok (.iconst (-1), 1) := dk_2 (dk_at dksX5_tries_0 19 rfl rfl)
theorem dX5_tries_20 : decode cX5_tries 20 = .ok (.istore_n 2, 1) := dk_61 (dk_at dksX5_tries_0 20 rfl rfl)
theorem dX5_tries_21 : decode cX5_tries 21 = .ok (.iload_n 2, 1) := dk_28 (dk_at dksX5_tries_0 21 rfl rfl)
theorem dX5_tries_22 : decode cX5_tries 22 = .ok (.aload_n 0, 1) := dk_42 (dk_at dksX5_tries_0 22 rfl rfl)
theorem dX5_tries_23 : decode cX5_tries 23 = .ok (.getfield 3, 3) := dk_180 0 3 (dk_at dksX5_tries_1 0 rfl rfl)
theorem dX5_tries_26 : decode cX5_tries 26 = .ok (.getfield 64, 3) := dk_180 0 64 (dk_at dksX5_tries_1 3 rfl rfl)
theorem dX5_tries_29 : decode cX5_tries 29 = .ok (.getfield 68, 3) := dk_180 0 68 (dk_at dksX5_tries_1 6 rfl rfl)
theorem dX5_tries_32 : decode cX5_tries 32 = .ok (.if_icmp .ge 29, 3) := dk_162 0 29 (dk_at dksX5_tries_1 9 rfl rfl)
theorem dX5_tries_35 : decode cX5_tries 35 = .ok (.aload_n 0, 1) := dk_42 (dk_at dksX5_tries_1 12 rfl rfl)
theorem dX5_tries_36 : decode cX5_tries 36 = .ok (.getfield 24, 3) := dk_180 0 24 (dk_at dksX5_tries_1 13 rfl rfl)
theorem dX5_tries_39 : decode cX5_tries 39 = .ok (.iload_n 1, 1) := dk_27 (dk_at dksX5_tries_1 16 rfl rfl)
theorem dX5_tries_40 : decode cX5_tries 40 = .ok (.iload_n 2, 1) := dk_28 (dk_at dksX5_tries_1 17 rfl rfl)
theorem dX5_tries_41 : decode cX5_tries 41 = .ok (.iastore, 1) := dk_79 (dk_at dksX5_tries_1 18 rfl rfl)
theorem dX5_tries_42 : decode cX5_tries 42 = .ok (.aload_n 0, 1) := dk_42 (dk_at dksX5_tries_1 19 rfl rfl)
theorem dX5_tries_43 : decode cX5_tries 43 = .ok (.iload_n 1, 1) := dk_27 (dk_at dksX5_tries_1 20 rfl rfl)
theorem dX5_tries_44 : decode cX5_tries 44 = .ok (.iload_n 2, 1) := dk_28 (dk_at dksX5_tries_1 21 rfl rfl)
theorem dX5_tries_45 : decode cX5_tries 45 = .ok (.invokevirtual 73, 3) := dk_182 0 73 (dk_at dksX5_tries_2 0 rfl rfl)
theorem dX5_tries_48 : decode cX5_tries 48 = .ok (.aload_n 0, 1) := dk_42 (dk_at dksX5_tries_2 3 rfl rfl)
theorem dX5_tries_49 : decode cX5_tries 49 = .ok (.iload_n 1, 1) := dk_27 (dk_at dksX5_tries_2 4 rfl rfl)
theorem dX5_tries_50 : decode cX5_tries 50 = .ok (.iconst 1, 1) := dk_4 (dk_at dksX5_tries_2 5 rfl rfl)
theorem dX5_tries_51 : decode cX5_tries 51 = .ok (.iadd, 1) := dk_96 (dk_at dksX5_tries_2 6 rfl rfl)
theorem dX5_tries_52 : decode cX5_tries 52 = .ok (.invokevirtual 56, 3) := dk_182 0 56 (dk_at dksX5_tries_2 7 rfl rfl)
theorem dX5_tries_55 : decode cX5_tries 55 = .ok (.iinc 2 1, 3) := dk_132 2 1 (dk_at dksX5_tries_2 10 rfl rfl)
theorem dX5_tries_58 : decode cX5_tries 58 = .ok (.goto (-37), 3) := dk_167 255 219 (dk_at dksX5_tries_2 13 rfl rfl)
theorem dX5_tries_61 : decode cX5_tries 61 = .ok (.return_, 1) := dk_177 (dk_at dksX5_tries_2 16 rfl rfl)
abbrev cX5_ends : ByteArray := prog_6_method_5_code
def yX5_ends : MethodName := ⟨RX5, "ends", "(LSnailPost$Walk;)V"⟩
def dkwX5_ends_7 : List UInt8 := [3, 96, 181, 0, 50, 177]
abbrev dktX5_ends_7 : List UInt8 := dkwX5_ends_7 ++ []
def dkwX5_ends_6 : List UInt8 := [89, 180, 0, 50, 28, 42, 180, 0, 91, 160, 0, 15, 29, 42, 180, 0, 94, 160, 0, 7, 4, 167, 0, 4]
abbrev dktX5_ends_6 : List UInt8 := dkwX5_ends_6 ++ dktX5_ends_7
def dkwX5_ends_5 : List UInt8 := [29, 181, 0, 94, 42, 3, 181, 0, 50, 42, 180, 0, 24, 3, 42, 180, 0, 28, 3, 8, 184, 0, 97, 42]
abbrev dktX5_ends_5 : List UInt8 := dkwX5_ends_5 ++ dktX5_ends_6
def dkwX5_ends_4 : List UInt8 := [180, 0, 94, 162, 0, 7, 4, 167, 0, 4, 3, 54, 4, 21, 4, 153, 0, 32, 42, 28, 181, 0, 91, 42]
abbrev dktX5_ends_4 : List UInt8 := dkwX5_ends_4 ++ dktX5_ends_5
def dkwX5_ends_3 : List UInt8 := [180, 0, 50, 153, 0, 27, 28, 42, 180, 0, 91, 163, 0, 19, 28, 42, 180, 0, 91, 160, 0, 15, 29, 42]
abbrev dktX5_ends_3 : List UInt8 := dkwX5_ends_3 ++ dktX5_ends_4
def dkwX5_ends_2 : List UInt8 := [167, 0, 16, 132, 2, 1, 29, 43, 180, 0, 88, 21, 4, 46, 96, 62, 132, 4, 1, 167, 255, 199, 42]
abbrev dktX5_ends_2 : List UInt8 := dkwX5_ends_2 ++ dktX5_ends_3
def dkwX5_ends_1 : List UInt8 := [180, 0, 47, 21, 4, 184, 0, 84, 153, 0, 30, 43, 180, 0, 88, 21, 4, 46, 2, 160, 0, 6]
abbrev dktX5_ends_1 : List UInt8 := dkwX5_ends_1 ++ dktX5_ends_2
def dkwX5_ends_0 : List UInt8 := [3, 61, 3, 62, 3, 54, 4, 21, 4, 42, 180, 0, 3, 180, 0, 64, 180, 0, 83, 162, 0, 48, 42]
abbrev dktX5_ends_0 : List UInt8 := dkwX5_ends_0 ++ dktX5_ends_1
theorem dksX5_ends_0 : cX5_ends.data.toList.drop 0 = dktX5_ends_0 := by decide +kernel
theorem dksX5_ends_1 : cX5_ends.data.toList.drop 23 = dktX5_ends_1 := dk_seg dksX5_ends_0 23 rfl rfl
theorem dksX5_ends_2 : cX5_ends.data.toList.drop 45 = dktX5_ends_2 := dk_seg dksX5_ends_1 22 rfl rfl
theorem dksX5_ends_3 : cX5_ends.data.toList.drop 68 = dktX5_ends_3 := dk_seg dksX5_ends_2 23 rfl rfl
theorem dksX5_ends_4 : cX5_ends.data.toList.drop 92 = dktX5_ends_4 := dk_seg dksX5_ends_3 24 rfl rfl
theorem dksX5_ends_5 : cX5_ends.data.toList.drop 116 = dktX5_ends_5 := dk_seg dksX5_ends_4 24 rfl rfl
theorem dksX5_ends_6 : cX5_ends.data.toList.drop 140 = dktX5_ends_6 := dk_seg dksX5_ends_5 24 rfl rfl
theorem dksX5_ends_7 : cX5_ends.data.toList.drop 164 = dktX5_ends_7 := dk_seg dksX5_ends_6 24 rfl rfl
theorem dX5_ends_0 : decode cX5_ends 0 = .ok (.iconst 0, 1) := dk_3 (dk_at dksX5_ends_0 0 rfl rfl)
theorem dX5_ends_1 : decode cX5_ends 1 = .ok (.istore_n 2, 1) := dk_61 (dk_at dksX5_ends_0 1 rfl rfl)
theorem dX5_ends_2 : decode cX5_ends 2 = .ok (.iconst 0, 1) := dk_3 (dk_at dksX5_ends_0 2 rfl rfl)
theorem dX5_ends_3 : decode cX5_ends 3 = .ok (.istore_n 3, 1) := dk_62 (dk_at dksX5_ends_0 3 rfl rfl)
theorem dX5_ends_4 : decode cX5_ends 4 = .ok (.iconst 0, 1) := dk_3 (dk_at dksX5_ends_0 4 rfl rfl)
theorem dX5_ends_5 : decode cX5_ends 5 = .ok (.istore 4, 2) := dk_54 4 (dk_at dksX5_ends_0 5 rfl rfl)
theorem dX5_ends_7 : decode cX5_ends 7 = .ok (.iload 4, 2) := dk_21 4 (dk_at dksX5_ends_0 7 rfl rfl)
theorem dX5_ends_9 : decode cX5_ends 9 = .ok (.aload_n 0, 1) := dk_42 (dk_at dksX5_ends_0 9 rfl rfl)
theorem dX5_ends_10 : decode cX5_ends 10 = .ok (.getfield 3, 3) := dk_180 0 3 (dk_at dksX5_ends_0 10 rfl rfl)
theorem dX5_ends_13 : decode cX5_ends 13 = .ok (.getfield 64, 3) := dk_180 0 64 (dk_at dksX5_ends_0 13 rfl rfl)
theorem dX5_ends_16 : decode cX5_ends 16 = .ok (.getfield 83, 3) := dk_180 0 83 (dk_at dksX5_ends_0 16 rfl rfl)
theorem dX5_ends_19 : decode cX5_ends 19 = .ok (.if_icmp .ge 48, 3) := dk_162 0 48 (dk_at dksX5_ends_0 19 rfl rfl)
theorem dX5_ends_22 : decode cX5_ends 22 = .ok (.aload_n 0, 1) := dk_42 (dk_at dksX5_ends_0 22 rfl rfl)
theorem dX5_ends_23 : decode cX5_ends 23 = .ok (.getfield 47, 3) := dk_180 0 47 (dk_at dksX5_ends_1 0 rfl rfl)
theorem dX5_ends_26 : decode cX5_ends 26 = .ok (.iload 4, 2) := dk_21 4 (dk_at dksX5_ends_1 3 rfl rfl)
theorem dX5_ends_28 : decode cX5_ends 28 = .ok (.invokestatic 84, 3) := dk_184 0 84 (dk_at dksX5_ends_1 5 rfl rfl)
theorem dX5_ends_31 : decode cX5_ends 31 = .ok (.ifCond .eq 30, 3) := dk_153 0 30 (dk_at dksX5_ends_1 8 rfl rfl)
theorem dX5_ends_34 : decode cX5_ends 34 = .ok (.aload_n 1, 1) := dk_43 (dk_at dksX5_ends_1 11 rfl rfl)
theorem dX5_ends_35 : decode cX5_ends 35 = .ok (.getfield 88, 3) := dk_180 0 88 (dk_at dksX5_ends_1 12 rfl rfl)
theorem dX5_ends_38 : decode cX5_ends 38 = .ok (.iload 4, 2) := dk_21 4 (dk_at dksX5_ends_1 15 rfl rfl)
theorem dX5_ends_40 : decode cX5_ends 40 = .ok (.iaload, 1) := dk_46 (dk_at dksX5_ends_1 17 rfl rfl)
theorem dX5_ends_41 : decode cX5_ends 41 = .ok (.iconst (-1), 1) := dk_2 (dk_at dksX5_ends_1 18 rfl rfl)
theorem dX5_ends_42 : decode cX5_ends 42 = .ok (.if_icmp .ne 6, 3) := dk_160 0 6 (dk_at dksX5_ends_1 19 rfl rfl)
theorem dX5_ends_45 : decode cX5_ends 45 = .ok (.goto 16, 3) := dk_167 0 16 (dk_at dksX5_ends_2 0 rfl rfl)
theorem dX5_ends_48 : decode cX5_ends 48 = .ok (.iinc 2 1, 3) := dk_132 2 1 (dk_at dksX5_ends_2 3 rfl rfl)
theorem dX5_ends_51 : decode cX5_ends 51 = .ok (.iload_n 3, 1) := dk_29 (dk_at dksX5_ends_2 6 rfl rfl)
theorem dX5_ends_52 : decode cX5_ends 52 = .ok (.aload_n 1, 1) := dk_43 (dk_at dksX5_ends_2 7 rfl rfl)
theorem dX5_ends_53 : decode cX5_ends 53 = .ok (.getfield 88, 3) := dk_180 0 88 (dk_at dksX5_ends_2 8 rfl rfl)
theorem dX5_ends_56 : decode cX5_ends 56 = .ok (.iload 4, 2) := dk_21 4 (dk_at dksX5_ends_2 11 rfl rfl)
theorem dX5_ends_58 : decode cX5_ends 58 = .ok (.iaload, 1) := dk_46 (dk_at dksX5_ends_2 13 rfl rfl)
theorem dX5_ends_59 : decode cX5_ends 59 = .ok (.iadd, 1) := dk_96 (dk_at dksX5_ends_2 14 rfl rfl)
theorem dX5_ends_60 : decode cX5_ends 60 = .ok (.istore_n 3, 1) := dk_62 (dk_at dksX5_ends_2 15 rfl rfl)
theorem dX5_ends_61 : decode cX5_ends 61 = .ok (.iinc 4 1, 3) := dk_132 4 1 (dk_at dksX5_ends_2 16 rfl rfl)
theorem dX5_ends_64 : decode cX5_ends 64 = .ok (.goto (-57), 3) := dk_167 255 199 (dk_at dksX5_ends_2 19 rfl rfl)
theorem dX5_ends_67 : decode cX5_ends 67 = .ok (.aload_n 0, 1) := dk_42 (dk_at dksX5_ends_2 22 rfl rfl)
theorem dX5_ends_68 : decode cX5_ends 68 = .ok (.getfield 50, 3) := dk_180 0 50 (dk_at dksX5_ends_3 0 rfl rfl)
theorem dX5_ends_71 : decode cX5_ends 71 = .ok (.ifCond .eq 27, 3) := dk_153 0 27 (dk_at dksX5_ends_3 3 rfl rfl)
theorem dX5_ends_74 : decode cX5_ends 74 = .ok (.iload_n 2, 1) := dk_28 (dk_at dksX5_ends_3 6 rfl rfl)
theorem dX5_ends_75 : decode cX5_ends 75 = .ok (.aload_n 0, 1) := dk_42 (dk_at dksX5_ends_3 7 rfl rfl)
theorem dX5_ends_76 : decode cX5_ends 76 = .ok (.getfield 91, 3) := dk_180 0 91 (dk_at dksX5_ends_3 8 rfl rfl)
theorem dX5_ends_79 : decode cX5_ends 79 = .ok (.if_icmp .gt 19, 3) := dk_163 0 19 (dk_at dksX5_ends_3 11 rfl rfl)
theorem dX5_ends_82 : decode cX5_ends 82 = .ok (.iload_n 2, 1) := dk_28 (dk_at dksX5_ends_3 14 rfl rfl)
theorem dX5_ends_83 : decode cX5_ends 83 = .ok (.aload_n 0, 1) := dk_42 (dk_at dksX5_ends_3 15 rfl rfl)
theorem dX5_ends_84 : decode cX5_ends 84 = .ok (.getfield 91, 3) := dk_180 0 91 (dk_at dksX5_ends_3 16 rfl rfl)
theorem dX5_ends_87 : decode cX5_ends 87 = .ok (.if_icmp .ne 15, 3) := dk_160 0 15 (dk_at dksX5_ends_3 19 rfl rfl)
theorem dX5_ends_90 : decode cX5_ends 90 = .ok (.iload_n 3, 1) := dk_29 (dk_at dksX5_ends_3 22 rfl rfl)
theorem dX5_ends_91 : decode cX5_ends 91 = .ok (.aload_n 0, 1) := dk_42 (dk_at dksX5_ends_3 23 rfl rfl)
theorem dX5_ends_92 : decode cX5_ends 92 = .ok (.getfield 94, 3) := dk_180 0 94 (dk_at dksX5_ends_4 0 rfl rfl)
theorem dX5_ends_95 : decode cX5_ends 95 = .ok (.if_icmp .ge 7, 3) := dk_162 0 7 (dk_at dksX5_ends_4 3 rfl rfl)
theorem dX5_ends_98 : decode cX5_ends 98 = .ok (.iconst 1, 1) := dk_4 (dk_at dksX5_ends_4 6 rfl rfl)
theorem dX5_ends_99 : decode cX5_ends 99 = .ok (.goto 4, 3) := dk_167 0 4 (dk_at dksX5_ends_4 7 rfl rfl)
theorem dX5_ends_102 : decode cX5_ends 102 = .ok (.iconst 0, 1) := dk_3 (dk_at dksX5_ends_4 10 rfl rfl)
theorem dX5_ends_103 : decode cX5_ends 103 = .ok (.istore 4, 2) := dk_54 4 (dk_at dksX5_ends_4 11 rfl rfl)
theorem dX5_ends_105 : decode cX5_ends 105 = .ok (.iload 4, 2) := dk_21 4 (dk_at dksX5_ends_4 13 rfl rfl)
theorem dX5_ends_107 : decode cX5_ends 107 = .ok (.ifCond .eq 32, 3) := dk_153 0 32 (dk_at dksX5_ends_4 15 rfl rfl)
theorem dX5_ends_110 : decode cX5_ends 110 = .ok (.aload_n 0, 1) := dk_42 (dk_at dksX5_ends_4 18 rfl rfl)
theorem dX5_ends_111 : decode cX5_ends 111 = .ok (.iload_n 2, 1) := dk_28 (dk_at dksX5_ends_4 19 rfl rfl)
theorem dX5_ends_112 : decode cX5_ends 112 = .ok (.putfield 91, 3) := dk_181 0 91 (dk_at dksX5_ends_4 20 rfl rfl)
theorem dX5_ends_115 : decode cX5_ends 115 = .ok (.aload_n 0, 1) := dk_42 (dk_at dksX5_ends_4 23 rfl rfl)
theorem dX5_ends_116 : decode cX5_ends 116 = .ok (.iload_n 3, 1) := dk_29 (dk_at dksX5_ends_5 0 rfl rfl)
theorem dX5_ends_117 : decode cX5_ends 117 = .ok (.putfield 94, 3) := dk_181 0 94 (dk_at dksX5_ends_5 1 rfl rfl)
theorem dX5_ends_120 : decode cX5_ends 120 = .ok (.aload_n 0, 1) := dk_42 (dk_at dksX5_ends_5 4 rfl rfl)
theorem dX5_ends_121 : decode cX5_ends 121 = .ok (.iconst 0, 1) := dk_3 (dk_at dksX5_ends_5 5 rfl rfl)
theorem dX5_ends_122 : decode cX5_ends 122 = .ok (.putfield 50, 3) := dk_181 0 50 (dk_at dksX5_ends_5 6 rfl rfl)
theorem dX5_ends_125 : decode cX5_ends 125 = .ok (.aload_n 0, 1) := dk_42 (dk_at dksX5_ends_5 9 rfl rfl)
theorem dX5_ends_126 : decode cX5_ends 126 = .ok (.getfield 24, 3) := dk_180 0 24 (dk_at dksX5_ends_5 10 rfl rfl)
theorem dX5_ends_129 : decode cX5_ends 129 = .ok (.iconst 0, 1) := dk_3 (dk_at dksX5_ends_5 13 rfl rfl)
theorem dX5_ends_130 : decode cX5_ends 130 = .ok (.aload_n 0, 1) := dk_42 (dk_at dksX5_ends_5 14 rfl rfl)
theorem dX5_ends_131 : decode cX5_ends 131 = .ok (.getfield 28, 3) := dk_180 0 28 (dk_at dksX5_ends_5 15 rfl rfl)
theorem dX5_ends_134 : decode cX5_ends 134 = .ok (.iconst 0, 1) := dk_3 (dk_at dksX5_ends_5 18 rfl rfl)
theorem dX5_ends_135 : decode cX5_ends 135 = .ok (.iconst 5, 1) := dk_8 (dk_at dksX5_ends_5 19 rfl rfl)
theorem dX5_ends_136 : decode cX5_ends 136 = .ok (.invokestatic 97, 3) := dk_184 0 97 (dk_at dksX5_ends_5 20 rfl rfl)
theorem dX5_ends_139 : decode cX5_ends 139 = .ok (.aload_n 0, 1) := dk_42 (dk_at dksX5_ends_5 23 rfl rfl)
theorem dX5_ends_140 : decode cX5_ends 140 = .ok (.dup, 1) := dk_89 (dk_at dksX5_ends_6 0 rfl rfl)
theorem dX5_ends_141 : decode cX5_ends 141 = .ok (.getfield 50, 3) := dk_180 0 50 (dk_at dksX5_ends_6 1 rfl rfl)
theorem dX5_ends_144 : decode cX5_ends 144 = .ok (.iload_n 2, 1) := dk_28 (dk_at dksX5_ends_6 4 rfl rfl)
theorem dX5_ends_145 : decode cX5_ends 145 = .ok (.aload_n 0, 1) := dk_42 (dk_at dksX5_ends_6 5 rfl rfl)
theorem dX5_ends_146 : decode cX5_ends 146 = .ok (.getfield 91, 3) := dk_180 0 91 (dk_at dksX5_ends_6 6 rfl rfl)
theorem dX5_ends_149 : decode cX5_ends 149 = .ok (.if_icmp .ne 15, 3) := dk_160 0 15 (dk_at dksX5_ends_6 9 rfl rfl)
theorem dX5_ends_152 : decode cX5_ends 152 = .ok (.iload_n 3, 1) := dk_29 (dk_at dksX5_ends_6 12 rfl rfl)
theorem dX5_ends_153 : decode cX5_ends 153 = .ok (.aload_n 0, 1) := dk_42 (dk_at dksX5_ends_6 13 rfl rfl)
theorem dX5_ends_154 : decode cX5_ends 154 = .ok (.getfield 94, 3) := dk_180 0 94 (dk_at dksX5_ends_6 14 rfl rfl)
theorem dX5_ends_157 : decode cX5_ends 157 = .ok (.if_icmp .ne 7, 3) := dk_160 0 7 (dk_at dksX5_ends_6 17 rfl rfl)
theorem dX5_ends_160 : decode cX5_ends 160 = .ok (.iconst 1, 1) := dk_4 (dk_at dksX5_ends_6 20 rfl rfl)
theorem dX5_ends_161 : decode cX5_ends 161 = .ok (.goto 4, 3) := dk_167 0 4 (dk_at dksX5_ends_6 21 rfl rfl)
theorem dX5_ends_164 : decode cX5_ends 164 = .ok (.iconst 0, 1) := dk_3 (dk_at dksX5_ends_7 0 rfl rfl)
theorem dX5_ends_165 : decode cX5_ends 165 = .ok (.iadd, 1) := dk_96 (dk_at dksX5_ends_7 1 rfl rfl)
theorem dX5_ends_166 : decode cX5_ends 166 = .ok (.putfield 50, 3) := dk_181 0 50 (dk_at dksX5_ends_7 2 rfl rfl)
theorem dX5_ends_169 : decode cX5_ends 169 = .ok (.return_, 1) := dk_177 (dk_at dksX5_ends_7 5 rfl rfl)
abbrev cX5_goes : ByteArray := prog_6_method_4_code
def yX5_goes : MethodName := ⟨RX5, "goes", "(II)V"⟩
def dkwX5_goes_1 : List UInt8 := [50, 27, 28, 182, 0, 80, 177]
abbrev dktX5_goes_1 : List UInt8 := dkwX5_goes_1 ++ []
def dkwX5_goes_0 : List UInt8 := [42, 180, 0, 20, 27, 4, 96, 50, 42, 180, 0, 20, 27, 50, 182, 0, 77, 42, 180, 0, 20, 27, 4, 96]
abbrev dktX5_goes_0 : List UInt8 := dkwX5_goes_0 ++ dktX5_goes_1
theorem dksX5_goes_0 : cX5_goes.data.toList.drop 0 = dktX5_goes_0 := by decide +kernel
theorem dksX5_goes_1 : cX5_goes.data.toList.drop 24 = dktX5_goes_1 := dk_seg dksX5_goes_0 24 rfl rfl
theorem dX5_goes_0 : decode cX5_goes 0 = .ok (.aload_n 0, 1) := dk_42 (dk_at dksX5_goes_0 0 rfl rfl)
theorem dX5_goes_1 : decode cX5_goes 1 = .ok (.getfield 20, 3) := dk_180 0 20 (dk_at dksX5_goes_0 1 rfl rfl)
theorem dX5_goes_4 : decode cX5_goes 4 = .ok (.iload_n 1, 1) := dk_27 (dk_at dksX5_goes_0 4 rfl rfl)
theorem dX5_goes_5 : decode cX5_goes 5 = .ok (.iconst 1, 1) := dk_4 (dk_at dksX5_goes_0 5 rfl rfl)
theorem dX5_goes_6 : decode cX5_goes 6 = .ok (.iadd, 1) := dk_96 (dk_at dksX5_goes_0 6 rfl rfl)
theorem dX5_goes_7 : decode cX5_goes 7 = .ok (.aaload, 1) := dk_50 (dk_at dksX5_goes_0 7 rfl rfl)
theorem dX5_goes_8 : decode cX5_goes 8 = .ok (.aload_n 0, 1) := dk_42 (dk_at dksX5_goes_0 8 rfl rfl)
theorem dX5_goes_9 : decode cX5_goes 9 = .ok (.getfield 20, 3) := dk_180 0 20 (dk_at dksX5_goes_0 9 rfl rfl)
theorem dX5_goes_12 : decode cX5_goes 12 = .ok (.iload_n 1, 1) := dk_27 (dk_at dksX5_goes_0 12 rfl rfl)
theorem dX5_goes_13 : decode cX5_goes 13 = .ok (.aaload, 1) := dk_50 (dk_at dksX5_goes_0 13 rfl rfl)
theorem dX5_goes_14 : decode cX5_goes 14 = .ok (.invokevirtual 77, 3) := dk_182 0 77 (dk_at dksX5_goes_0 14 rfl rfl)
theorem dX5_goes_17 : decode cX5_goes 17 = .ok (.aload_n 0, 1) := dk_42 (dk_at dksX5_goes_0 17 rfl rfl)
theorem dX5_goes_18 : decode cX5_goes 18 = .ok (.getfield 20, 3) := dk_180 0 20 (dk_at dksX5_goes_0 18 rfl rfl)
theorem dX5_goes_21 : decode cX5_goes 21 = .ok (.iload_n 1, 1) := dk_27 (dk_at dksX5_goes_0 21 rfl rfl)
theorem dX5_goes_22 : decode cX5_goes 22 = .ok (.iconst 1, 1) := dk_4 (dk_at dksX5_goes_0 22 rfl rfl)
theorem dX5_goes_23 : decode cX5_goes 23 = .ok (.iadd, 1) := dk_96 (dk_at dksX5_goes_0 23 rfl rfl)
theorem dX5_goes_24 : decode cX5_goes 24 = .ok (.aaload, 1) := dk_50 (dk_at dksX5_goes_1 0 rfl rfl)
theorem dX5_goes_25 : decode cX5_goes 25 = .ok (.iload_n 1, 1) := dk_27 (dk_at dksX5_goes_1 1 rfl rfl)
theorem dX5_goes_26 : decode cX5_goes 26 = .ok (.iload_n 2, 1) := dk_28 (dk_at dksX5_goes_1 2 rfl rfl)
theorem dX5_goes_27 : decode cX5_goes 27 = .ok (.invokevirtual 80, 3) := dk_182 0 80 (dk_at dksX5_goes_1 3 rfl rfl)
theorem dX5_goes_30 : decode cX5_goes 30 = .ok (.return_, 1) := dk_177 (dk_at dksX5_goes_1 6 rfl rfl)
abbrev cX5_duel : ByteArray := prog_6_method_6_code
def yX5_duel : MethodName := ⟨RX5, "duel", "(III)I"⟩
def dkwX5_duel_5 : List UInt8 := [167, 255, 176, 21, 4, 172]
abbrev dktX5_duel_5 : List UInt8 := dkwX5_duel_5 ++ []
def dkwX5_duel_4 : List UInt8 := [21, 4, 163, 0, 6, 167, 0, 15, 21, 6, 54, 4, 42, 180, 0, 24, 27, 21, 5, 79, 132, 5, 1]
abbrev dktX5_duel_4 : List UInt8 := dkwX5_duel_4 ++ dktX5_duel_5
def dkwX5_duel_3 : List UInt8 := [21, 4, 2, 159, 0, 29, 27, 5, 112, 154, 0, 13, 21, 6, 21, 4, 161, 0, 16, 167, 0, 25, 21, 6]
abbrev dktX5_duel_3 : List UInt8 := dkwX5_duel_3 ++ dktX5_duel_4
def dkwX5_duel_2 : List UInt8 := [180, 0, 68, 162, 0, 71, 42, 27, 21, 5, 182, 0, 73, 42, 27, 4, 96, 28, 29, 182, 0, 113, 54, 6]
abbrev dktX5_duel_2 : List UInt8 := dkwX5_duel_2 ++ dktX5_duel_3
def dkwX5_duel_1 : List UInt8 := [182, 0, 106, 184, 0, 110, 172, 2, 54, 4, 2, 54, 5, 21, 5, 42, 180, 0, 3, 180, 0, 64]
abbrev dktX5_duel_1 : List UInt8 := dkwX5_duel_1 ++ dktX5_duel_2
def dkwX5_duel_0 : List UInt8 := [27, 28, 160, 0, 27, 42, 180, 0, 20, 27, 50, 180, 0, 103, 29, 46, 42, 180, 0, 3, 29, 4]
abbrev dktX5_duel_0 : List UInt8 := dkwX5_duel_0 ++ dktX5_duel_1
theorem dksX5_duel_0 : cX5_duel.data.toList.drop 0 = dktX5_duel_0 := by decide +kernel
theorem dksX5_duel_1 : cX5_duel.data.toList.drop 22 = dktX5_duel_1 := dk_seg dksX5_duel_0 22 rfl rfl
theorem dksX5_duel_2 : cX5_duel.data.toList.drop 44 = dktX5_duel_2 := dk_seg dksX5_duel_1 22 rfl rfl
theorem dksX5_duel_3 : cX5_duel.data.toList.drop 68 = dktX5_duel_3 := dk_seg dksX5_duel_2 24 rfl rfl
theorem dksX5_duel_4 : cX5_duel.data.toList.drop 92 = dktX5_duel_4 := dk_seg dksX5_duel_3 24 rfl rfl
theorem dksX5_duel_5 : cX5_duel.data.toList.drop 115 = dktX5_duel_5 := dk_seg dksX5_duel_4 23 rfl rfl
theorem dX5_duel_0 : decode cX5_duel 0 = .ok (.iload_n 1, 1) := dk_27 (dk_at dksX5_duel_0 0 rfl rfl)
theorem dX5_duel_1 : decode cX5_duel 1 = .ok (.iload_n 2, 1) := dk_28 (dk_at dksX5_duel_0 1 rfl rfl)
theorem dX5_duel_2 : decode cX5_duel 2 = .ok (.if_icmp .ne 27, 3) := dk_160 0 27 (dk_at dksX5_duel_0 2 rfl rfl)
theorem dX5_duel_5 : decode cX5_duel 5 = .ok (.aload_n 0, 1) := dk_42 (dk_at dksX5_duel_0 5 rfl rfl)
theorem dX5_duel_6 : decode cX5_duel 6 = .ok (.getfield 20, 3) := dk_180 0 20 (dk_at dksX5_duel_0 6 rfl rfl)
theorem dX5_duel_9 : decode cX5_duel 9 = .ok (.iload_n 1, 1) := dk_27 (dk_at dksX5_duel_0 9 rfl rfl)
theorem dX5_duel_10 : decode cX5_duel 10 = .ok (.aaload, 1) := dk_50 (dk_at dksX5_duel_0 10 rfl rfl)
theorem dX5_duel_11 : decode cX5_duel 11 = .ok (.getfield 103, 3) := dk_180 0 103 (dk_at dksX5_duel_0 11 rfl rfl)
theorem dX5_duel_14 : decode cX5_duel 14 = .ok (.iload_n 3, 1) := dk_29 (dk_at dksX5_duel_0 14 rfl rfl)
theorem dX5_duel_15 : decode cX5_duel 15 = .ok (.iaload, 1) := dk_46 (dk_at dksX5_duel_0 15 rfl rfl)
theorem dX5_duel_16 : decode cX5_duel 16 = .ok (.aload_n 0, 1) := dk_42 (dk_at dksX5_duel_0 16 rfl rfl)
theorem dX5_duel_17 : decode cX5_duel 17 = .ok (.getfield 3, 3) := dk_180 0 3 (dk_at dksX5_duel_0 17 rfl rfl)
theorem dX5_duel_20 : decode cX5_duel 20 = .ok (.iload_n 3, 1) := dk_29 (dk_at dksX5_duel_0 20 rfl rfl)
theorem dX5_duel_21 : decode cX5_duel 21 = .ok (.iconst 1, 1) := dk_4 (dk_at dksX5_duel_0 21 rfl rfl)
theorem dX5_duel_22 : decode cX5_duel 22 = .ok (.invokevirtual 106, 3) := dk_182 0 106 (dk_at dksX5_duel_1 0 rfl rfl)
theorem dX5_duel_25 : decode cX5_duel 25 = .ok (.invokestatic 110, 3) := dk_184 0 110 (dk_at dksX5_duel_1 3 rfl rfl)
theorem dX5_duel_28 : decode cX5_duel 28 = .ok (.ireturn, 1) := dk_172 (dk_at dksX5_duel_1 6 rfl rfl)
theorem dX5_duel_29 : decode cX5_duel 29 = .ok (.iconst (-1), 1) := dk_2 (dk_at dksX5_duel_1 7 rfl rfl)
theorem dX5_duel_30 : decode cX5_duel 30 = .ok (.istore 4, 2) := dk_54 4 (dk_at dksX5_duel_1 8 rfl rfl)
theorem dX5_duel_32 : decode cX5_duel 32 = .ok (.iconst (-1), 1) := dk_2 (dk_at dksX5_duel_1 10 rfl rfl)
theorem dX5_duel_33 : decode cX5_duel 33 = .ok (.istore 5, 2) := dk_54 5 (dk_at dksX5_duel_1 11 rfl rfl)
theorem dX5_duel_35 : decode cX5_duel 35 = .ok (.iload 5, 2) := dk_21 5 (dk_at dksX5_duel_1 13 rfl rfl)
theorem dX5_duel_37 : decode cX5_duel 37 = .ok (.aload_n 0, 1) := dk_42 (dk_at dksX5_duel_1 15 rfl rfl)
theorem dX5_duel_38 : decode cX5_duel 38 = .ok (.getfield 3, 3) := dk_180 0 3 (dk_at dksX5_duel_1 16 rfl rfl)
theorem dX5_duel_41 : decode cX5_duel 41 = .ok (.getfield 64, 3) := dk_180 0 64 (dk_at dksX5_duel_1 19 rfl rfl)
theorem dX5_duel_44 : decode cX5_duel 44 = .ok (.getfield 68, 3) := dk_180 0 68 (dk_at dksX5_duel_2 0 rfl rfl)
theorem dX5_duel_47 : decode cX5_duel 47 = .ok (.if_icmp .ge 71, 3) := dk_162 0 71 (dk_at dksX5_duel_2 3 rfl rfl)
theorem dX5_duel_50 : decode cX5_duel 50 = .ok (.aload_n 0, 1) := dk_42 (dk_at dksX5_duel_2 6 rfl rfl)
theorem dX5_duel_51 : decode cX5_duel 51 = .ok (.iload_n 1, 1) := dk_27 (dk_at dksX5_duel_2 7 rfl rfl)
theorem dX5_duel_52 : decode cX5_duel 52 = .ok (.iload 5, 2) := dk_21 5 (dk_at dksX5_duel_2 8 rfl rfl)
theorem dX5_duel_54 : decode cX5_duel 54 = .ok (.invokevirtual 73, 3) := dk_182 0 73 (dk_at dksX5_duel_2 10 rfl rfl)
theorem dX5_duel_57 : decode cX5_duel 57 = .ok (.aload_n 0, 1) := dk_42 (dk_at dksX5_duel_2 13 rfl rfl)
theorem dX5_duel_58 : decode cX5_duel 58 = .ok (.iload_n 1, 1) := dk_27 (dk_at dksX5_duel_2 14 rfl rfl)
theorem dX5_duel_59 : decode cX5_duel 59 = .ok (.iconst 1, 1) := dk_4 (dk_at dksX5_duel_2 15 rfl rfl)
theorem dX5_duel_60 : decode cX5_duel 60 = .ok (.iadd, 1) := dk_96 (dk_at dksX5_duel_2 16 rfl rfl)
theorem dX5_duel_61 : decode cX5_duel 61 = .ok (.iload_n 2, 1) := dk_28 (dk_at dksX5_duel_2 17 rfl rfl)
theorem dX5_duel_62 : decode cX5_duel 62 = .ok (.iload_n 3, 1) := dk_29 (dk_at dksX5_duel_2 18 rfl rfl)
theorem dX5_duel_63 : decode cX5_duel 63 = .ok (.invokevirtual 113, 3) := dk_182 0 113 (dk_at dksX5_duel_2 19 rfl rfl)
theorem dX5_duel_66 : decode cX5_duel 66 = .ok (.istore 6, 2) := dk_54 6 (dk_at dksX5_duel_2 22 rfl rfl)
theorem dX5_duel_68 : decode cX5_duel 68 = .ok (.iload 4, 2) := dk_21 4 (dk_at dksX5_duel_3 0 rfl rfl)
theorem dX5_duel_70 : decode cX5_duel 70 = .ok (.iconst (-1), 1) := dk_2 (dk_at dksX5_duel_3 2 rfl rfl)
theorem dX5_duel_71 : decode cX5_duel 71 = .ok (.if_icmp .eq 29, 3) := dk_159 0 29 (dk_at dksX5_duel_3 3 rfl rfl)
theorem dX5_duel_74 : decode cX5_duel 74 = .ok (.iload_n 1, 1) := dk_27 (dk_at dksX5_duel_3 6 rfl rfl)
theorem dX5_duel_75 : decode cX5_duel 75 = .ok (.iconst 2, 1) := dk_5 (dk_at dksX5_duel_3 7 rfl rfl)
theorem dX5_duel_76 : decode cX5_duel 76 = .ok (.irem, 1) := dk_112 (dk_at dksX5_duel_3 8 rfl rfl)
theorem dX5_duel_77 : decode cX5_duel 77 = .ok (.ifCond .ne 13, 3) := dk_154 0 13 (dk_at dksX5_duel_3 9 rfl rfl)
theorem dX5_duel_80 : decode cX5_duel 80 = .ok (.iload 6, 2) := dk_21 6 (dk_at dksX5_duel_3 12 rfl rfl)
theorem dX5_duel_82 : decode cX5_duel 82 = .ok (.iload 4, 2) := dk_21 4 (dk_at dksX5_duel_3 14 rfl rfl)
theorem dX5_duel_84 : decode cX5_duel 84 = .ok (.if_icmp .lt 16, 3) := dk_161 0 16 (dk_at dksX5_duel_3 16 rfl rfl)
theorem dX5_duel_87 : decode cX5_duel 87 = .ok (.goto 25, 3) := dk_167 0 25 (dk_at dksX5_duel_3 19 rfl rfl)
theorem dX5_duel_90 : decode cX5_duel 90 = .ok (.iload 6, 2) := dk_21 6 (dk_at dksX5_duel_3 22 rfl rfl)
theorem dX5_duel_92 : decode cX5_duel 92 = .ok (.iload 4, 2) := dk_21 4 (dk_at dksX5_duel_4 0 rfl rfl)
theorem dX5_duel_94 : decode cX5_duel 94 = .ok (.if_icmp .gt 6, 3) := dk_163 0 6 (dk_at dksX5_duel_4 2 rfl rfl)
theorem dX5_duel_97 : decode cX5_duel 97 = .ok (.goto 15, 3) := dk_167 0 15 (dk_at dksX5_duel_4 5 rfl rfl)
theorem dX5_duel_100 : decode cX5_duel 100 = .ok (.iload 6, 2) := dk_21 6 (dk_at dksX5_duel_4 8 rfl rfl)
theorem dX5_duel_102 : decode cX5_duel 102 = .ok (.istore 4, 2) := dk_54 4 (dk_at dksX5_duel_4 10 rfl rfl)
theorem dX5_duel_104 : decode cX5_duel 104 = .ok (.aload_n 0, 1) := dk_42 (dk_at dksX5_duel_4 12 rfl rfl)
theorem dX5_duel_105 : decode cX5_duel 105 = .ok (.getfield 24, 3) := dk_180 0 24 (dk_at dksX5_duel_4 13 rfl rfl)
theorem dX5_duel_108 : decode cX5_duel 108 = .ok (.iload_n 1, 1) := dk_27 (dk_at dksX5_duel_4 16 rfl rfl)
theorem dX5_duel_109 : decode cX5_duel 109 = .ok (.iload 5, 2) := dk_21 5 (dk_at dksX5_duel_4 17 rfl rfl)
theorem dX5_duel_111 : decode cX5_duel 111 = .ok (.iastore, 1) := dk_79 (dk_at dksX5_duel_4 19 rfl rfl)
theorem dX5_duel_112 : decode cX5_duel 112 = .ok (.iinc 5 1, 3) := dk_132 5 1 (dk_at dksX5_duel_4 20 rfl rfl)
theorem dX5_duel_115 : decode cX5_duel 115 = .ok (.goto (-80), 3) := dk_167 255 176 (dk_at dksX5_duel_5 0 rfl rfl)
theorem dX5_duel_118 : decode cX5_duel 118 = .ok (.iload 4, 2) := dk_21 4 (dk_at dksX5_duel_5 3 rfl rfl)
theorem dX5_duel_120 : decode cX5_duel 120 = .ok (.ireturn, 1) := dk_172 (dk_at dksX5_duel_5 5 rfl rfl)
theorem q113 : (Jvm.Cond.initialized "SnailPost$Lantern") ∈ lw_all := lw_g (lw_at lw_m1 11 rfl) rfl
theorem q209 : (Jvm.Cond.fieldLinkNest "SnailPost$Lantern" (83 : Nat) "SnailPost$State" "many" "I" "SnailPost") ∈ lw_tbl := lw_at lw_m1 107 rfl
theorem q211 : (Jvm.Cond.fieldLinkNest "SnailPost$Lantern" (68 : Nat) "SnailPost$State" "spotMany" "I" "SnailPost") ∈ lw_tbl := lw_at lw_m1 109 rfl
theorem q331 : (Jvm.Cond.fieldLinkNest "SnailPost$Lantern" (103 : Nat) "SnailPost$Walk" "cells" "[I" "SnailPost") ∈ lw_tbl := lw_at lw_m1 229 rfl
theorem q334 : (Jvm.Cond.fieldLinkNest "SnailPost$Lantern" (88 : Nat) "SnailPost$Walk" "came" "[I" "SnailPost") ∈ lw_tbl := lw_at lw_m1 232 rfl
theorem q357 : (Jvm.Cond.instantiable "SnailPost$Lantern" (12 : Nat)) ∈ lw_all := lw_g (lw_at lw_m2 15 rfl) rfl
theorem q359 : (Jvm.Cond.instanceMethod ({ cls := "SnailPost$Lantern", name := "<init>", desc := "(LSnailPost;)V" } : Jvm.MethodName)) ∈ lw_all := lw_g (lw_at lw_m2 17 rfl) rfl
theorem q360 : (Jvm.Cond.code ({ cls := "SnailPost$Lantern", name := "<init>", desc := "(LSnailPost;)V" } : Jvm.MethodName) prog_6_method_1_code (2 : Nat) (Option.none : Option Jvm.ClassFile.FieldType)) ∈ lw_all := lw_g (lw_at lw_m2 18 rfl) rfl
theorem q361 : (Jvm.Cond.methodLink "SnailPost$Lantern" (9 : Nat) ({ cls := "java/lang/Object", name := "<init>", desc := "()V" } : Jvm.MethodName)) ∈ lw_all := lw_g (lw_at lw_m2 19 rfl) rfl
theorem q362 : (Jvm.Cond.classLink "SnailPost$Lantern" (15 : Nat) "SnailPost$Walk") ∈ lw_all := lw_g (lw_at lw_m2 20 rfl) rfl
theorem q364 : (Jvm.Cond.methodLinkNest "SnailPost$Lantern" (17 : Nat) ({ cls := "SnailPost$Walk", name := "<init>", desc := "(LSnailPost;)V" } : Jvm.MethodName) "SnailPost") ∈ lw_tbl := lw_at lw_m2 22 rfl
theorem q365 : (Jvm.Cond.fieldLink "SnailPost$Lantern" (20 : Nat) "SnailPost$Lantern" "walks" "[LSnailPost$Walk;") ∈ lw_all := lw_g (lw_at lw_m2 23 rfl) rfl
theorem q367 : (Jvm.Cond.fieldLink "SnailPost$Lantern" (24 : Nat) "SnailPost$Lantern" "row" "[I") ∈ lw_all := lw_g (lw_at lw_m2 25 rfl) rfl
theorem q369 : (Jvm.Cond.fieldLink "SnailPost$Lantern" (28 : Nat) "SnailPost$Lantern" "first" "[I") ∈ lw_all := lw_g (lw_at lw_m2 27 rfl) rfl
theorem q371 : (Jvm.Cond.fieldLink "SnailPost$Lantern" (31 : Nat) "SnailPost$Lantern" "made" "I") ∈ lw_all := lw_g (lw_at lw_m2 29 rfl) rfl
theorem q372 : (Jvm.Cond.fieldLink "SnailPost$Lantern" (38 : Nat) "SnailPost$Lantern" "madeHours" "I") ∈ lw_all := lw_g (lw_at lw_m2 30 rfl) rfl
theorem q373 : (Jvm.Cond.fieldLink "SnailPost$Lantern" (41 : Nat) "SnailPost$Lantern" "madeSnails" "I") ∈ lw_all := lw_g (lw_at lw_m2 31 rfl) rfl
theorem q374 : (Jvm.Cond.fieldLink "SnailPost$Lantern" (44 : Nat) "SnailPost$Lantern" "hours" "I") ∈ lw_all := lw_g (lw_at lw_m2 32 rfl) rfl
theorem q375 : (Jvm.Cond.fieldLink "SnailPost$Lantern" (47 : Nat) "SnailPost$Lantern" "snails" "I") ∈ lw_all := lw_g (lw_at lw_m2 33 rfl) rfl
theorem q376 : (Jvm.Cond.fieldLink "SnailPost$Lantern" (91 : Nat) "SnailPost$Lantern" "most" "I") ∈ lw_all := lw_g (lw_at lw_m2 34 rfl) rfl
theorem q378 : (Jvm.Cond.fieldLink "SnailPost$Lantern" (94 : Nat) "SnailPost$Lantern" "least" "I") ∈ lw_all := lw_g (lw_at lw_m2 36 rfl) rfl
theorem q380 : (Jvm.Cond.fieldLink "SnailPost$Lantern" (50 : Nat) "SnailPost$Lantern" "many" "I") ∈ lw_all := lw_g (lw_at lw_m2 38 rfl) rfl
theorem q382 : (Jvm.Cond.fieldLink "SnailPost$Lantern" (3 : Nat) "SnailPost$Lantern" "this$0" "LSnailPost;") ∈ lw_all := lw_g (lw_at lw_m2 40 rfl) rfl
theorem q383 : (Jvm.Cond.laysFinal "SnailPost$Lantern" "SnailPost$Lantern" "walks" "[LSnailPost$Walk;") ∈ lw_all := lw_g (lw_at lw_m2 41 rfl) rfl
theorem q384 : (Jvm.Cond.soleField "SnailPost$Lantern" "walks") ∈ lw_all := lw_g (lw_at lw_m2 42 rfl) rfl
theorem q385 : (Jvm.Cond.laysFinal "SnailPost$Lantern" "SnailPost$Lantern" "row" "[I") ∈ lw_all := lw_g (lw_at lw_m2 43 rfl) rfl
theorem q386 : (Jvm.Cond.soleField "SnailPost$Lantern" "row") ∈ lw_all := lw_g (lw_at lw_m2 44 rfl) rfl
theorem q387 : (Jvm.Cond.laysFinal "SnailPost$Lantern" "SnailPost$Lantern" "first" "[I") ∈ lw_all := lw_g (lw_at lw_m2 45 rfl) rfl
theorem q388 : (Jvm.Cond.soleField "SnailPost$Lantern" "first") ∈ lw_all := lw_g (lw_at lw_m2 46 rfl) rfl
theorem q389 : (Jvm.Cond.lays "SnailPost$Lantern" "SnailPost$Lantern" "made" "I") ∈ lw_all := lw_g (lw_at lw_m2 47 rfl) rfl
theorem q390 : (Jvm.Cond.soleField "SnailPost$Lantern" "made") ∈ lw_all := lw_g (lw_at lw_m2 48 rfl) rfl
theorem q391 : (Jvm.Cond.lays "SnailPost$Lantern" "SnailPost$Lantern" "madeHours" "I") ∈ lw_all := lw_g (lw_at lw_m2 49 rfl) rfl
theorem q392 : (Jvm.Cond.soleField "SnailPost$Lantern" "madeHours") ∈ lw_all := lw_g (lw_at lw_m2 50 rfl) rfl
theorem q393 : (Jvm.Cond.lays "SnailPost$Lantern" "SnailPost$Lantern" "madeSnails" "I") ∈ lw_all := lw_g (lw_at lw_m2 51 rfl) rfl
theorem q394 : (Jvm.Cond.soleField "SnailPost$Lantern" "madeSnails") ∈ lw_all := lw_g (lw_at lw_m2 52 rfl) rfl
theorem q395 : (Jvm.Cond.lays "SnailPost$Lantern" "SnailPost$Lantern" "hours" "I") ∈ lw_all := lw_g (lw_at lw_m2 53 rfl) rfl
theorem q396 : (Jvm.Cond.soleField "SnailPost$Lantern" "hours") ∈ lw_all := lw_g (lw_at lw_m2 54 rfl) rfl
theorem q397 : (Jvm.Cond.lays "SnailPost$Lantern" "SnailPost$Lantern" "snails" "I") ∈ lw_all := lw_g (lw_at lw_m2 55 rfl) rfl
theorem q398 : (Jvm.Cond.soleField "SnailPost$Lantern" "snails") ∈ lw_all := lw_g (lw_at lw_m2 56 rfl) rfl
theorem q399 : (Jvm.Cond.lays "SnailPost$Lantern" "SnailPost$Lantern" "most" "I") ∈ lw_all := lw_g (lw_at lw_m2 57 rfl) rfl
theorem q400 : (Jvm.Cond.soleField "SnailPost$Lantern" "most") ∈ lw_all := lw_g (lw_at lw_m2 58 rfl) rfl
theorem q401 : (Jvm.Cond.lays "SnailPost$Lantern" "SnailPost$Lantern" "least" "I") ∈ lw_all := lw_g (lw_at lw_m2 59 rfl) rfl
theorem q402 : (Jvm.Cond.soleField "SnailPost$Lantern" "least") ∈ lw_all := lw_g (lw_at lw_m2 60 rfl) rfl
theorem q403 : (Jvm.Cond.lays "SnailPost$Lantern" "SnailPost$Lantern" "many" "I") ∈ lw_all := lw_g (lw_at lw_m2 61 rfl) rfl
theorem q404 : (Jvm.Cond.soleField "SnailPost$Lantern" "many") ∈ lw_all := lw_g (lw_at lw_m2 62 rfl) rfl
theorem q405 : (Jvm.Cond.laysFinal "SnailPost$Lantern" "SnailPost$Lantern" "this$0" "LSnailPost;") ∈ lw_all := lw_g (lw_at lw_m2 63 rfl) rfl
theorem q406 : (Jvm.Cond.soleField "SnailPost$Lantern" "this$0") ∈ lw_all := lw_g (lw_at lw_m2 64 rfl) rfl
theorem q407 : (Jvm.Cond.superclass "SnailPost$Lantern" "java/lang/Object") ∈ lw_all := lw_g (lw_at lw_m2 65 rfl) rfl
theorem q486 : (Jvm.Cond.fieldLinkNest "SnailPost$Lantern" (64 : Nat) "SnailPost" "state" "LSnailPost$State;" "SnailPost") ∈ lw_tbl := lw_at lw_m2 144 rfl
theorem q492 : (Jvm.Cond.fieldLinkNest "SnailPost$Lantern" (35 : Nat) "SnailPost" "version" "I" "SnailPost") ∈ lw_tbl := lw_at lw_m2 150 rfl
theorem q624 : (Jvm.Cond.selects "SnailPost$Lantern" ({ cls := "java/lang/Object", name := "getClass", desc := "()Ljava/lang/Class;" } : Jvm.MethodName) ({ cls := "java/lang/Object", name := "getClass", desc := "()Ljava/lang/Class;" } : Jvm.MethodName)) ∈ lw_all := lw_g (lw_at lw_m3 42 rfl) rfl
theorem q1239 : (Jvm.Cond.instanceMethod ({ cls := "SnailPost$Lantern", name := "looks", desc := "(II)V" } : Jvm.MethodName)) ∈ lw_all := lw_g (lw_at lw_m5 177 rfl) rfl
theorem q1240 : (Jvm.Cond.selects "SnailPost$Lantern" ({ cls := "SnailPost$Lantern", name := "looks", desc := "(II)V" } : Jvm.MethodName) ({ cls := "SnailPost$Lantern", name := "looks", desc := "(II)V" } : Jvm.MethodName)) ∈ lw_all := lw_g (lw_at lw_m5 178 rfl) rfl
theorem q1241 : (Jvm.Cond.code ({ cls := "SnailPost$Lantern", name := "looks", desc := "(II)V" } : Jvm.MethodName) prog_6_method_2_code (3 : Nat) (Option.none : Option Jvm.ClassFile.FieldType)) ∈ lw_all := lw_g (lw_at lw_m5 179 rfl) rfl
theorem q1242 : (Jvm.Cond.methodLink "SnailPost$Lantern" (53 : Nat) ({ cls := "SnailPost$Walk", name := "begins", desc := "()V" } : Jvm.MethodName)) ∈ lw_all := lw_g (lw_at lw_m5 180 rfl) rfl
theorem q1243 : (Jvm.Cond.methodLink "SnailPost$Lantern" (56 : Nat) ({ cls := "SnailPost$Lantern", name := "tries", desc := "(I)V" } : Jvm.MethodName)) ∈ lw_all := lw_g (lw_at lw_m5 181 rfl) rfl
theorem q1244 : (Jvm.Cond.privateMethod ({ cls := "SnailPost$Lantern", name := "tries", desc := "(I)V" } : Jvm.MethodName)) ∈ lw_tbl := lw_at lw_m5 182 rfl
theorem q1245 : (Jvm.Cond.instanceMethod ({ cls := "SnailPost$Lantern", name := "tries", desc := "(I)V" } : Jvm.MethodName)) ∈ lw_all := lw_g (lw_at lw_m5 183 rfl) rfl
theorem q1246 : (Jvm.Cond.code ({ cls := "SnailPost$Lantern", name := "tries", desc := "(I)V" } : Jvm.MethodName) prog_6_method_3_code (3 : Nat) (Option.none : Option Jvm.ClassFile.FieldType)) ∈ lw_all := lw_g (lw_at lw_m5 184 rfl) rfl
theorem q1247 : (Jvm.Cond.methodLink "SnailPost$Lantern" (60 : Nat) ({ cls := "SnailPost$Lantern", name := "ends", desc := "(LSnailPost$Walk;)V" } : Jvm.MethodName)) ∈ lw_all := lw_g (lw_at lw_m5 185 rfl) rfl
theorem q1248 : (Jvm.Cond.privateMethod ({ cls := "SnailPost$Lantern", name := "ends", desc := "(LSnailPost$Walk;)V" } : Jvm.MethodName)) ∈ lw_tbl := lw_at lw_m5 186 rfl
theorem q1249 : (Jvm.Cond.instanceMethod ({ cls := "SnailPost$Lantern", name := "ends", desc := "(LSnailPost$Walk;)V" } : Jvm.MethodName)) ∈ lw_all := lw_g (lw_at lw_m5 187 rfl) rfl
theorem q1250 : (Jvm.Cond.code ({ cls := "SnailPost$Lantern", name := "ends", desc := "(LSnailPost$Walk;)V" } : Jvm.MethodName) prog_6_method_5_code (5 : Nat) (Option.none : Option Jvm.ClassFile.FieldType)) ∈ lw_all := lw_g (lw_at lw_m5 188 rfl) rfl
theorem q1251 : (Jvm.Cond.methodLinkNest "SnailPost$Lantern" (84 : Nat) ({ cls := "SnailPost", name := "isOf", desc := "(II)Z" } : Jvm.MethodName) "SnailPost") ∈ lw_tbl := lw_at lw_m5 189 rfl
theorem q1252 : (Jvm.Cond.methodLink "SnailPost$Lantern" (97 : Nat) ({ cls := "java/lang/System", name := "arraycopy", desc := "(Ljava/lang/Object;ILjava/lang/Object;II)V" } : Jvm.MethodName)) ∈ lw_all := lw_g (lw_at lw_m5 190 rfl) rfl
theorem q1253 : (Jvm.Cond.methodLink "SnailPost$Lantern" (73 : Nat) ({ cls := "SnailPost$Lantern", name := "goes", desc := "(II)V" } : Jvm.MethodName)) ∈ lw_all := lw_g (lw_at lw_m5 191 rfl) rfl
theorem q1254 : (Jvm.Cond.privateMethod ({ cls := "SnailPost$Lantern", name := "goes", desc := "(II)V" } : Jvm.MethodName)) ∈ lw_tbl := lw_at lw_m5 192 rfl
theorem q1255 : (Jvm.Cond.instanceMethod ({ cls := "SnailPost$Lantern", name := "goes", desc := "(II)V" } : Jvm.MethodName)) ∈ lw_all := lw_g (lw_at lw_m5 193 rfl) rfl
theorem q1256 : (Jvm.Cond.code ({ cls := "SnailPost$Lantern", name := "goes", desc := "(II)V" } : Jvm.MethodName) prog_6_method_4_code (3 : Nat) (Option.none : Option Jvm.ClassFile.FieldType)) ∈ lw_all := lw_g (lw_at lw_m5 194 rfl) rfl
theorem q1257 : (Jvm.Cond.methodLink "SnailPost$Lantern" (77 : Nat) ({ cls := "SnailPost$Walk", name := "takes", desc := "(LSnailPost$Walk;)V" } : Jvm.MethodName)) ∈ lw_all := lw_g (lw_at lw_m5 195 rfl) rfl
theorem q1262 : (Jvm.Cond.methodLink "SnailPost$Lantern" (80 : Nat) ({ cls := "SnailPost$Walk", name := "hour", desc := "(II)V" } : Jvm.MethodName)) ∈ lw_all := lw_g (lw_at lw_m5 200 rfl) rfl
theorem q1276 : (Jvm.Cond.instanceMethod ({ cls := "SnailPost$Lantern", name := "duel", desc := "(III)I" } : Jvm.MethodName)) ∈ lw_all := lw_g (lw_at lw_m5 214 rfl) rfl
theorem q1277 : (Jvm.Cond.selects "SnailPost$Lantern" ({ cls := "SnailPost$Lantern", name := "duel", desc := "(III)I" } : Jvm.MethodName) ({ cls := "SnailPost$Lantern", name := "duel", desc := "(III)I" } : Jvm.MethodName)) ∈ lw_all := lw_g (lw_at lw_m5 215 rfl) rfl
theorem q1278 : (Jvm.Cond.code ({ cls := "SnailPost$Lantern", name := "duel", desc := "(III)I" } : Jvm.MethodName) prog_6_method_6_code (7 : Nat) (Option.some Jvm.ClassFile.FieldType.int)) ∈ lw_all := lw_g (lw_at lw_m5 216 rfl) rfl
theorem q1279 : (Jvm.Cond.methodLinkNest "SnailPost$Lantern" (106 : Nat) ({ cls := "SnailPost", name := "of0", desc := "(II)I" } : Jvm.MethodName) "SnailPost") ∈ lw_tbl := lw_at lw_m5 217 rfl
theorem q1280 : (Jvm.Cond.methodLinkNest "SnailPost$Lantern" (110 : Nat) ({ cls := "SnailPost", name := "apart", desc := "(II)I" } : Jvm.MethodName) "SnailPost") ∈ lw_tbl := lw_at lw_m5 218 rfl
theorem q1281 : (Jvm.Cond.methodLink "SnailPost$Lantern" (113 : Nat) ({ cls := "SnailPost$Lantern", name := "duel", desc := "(III)I" } : Jvm.MethodName)) ∈ lw_all := lw_g (lw_at lw_m5 219 rfl) rfl
theorem q2080 : (Jvm.Cond.castable "SnailPost$Lantern" "java/lang/Object") ∈ lw_tbl := lw_at lw_m9 58 rfl
theorem in_X5 : ∀ w ∈ wsX50, w ∈ lw_all := lw_in wsX50 [383, 385, 387, 389, 391, 393, 395, 397, 399, 401, 403, 405] (by decide +kernel) (by decide +kernel)
/-! SnailPost$Span -/
set_option maxRecDepth 100000
def RX6 : String := "SnailPost$Span"
def TX6 : u_T := fun k => match k with
  | _ => ("SnailPost$Span", "kept", "[I", true)
def tyX6 : Nat → FieldType := fun k => match k with
  | _ => .array .int
abbrev wsX60 : List Cond := u_ws RX6 TX6 1
theorem nmX6 : ∀ a, a < 1 → ∀ b, b < 1 → a ≠ b → (TX6 a).2.1 ≠ (TX6 b).2.1 := by decide +kernel
theorem tyX6_ok : ∀ k, k < 1 → parseFieldDescriptor (TX6 k).2.2.1 = some (tyX6 k) := by decide +kernel
abbrev cX6_init : ByteArray := prog_15_method_1_code
def yX6_init : MethodName := ⟨RX6, "<init>", "()V"⟩
def dkwX6_init_0 : List UInt8 := [42, 183, 0, 3, 42, 16, 6, 188, 10, 181, 0, 9, 177]
abbrev dktX6_init_0 : List UInt8 := dkwX6_init_0 ++ []
theorem dksX6_init_0 : cX6_init.data.toList.drop 0 = dktX6_init_0 := by decide +kernel
theorem dX6_init_0 : decode cX6_init 0 = .ok (.aload_n 0, 1) := dk_42 (dk_at dksX6_init_0 0 rfl rfl)
theorem dX6_init_1 : decode cX6_init 1 = .ok (.invokespecial 3, 3) := dk_183 0 3 (dk_at dksX6_init_0 1 rfl rfl)
theorem dX6_init_4 : decode cX6_init 4 = .ok (.aload_n 0, 1) := dk_42 (dk_at dksX6_init_0 4 rfl rfl)
theorem dX6_init_5 : decode cX6_init 5 = .ok (.bipush 6, 2) := dk_16 6 (dk_at dksX6_init_0 5 rfl rfl)
theorem dX6_init_7 : decode cX6_init 7 = .ok (.newarray .int, 2) := dk_188_10 (dk_at dksX6_init_0 7 rfl rfl)
theorem dX6_init_9 : decode cX6_init 9 = .ok (.putfield 9, 3) := dk_181 0 9 (dk_at dksX6_init_0 9 rfl rfl)
theorem dX6_init_12 : decode cX6_init 12 = .ok (.return_, 1) := dk_177 (dk_at dksX6_init_0 12 rfl rfl)
abbrev cX6_clears : ByteArray := prog_15_method_2_code
def yX6_clears : MethodName := ⟨RX6, "clears", "()V"⟩
def dkwX6_clears_0 : List UInt8 := [3, 60, 27, 16, 6, 162, 0, 16, 42, 180, 0, 9, 27, 3, 79, 132, 1, 1, 167, 255, 240, 177]
abbrev dktX6_clears_0 : List UInt8 := dkwX6_clears_0 ++ []
theorem dksX6_clears_0 : cX6_clears.data.toList.drop 0 = dktX6_clears_0 := by decide +kernel
theorem dX6_clears_0 : decode cX6_clears 0 = .ok (.iconst 0, 1) := dk_3 (dk_at dksX6_clears_0 0 rfl rfl)
theorem dX6_clears_1 : decode cX6_clears 1 = .ok (.istore_n 1, 1) := dk_60 (dk_at dksX6_clears_0 1 rfl rfl)
theorem dX6_clears_2 : decode cX6_clears 2 = .ok (.iload_n 1, 1) := dk_27 (dk_at dksX6_clears_0 2 rfl rfl)
theorem dX6_clears_3 : decode cX6_clears 3 = .ok (.bipush 6, 2) := dk_16 6 (dk_at dksX6_clears_0 3 rfl rfl)
theorem dX6_clears_5 : decode cX6_clears 5 = .ok (.if_icmp .ge 16, 3) := dk_162 0 16 (dk_at dksX6_clears_0 5 rfl rfl)
theorem dX6_clears_8 : decode cX6_clears 8 = .ok (.aload_n 0, 1) := dk_42 (dk_at dksX6_clears_0 8 rfl rfl)
theorem dX6_clears_9 : decode cX6_clears 9 = .ok (.getfield 9, 3) := dk_180 0 9 (dk_at dksX6_clears_0 9 rfl rfl)
theorem dX6_clears_12 : decode cX6_clears 12 = .ok (.iload_n 1, 1) := dk_27 (dk_at dksX6_clears_0 12 rfl rfl)
theorem dX6_clears_13 : decode cX6_clears 13 = .ok (.iconst 0, 1) := dk_3 (dk_at dksX6_clears_0 13 rfl rfl)
theorem dX6_clears_14 : decode cX6_clears 14 = .ok (.iastore, 1) := dk_79 (dk_at dksX6_clears_0 14 rfl rfl)
theorem dX6_clears_15 : decode cX6_clears 15 = .ok (.iinc 1 1, 3) := dk_132 1 1 (dk_at dksX6_clears_0 15 rfl rfl)
theorem dX6_clears_18 : decode cX6_clears 18 = .ok (.goto (-16), 3) := dk_167 255 240 (dk_at dksX6_clears_0 18 rfl rfl)
theorem dX6_clears_21 : decode cX6_clears 21 = .ok (.return_, 1) := dk_177 (dk_at dksX6_clears_0 21 rfl rfl)
abbrev cX6_adds : ByteArray := prog_15_method_4_code
def yX6_adds : MethodName := ⟨RX6, "adds", "(I)V"⟩
def dkwX6_adds_0 : List UInt8 := [42, 27, 182, 0, 19, 61, 28, 153, 0, 16, 42, 180, 0, 9, 16, 31, 28, 184, 0, 23, 100, 28, 79, 177]
abbrev dktX6_adds_0 : List UInt8 := dkwX6_adds_0 ++ []
theorem dksX6_adds_0 : cX6_adds.data.toList.drop 0 = dktX6_adds_0 := by decide +kernel
theorem dX6_adds_0 : decode cX6_adds 0 = .ok (.aload_n 0, 1) := dk_42 (dk_at dksX6_adds_0 0 rfl rfl)
theorem dX6_adds_1 : decode cX6_adds 1 = .ok (.iload_n 1, 1) := dk_27 (dk_at dksX6_adds_0 1 rfl rfl)
theorem dX6_adds_2 : decode cX6_adds 2 = .ok (.invokevirtual 19, 3) := dk_182 0 19 (dk_at dksX6_adds_0 2 rfl rfl)
theorem dX6_adds_5 : decode cX6_adds 5 = .ok (.istore_n 2, 1) := dk_61 (dk_at dksX6_adds_0 5 rfl rfl)
theorem dX6_adds_6 : decode cX6_adds 6 = .ok (.iload_n 2, 1) := dk_28 (dk_at dksX6_adds_0 6 rfl rfl)
theorem dX6_adds_7 : decode cX6_adds 7 = .ok (.ifCond .eq 16, 3) := dk_153 0 16 (dk_at dksX6_adds_0 7 rfl rfl)
theorem dX6_adds_10 : decode cX6_adds 10 = .ok (.aload_n 0, 1) := dk_42 (dk_at dksX6_adds_0 10 rfl rfl)
theorem dX6_adds_11 : decode cX6_adds 11 = .ok (.getfield 9, 3) := dk_180 0 9 (dk_at dksX6_adds_0 11 rfl rfl)
theorem dX6_adds_14 : decode cX6_adds 14 = .ok (.bipush 31, 2) := dk_16 31 (dk_at dksX6_adds_0 14 rfl rfl)
theorem dX6_adds_16 : decode cX6_adds 16 = .ok (.iload_n 2, 1) := dk_28 (dk_at dksX6_adds_0 16 rfl rfl)
theorem dX6_adds_17 : decode cX6_adds 17 = .ok (.invokestatic 23, 3) := dk_184 0 23 (dk_at dksX6_adds_0 17 rfl rfl)
theorem dX6_adds_20 : decode cX6_adds 20 = .ok (.isub, 1) := dk_100 (dk_at dksX6_adds_0 20 rfl rfl)
theorem dX6_adds_21 : decode cX6_adds 21 = .ok (.iload_n 2, 1) := dk_28 (dk_at dksX6_adds_0 21 rfl rfl)
theorem dX6_adds_22 : decode cX6_adds 22 = .ok (.iastore, 1) := dk_79 (dk_at dksX6_adds_0 22 rfl rfl)
theorem dX6_adds_23 : decode cX6_adds 23 = .ok (.return_, 1) := dk_177 (dk_at dksX6_adds_0 23 rfl rfl)
abbrev cX6_left : ByteArray := prog_15_method_3_code
def yX6_left : MethodName := ⟨RX6, "left", "(I)I"⟩
def dkwX6_left_1 : List UInt8 := [153, 0, 12, 28, 42, 180, 0, 9, 29, 46, 130, 61, 132, 3, 255, 167, 255, 223, 28, 172]
abbrev dktX6_left_1 : List UInt8 := dkwX6_left_1 ++ []
def dkwX6_left_0 : List UInt8 := [27, 61, 8, 62, 29, 155, 0, 35, 28, 29, 184, 0, 15, 153, 0, 21, 42, 180, 0, 9, 29, 46]
abbrev dktX6_left_0 : List UInt8 := dkwX6_left_0 ++ dktX6_left_1
theorem dksX6_left_0 : cX6_left.data.toList.drop 0 = dktX6_left_0 := by decide +kernel
theorem dksX6_left_1 : cX6_left.data.toList.drop 22 = dktX6_left_1 := dk_seg dksX6_left_0 22 rfl rfl
theorem dX6_left_0 : decode cX6_left 0 = .ok (.iload_n 1, 1) := dk_27 (dk_at dksX6_left_0 0 rfl rfl)
theorem dX6_left_1 : decode cX6_left 1 = .ok (.istore_n 2, 1) := dk_61 (dk_at dksX6_left_0 1 rfl rfl)
theorem dX6_left_2 : decode cX6_left 2 = .ok (.iconst 5, 1) := dk_8 (dk_at dksX6_left_0 2 rfl rfl)
theorem dX6_left_3 : decode cX6_left 3 = .ok (.istore_n 3, 1) := dk_62 (dk_at dksX6_left_0 3 rfl rfl)
theorem dX6_left_4 : decode cX6_left 4 = .ok (.iload_n 3, 1) := dk_29 (dk_at dksX6_left_0 4 rfl rfl)
theorem dX6_left_5 : decode cX6_left 5 = .ok (.ifCond .lt 35, 3) := dk_155 0 35 (dk_at dksX6_left_0 5 rfl rfl)
theorem dX6_left_8 : decode cX6_left 8 = .ok (.iload_n 2, 1) := dk_28 (dk_at dksX6_left_0 8 rfl rfl)
theorem dX6_left_9 : decode cX6_left 9 = .ok (.iload_n 3, 1) := dk_29 (dk_at dksX6_left_0 9 rfl rfl)
theorem dX6_left_10 : decode cX6_left 10 = .ok (.invokestatic 15, 3) := dk_184 0 15 (dk_at dksX6_left_0 10 rfl rfl)
theorem dX6_left_13 : decode cX6_left 13 = .ok (.ifCond .eq 21, 3) := dk_153 0 21 (dk_at dksX6_left_0 13 rfl rfl)
theorem dX6_left_16 : decode cX6_left 16 = .ok (.aload_n 0, 1) := dk_42 (dk_at dksX6_left_0 16 rfl rfl)
theorem dX6_left_17 : decode cX6_left 17 = .ok (.getfield 9, 3) := dk_180 0 9 (dk_at dksX6_left_0 17 rfl rfl)
theorem dX6_left_20 : decode cX6_left 20 = .ok (.iload_n 3, 1) := dk_29 (dk_at dksX6_left_0 20 rfl rfl)
theorem dX6_left_21 : decode cX6_left 21 = .ok (.iaload, 1) := dk_46 (dk_at dksX6_left_0 21 rfl rfl)
theorem dX6_left_22 : decode cX6_left 22 = .ok (.ifCond .eq 12, 3) := dk_153 0 12 (dk_at dksX6_left_1 0 rfl rfl)
theorem dX6_left_25 : decode cX6_left 25 = .ok (.iload_n 2, 1) := dk_28 (dk_at dksX6_left_1 3 rfl rfl)
theorem dX6_left_26 : decode cX6_left 26 = .ok (.aload_n 0, 1) := dk_42 (dk_at dksX6_left_1 4 rfl rfl)
theorem dX6_left_27 : decode cX6_left 27 = .ok (.getfield 9, 3) := dk_180 0 9 (dk_at dksX6_left_1 5 rfl rfl)
theorem dX6_left_30 : decode cX6_left 30 = .ok (.iload_n 3, 1) := dk_29 (dk_at dksX6_left_1 8 rfl rfl)
theorem dX6_left_31 : decode cX6_left 31 = .ok (.iaload, 1) := dk_46 (dk_at dksX6_left_1 9 rfl rfl)
theorem dX6_left_32 : decode cX6_left 32 = .ok (.ixor, 1) := dk_130 (dk_at dksX6_left_1 10 rfl rfl)
theorem dX6_left_33 : decode cX6_left 33 = .ok (.istore_n 2, 1) := dk_61 (dk_at dksX6_left_1 11 rfl rfl)
theorem dX6_left_34 : decode cX6_left 34 = .ok (.iinc 3 (-1), 3) := dk_132 3 255 (dk_at dksX6_left_1 12 rfl rfl)
theorem dX6_left_37 : decode cX6_left 37 = .ok (.goto (-33), 3) := dk_167 255 223 (dk_at dksX6_left_1 15 rfl rfl)
theorem dX6_left_40 : decode cX6_left 40 = .ok (.iload_n 2, 1) := dk_28 (dk_at dksX6_left_1 18 rfl rfl)
theorem dX6_left_41 : decode cX6_left 41 = .ok (.ireturn, 1) := dk_172 (dk_at dksX6_left_1 19 rfl rfl)
abbrev cX6_tells : ByteArray := prog_15_method_5_code
def yX6_tells : MethodName := ⟨RX6, "tells", "(I)Z"⟩
def dkwX6_tells_1 : List UInt8 := [167, 255, 236, 4, 172]
abbrev dktX6_tells_1 : List UInt8 := dkwX6_tells_1 ++ []
def dkwX6_tells_0 : List UInt8 := [3, 61, 28, 27, 162, 0, 21, 42, 4, 28, 120, 182, 0, 19, 153, 0, 5, 3, 172, 132, 2, 1]
abbrev dktX6_tells_0 : List UInt8 := dkwX6_tells_0 ++ dktX6_tells_1
theorem dksX6_tells_0 : cX6_tells.data.toList.drop 0 = dktX6_tells_0 := by decide +kernel
theorem dksX6_tells_1 : cX6_tells.data.toList.drop 22 = dktX6_tells_1 := dk_seg dksX6_tells_0 22 rfl rfl
theorem dX6_tells_0 : decode cX6_tells 0 = .ok (.iconst 0, 1) := dk_3 (dk_at dksX6_tells_0 0 rfl rfl)
theorem dX6_tells_1 : decode cX6_tells 1 = .ok (.istore_n 2, 1) := dk_61 (dk_at dksX6_tells_0 1 rfl rfl)
theorem dX6_tells_2 : decode cX6_tells 2 = .ok (.iload_n 2, 1) := dk_28 (dk_at dksX6_tells_0 2 rfl rfl)
theorem dX6_tells_3 : decode cX6_tells 3 = .ok (.iload_n 1, 1) := dk_27 (dk_at dksX6_tells_0 3 rfl rfl)
theorem dX6_tells_4 : decode cX6_tells 4 = .ok (.if_icmp .ge 21, 3) := dk_162 0 21 (dk_at dksX6_tells_0 4 rfl rfl)
theorem dX6_tells_7 : decode cX6_tells 7 = .ok (.aload_n 0, 1) := dk_42 (dk_at dksX6_tells_0 7 rfl rfl)
theorem dX6_tells_8 : decode cX6_tells 8 = .ok (.iconst 1, 1) := dk_4 (dk_at dksX6_tells_0 8 rfl rfl)
theorem dX6_tells_9 : decode cX6_tells 9 = .ok (.iload_n 2, 1) := dk_28 (dk_at dksX6_tells_0 9 rfl rfl)
theorem dX6_tells_10 : decode cX6_tells 10 = .ok (.ishl, 1) := dk_120 (dk_at dksX6_tells_0 10 rfl rfl)
theorem dX6_tells_11 : decode cX6_tells 11 = .ok (.invokevirtual 19, 3) := dk_182 0 19 (dk_at dksX6_tells_0 11 rfl rfl)
theorem dX6_tells_14 : decode cX6_tells 14 = .ok (.ifCond .eq 5, 3) := dk_153 0 5 (dk_at dksX6_tells_0 14 rfl rfl)
theorem dX6_tells_17 : decode cX6_tells 17 = .ok (.iconst 0, 1) := dk_3 (dk_at dksX6_tells_0 17 rfl rfl)
theorem dX6_tells_18 : decode cX6_tells 18 = .ok (.ireturn, 1) := dk_172 (dk_at dksX6_tells_0 18 rfl rfl)
theorem dX6_tells_19 : decode cX6_tells 19 = .ok (.iinc 2 1, 3) := dk_132 2 1 (dk_at dksX6_tells_0 19 rfl rfl)
theorem dX6_tells_22 : decode cX6_tells 22 = .ok (.goto (-20), 3) := dk_167 255 236 (dk_at dksX6_tells_1 0 rfl rfl)
theorem dX6_tells_25 : decode cX6_tells 25 = .ok (.iconst 1, 1) := dk_4 (dk_at dksX6_tells_1 3 rfl rfl)
theorem dX6_tells_26 : decode cX6_tells 26 = .ok (.ireturn, 1) := dk_172 (dk_at dksX6_tells_1 4 rfl rfl)
theorem q114 : (Jvm.Cond.initialized "SnailPost$Span") ∈ lw_all := lw_g (lw_at lw_m1 12 rfl) rfl
theorem q409 : (Jvm.Cond.instantiable "SnailPost$Span" (1 : Nat)) ∈ lw_all := lw_g (lw_at lw_m2 67 rfl) rfl
theorem q411 : (Jvm.Cond.instanceMethod ({ cls := "SnailPost$Span", name := "<init>", desc := "()V" } : Jvm.MethodName)) ∈ lw_all := lw_g (lw_at lw_m2 69 rfl) rfl
theorem q412 : (Jvm.Cond.code ({ cls := "SnailPost$Span", name := "<init>", desc := "()V" } : Jvm.MethodName) prog_15_method_1_code (1 : Nat) (Option.none : Option Jvm.ClassFile.FieldType)) ∈ lw_all := lw_g (lw_at lw_m2 70 rfl) rfl
theorem q413 : (Jvm.Cond.methodLink "SnailPost$Span" (3 : Nat) ({ cls := "java/lang/Object", name := "<init>", desc := "()V" } : Jvm.MethodName)) ∈ lw_all := lw_g (lw_at lw_m2 71 rfl) rfl
theorem q414 : (Jvm.Cond.fieldLink "SnailPost$Span" (9 : Nat) "SnailPost$Span" "kept" "[I") ∈ lw_all := lw_g (lw_at lw_m2 72 rfl) rfl
theorem q415 : (Jvm.Cond.laysFinal "SnailPost$Span" "SnailPost$Span" "kept" "[I") ∈ lw_all := lw_g (lw_at lw_m2 73 rfl) rfl
theorem q416 : (Jvm.Cond.soleField "SnailPost$Span" "kept") ∈ lw_all := lw_g (lw_at lw_m2 74 rfl) rfl
theorem q417 : (Jvm.Cond.superclass "SnailPost$Span" "java/lang/Object") ∈ lw_all := lw_g (lw_at lw_m2 75 rfl) rfl
theorem q633 : (Jvm.Cond.selects "SnailPost$Span" ({ cls := "java/lang/Object", name := "getClass", desc := "()Ljava/lang/Class;" } : Jvm.MethodName) ({ cls := "java/lang/Object", name := "getClass", desc := "()Ljava/lang/Class;" } : Jvm.MethodName)) ∈ lw_all := lw_g (lw_at lw_m3 51 rfl) rfl
theorem q1291 : (Jvm.Cond.instanceMethod ({ cls := "SnailPost$Span", name := "clears", desc := "()V" } : Jvm.MethodName)) ∈ lw_all := lw_g (lw_at lw_m5 229 rfl) rfl
theorem q1292 : (Jvm.Cond.selects "SnailPost$Span" ({ cls := "SnailPost$Span", name := "clears", desc := "()V" } : Jvm.MethodName) ({ cls := "SnailPost$Span", name := "clears", desc := "()V" } : Jvm.MethodName)) ∈ lw_all := lw_g (lw_at lw_m5 230 rfl) rfl
theorem q1293 : (Jvm.Cond.code ({ cls := "SnailPost$Span", name := "clears", desc := "()V" } : Jvm.MethodName) prog_15_method_2_code (2 : Nat) (Option.none : Option Jvm.ClassFile.FieldType)) ∈ lw_all := lw_g (lw_at lw_m5 231 rfl) rfl
theorem q1296 : (Jvm.Cond.instanceMethod ({ cls := "SnailPost$Span", name := "adds", desc := "(I)V" } : Jvm.MethodName)) ∈ lw_all := lw_g (lw_at lw_m5 234 rfl) rfl
theorem q1297 : (Jvm.Cond.selects "SnailPost$Span" ({ cls := "SnailPost$Span", name := "adds", desc := "(I)V" } : Jvm.MethodName) ({ cls := "SnailPost$Span", name := "adds", desc := "(I)V" } : Jvm.MethodName)) ∈ lw_all := lw_g (lw_at lw_m5 235 rfl) rfl
theorem q1298 : (Jvm.Cond.code ({ cls := "SnailPost$Span", name := "adds", desc := "(I)V" } : Jvm.MethodName) prog_15_method_4_code (3 : Nat) (Option.none : Option Jvm.ClassFile.FieldType)) ∈ lw_all := lw_g (lw_at lw_m5 236 rfl) rfl
theorem q1299 : (Jvm.Cond.methodLink "SnailPost$Span" (19 : Nat) ({ cls := "SnailPost$Span", name := "left", desc := "(I)I" } : Jvm.MethodName)) ∈ lw_all := lw_g (lw_at lw_m5 237 rfl) rfl
theorem q1300 : (Jvm.Cond.privateMethod ({ cls := "SnailPost$Span", name := "left", desc := "(I)I" } : Jvm.MethodName)) ∈ lw_tbl := lw_at lw_m5 238 rfl
theorem q1301 : (Jvm.Cond.instanceMethod ({ cls := "SnailPost$Span", name := "left", desc := "(I)I" } : Jvm.MethodName)) ∈ lw_all := lw_g (lw_at lw_m5 239 rfl) rfl
theorem q1302 : (Jvm.Cond.code ({ cls := "SnailPost$Span", name := "left", desc := "(I)I" } : Jvm.MethodName) prog_15_method_3_code (4 : Nat) (Option.some Jvm.ClassFile.FieldType.int)) ∈ lw_all := lw_g (lw_at lw_m6 0 rfl) rfl
theorem q1303 : (Jvm.Cond.methodLinkNest "SnailPost$Span" (15 : Nat) ({ cls := "SnailPost", name := "isOf", desc := "(II)Z" } : Jvm.MethodName) "SnailPost") ∈ lw_tbl := lw_at lw_m6 1 rfl
theorem q1304 : (Jvm.Cond.methodLink "SnailPost$Span" (23 : Nat) ({ cls := "java/lang/Integer", name := "numberOfLeadingZeros", desc := "(I)I" } : Jvm.MethodName)) ∈ lw_all := lw_g (lw_at lw_m6 2 rfl) rfl
theorem q1309 : (Jvm.Cond.instanceMethod ({ cls := "SnailPost$Span", name := "tells", desc := "(I)Z" } : Jvm.MethodName)) ∈ lw_all := lw_g (lw_at lw_m6 7 rfl) rfl
theorem q1310 : (Jvm.Cond.selects "SnailPost$Span" ({ cls := "SnailPost$Span", name := "tells", desc := "(I)Z" } : Jvm.MethodName) ({ cls := "SnailPost$Span", name := "tells", desc := "(I)Z" } : Jvm.MethodName)) ∈ lw_all := lw_g (lw_at lw_m6 8 rfl) rfl
theorem q1311 : (Jvm.Cond.code ({ cls := "SnailPost$Span", name := "tells", desc := "(I)Z" } : Jvm.MethodName) prog_15_method_5_code (3 : Nat) (Option.some Jvm.ClassFile.FieldType.boolean)) ∈ lw_all := lw_g (lw_at lw_m6 9 rfl) rfl
theorem q2081 : (Jvm.Cond.castable "SnailPost$Span" "java/lang/Object") ∈ lw_tbl := lw_at lw_m9 59 rfl
theorem in_X6 : ∀ w ∈ wsX60, w ∈ lw_all := lw_in wsX60 [415] (by decide +kernel) (by decide +kernel)
/-! SnailPost$Shells -/
set_option maxRecDepth 100000
def RX7 : String := "SnailPost$Shells"
def TX7 : u_T := fun k => match k with
  | 0 => ("SnailPost$Shells", "row", "[I", true)
  | 1 => ("SnailPost$Shells", "words", "I", false)
  | 2 => ("SnailPost$Shells", "losses", "I", false)
  | 3 => ("SnailPost$Shells", "size", "I", false)
  | 4 => ("SnailPost$Shells", "isFound", "Z", false)
  | _ => ("SnailPost$Shells", "this$0", "LSnailPost;", true)
def tyX7 : Nat → FieldType := fun k => match k with
  | 0 => .array .int
  | 1 => .int
  | 2 => .int
  | 3 => .int
  | 4 => .boolean
  | _ => .object "SnailPost"
abbrev wsX70 : List Cond := u_ws RX7 TX7 6
theorem nmX7 : ∀ a, a < 6 → ∀ b, b < 6 → a ≠ b → (TX7 a).2.1 ≠ (TX7 b).2.1 := by decide +kernel
theorem tyX7_ok : ∀ k, k < 6 → parseFieldDescriptor (TX7 k).2.2.1 = some (tyX7 k) := by decide +kernel
abbrev cX7_init : ByteArray := prog_14_method_1_code
def yX7_init : MethodName := ⟨RX7, "<init>", "(LSnailPost;)V"⟩
def dkwX7_init_0 : List UInt8 := [42, 43, 181, 0, 3, 42, 183, 0, 9, 42, 16, 6, 188, 10, 181, 0, 15, 177]
abbrev dktX7_init_0 : List UInt8 := dkwX7_init_0 ++ []
theorem dksX7_init_0 : cX7_init.data.toList.drop 0 = dktX7_init_0 := by decide +kernel
theorem dX7_init_0 : decode cX7_init 0 = .ok (.aload_n 0, 1) := dk_42 (dk_at dksX7_init_0 0 rfl rfl)
theorem dX7_init_1 : decode cX7_init 1 = .ok (.aload_n 1, 1) := dk_43 (dk_at dksX7_init_0 1 rfl rfl)
theorem dX7_init_2 : decode cX7_init 2 = .ok (.putfield 3, 3) := dk_181 0 3 (dk_at dksX7_init_0 2 rfl rfl)
theorem dX7_init_5 : decode cX7_init 5 = .ok (.aload_n 0, 1) := dk_42 (dk_at dksX7_init_0 5 rfl rfl)
theorem dX7_init_6 : decode cX7_init 6 = .ok (.invokespecial 9, 3) := dk_183 0 9 (dk_at dksX7_init_0 6 rfl rfl)
theorem dX7_init_9 : decode cX7_init 9 = .ok (.aload_n 0, 1) := dk_42 (dk_at dksX7_init_0 9 rfl rfl)
theorem dX7_init_10 : decode cX7_init 10 = .ok (.bipush 6, 2) := dk_16 6 (dk_at dksX7_init_0 10 rfl rfl)
theorem dX7_init_12 : decode cX7_init 12 = .ok (.newarray .int, 2) := dk_188_10 (dk_at dksX7_init_0 12 rfl rfl)
theorem dX7_init_14 : decode cX7_init 14 = .ok (.putfield 15, 3) := dk_181 0 15 (dk_at dksX7_init_0 14 rfl rfl)
theorem dX7_init_17 : decode cX7_init 17 = .ok (.return_, 1) := dk_177 (dk_at dksX7_init_0 17 rfl rfl)
abbrev cX7_finds : ByteArray := prog_14_method_2_code
def yX7_finds : MethodName := ⟨RX7, "finds", "(II)V"⟩
def dkwX7_finds_2 : List UInt8 := [180, 0, 30, 4, 100, 181, 0, 30, 177]
abbrev dktX7_finds_2 : List UInt8 := dkwX7_finds_2 ++ []
def dkwX7_finds_1 : List UInt8 := [154, 0, 22, 42, 3, 4, 182, 0, 33, 42, 89, 180, 0, 30, 4, 96, 181, 0, 30, 167, 255, 233, 42, 89]
abbrev dktX7_finds_1 : List UInt8 := dkwX7_finds_1 ++ dktX7_finds_2
def dkwX7_finds_0 : List UInt8 := [42, 27, 181, 0, 19, 42, 28, 181, 0, 23, 42, 3, 181, 0, 26, 42, 4, 181, 0, 30, 42, 180, 0, 26]
abbrev dktX7_finds_0 : List UInt8 := dkwX7_finds_0 ++ dktX7_finds_1
theorem dksX7_finds_0 : cX7_finds.data.toList.drop 0 = dktX7_finds_0 := by decide +kernel
theorem dksX7_finds_1 : cX7_finds.data.toList.drop 24 = dktX7_finds_1 := dk_seg dksX7_finds_0 24 rfl rfl
theorem dksX7_finds_2 : cX7_finds.data.toList.drop 48 = dktX7_finds_2 := dk_seg dksX7_finds_1 24 rfl rfl
theorem dX7_finds_0 : decode cX7_finds 0 = .ok (.aload_n 0, 1) := dk_42 (dk_at dksX7_finds_0 0 rfl rfl)
theorem dX7_finds_1 : decode cX7_finds 1 = .ok (.iload_n 1, 1) := dk_27 (dk_at dksX7_finds_0 1 rfl rfl)
theorem dX7_finds_2 : decode cX7_finds 2 = .ok (.putfield 19, 3) := dk_181 0 19 (dk_at dksX7_finds_0 2 rfl rfl)
theorem dX7_finds_5 : decode cX7_finds 5 = .ok (.aload_n 0, 1) := dk_42 (dk_at dksX7_finds_0 5 rfl rfl)
theorem dX7_finds_6 : decode cX7_finds 6 = .ok (.iload_n 2, 1) := dk_28 (dk_at dksX7_finds_0 6 rfl rfl)
theorem dX7_finds_7 : decode cX7_finds 7 = .ok (.putfield 23, 3) := dk_181 0 23 (dk_at dksX7_finds_0 7 rfl rfl)
theorem dX7_finds_10 : decode cX7_finds 10 = .ok (.aload_n 0, 1) := dk_42 (dk_at dksX7_finds_0 10 rfl rfl)
theorem dX7_finds_11 : decode cX7_finds 11 = .ok (.iconst 0, 1) := dk_3 (dk_at dksX7_finds_0 11 rfl rfl)
theorem dX7_finds_12 : decode cX7_finds 12 = .ok (.putfield 26, 3) := dk_181 0 26 (dk_at dksX7_finds_0 12 rfl rfl)
theorem dX7_finds_15 : decode cX7_finds 15 = .ok (.aload_n 0, 1) := dk_42 (dk_at dksX7_finds_0 15 rfl rfl)
theorem dX7_finds_16 : decode cX7_finds 16 = .ok (.iconst 1, 1) := dk_4 (dk_at dksX7_finds_0 16 rfl rfl)
theorem dX7_finds_17 : decode cX7_finds 17 = .ok (.putfield 30, 3) := dk_181 0 30 (dk_at dksX7_finds_0 17 rfl rfl)
theorem dX7_finds_20 : decode cX7_finds 20 = .ok (.aload_n 0, 1) := dk_42 (dk_at dksX7_finds_0 20 rfl rfl)
theorem dX7_finds_21 : decode cX7_finds 21 = .ok (.getfield 26, 3) := dk_180 0 26 (dk_at dksX7_finds_0 21 rfl rfl)
theorem dX7_finds_24 : decode cX7_finds 24 = .ok (.ifCond .ne 22, 3) := dk_154 0 22 (dk_at dksX7_finds_1 0 rfl rfl)
theorem dX7_finds_27 : decode cX7_finds 27 = .ok (.aload_n 0, 1) := dk_42 (dk_at dksX7_finds_1 3 rfl rfl)
theorem dX7_finds_28 : decode cX7_finds 28 = .ok (.iconst 0, 1) := dk_3 (dk_at dksX7_finds_1 4 rfl rfl)
theorem dX7_finds_29 : decode cX7_finds 29 = .ok (.iconst 1, 1) := dk_4 (dk_at dksX7_finds_1 5 rfl rfl)
theorem dX7_finds_30 : decode cX7_finds 30 = .ok (.invokevirtual 33, 3) := dk_182 0 33 (dk_at dksX7_finds_1 6 rfl rfl)
theorem dX7_finds_33 : decode cX7_finds 33 = .ok (.aload_n 0, 1) := dk_42 (dk_at dksX7_finds_1 9 rfl rfl)
theorem dX7_finds_34 : decode cX7_finds 34 = .ok (.dup, 1) := dk_89 (dk_at dksX7_finds_1 10 rfl rfl)
theorem dX7_finds_35 : decode cX7_finds 35 = .ok (.getfield 30, 3) := dk_180 0 30 (dk_at dksX7_finds_1 11 rfl rfl)
theorem dX7_finds_38 : decode cX7_finds 38 = .ok (.iconst 1, 1) := dk_4 (dk_at dksX7_finds_1 14 rfl rfl)
theorem dX7_finds_39 : decode cX7_finds 39 = .ok (.iadd, 1) := dk_96 (dk_at dksX7_finds_1 15 rfl rfl)
theorem dX7_finds_40 : decode cX7_finds 40 = .ok (.putfield 30, 3) := dk_181 0 30 (dk_at dksX7_finds_1 16 rfl rfl)
theorem dX7_finds_43 : decode cX7_finds 43 = .ok (.goto (-23), 3) := dk_167 255 233 (dk_at dksX7_finds_1 19 rfl rfl)
theorem dX7_finds_46 : decode cX7_finds 46 = .ok (.aload_n 0, 1) := dk_42 (dk_at dksX7_finds_1 22 rfl rfl)
theorem dX7_finds_47 : decode cX7_finds 47 = .ok (.dup, 1) := dk_89 (dk_at dksX7_finds_1 23 rfl rfl)
theorem dX7_finds_48 : decode cX7_finds 48 = .ok (.getfield 30, 3) := dk_180 0 30 (dk_at dksX7_finds_2 0 rfl rfl)
theorem dX7_finds_51 : decode cX7_finds 51 = .ok (.iconst 1, 1) := dk_4 (dk_at dksX7_finds_2 3 rfl rfl)
theorem dX7_finds_52 : decode cX7_finds 52 = .ok (.isub, 1) := dk_100 (dk_at dksX7_finds_2 4 rfl rfl)
theorem dX7_finds_53 : decode cX7_finds 53 = .ok (.putfield 30, 3) := dk_181 0 30 (dk_at dksX7_finds_2 5 rfl rfl)
theorem dX7_finds_56 : decode cX7_finds 56 = .ok (.return_, 1) := dk_177 (dk_at dksX7_finds_2 8 rfl rfl)
abbrev cX7_tries : ByteArray := prog_14_method_3_code
def yX7_tries : MethodName := ⟨RX7, "tries", "(II)V"⟩
def dkwX7_tries_2 : List UInt8 := [96, 29, 182, 0, 33, 132, 3, 1, 167, 255, 221, 177]
abbrev dktX7_tries_2 : List UInt8 := dkwX7_tries_2 ++ []
def dkwX7_tries_1 : List UInt8 := [180, 0, 19, 120, 162, 0, 31, 42, 180, 0, 26, 154, 0, 24, 42, 180, 0, 15, 27, 29, 79, 42, 27, 4]
abbrev dktX7_tries_1 : List UInt8 := dkwX7_tries_1 ++ dktX7_tries_2
def dkwX7_tries_0 : List UInt8 := [27, 42, 180, 0, 30, 160, 0, 12, 42, 42, 182, 0, 37, 181, 0, 26, 177, 28, 62, 29, 4, 42]
abbrev dktX7_tries_0 : List UInt8 := dkwX7_tries_0 ++ dktX7_tries_1
theorem dksX7_tries_0 : cX7_tries.data.toList.drop 0 = dktX7_tries_0 := by decide +kernel
theorem dksX7_tries_1 : cX7_tries.data.toList.drop 22 = dktX7_tries_1 := dk_seg dksX7_tries_0 22 rfl rfl
theorem dksX7_tries_2 : cX7_tries.data.toList.drop 46 = dktX7_tries_2 := dk_seg dksX7_tries_1 24 rfl rfl
theorem dX7_tries_0 : decode cX7_tries 0 = .ok (.iload_n 1, 1) := dk_27 (dk_at dksX7_tries_0 0 rfl rfl)
theorem dX7_tries_1 : decode cX7_tries 1 = .ok (.aload_n 0, 1) := dk_42 (dk_at dksX7_tries_0 1 rfl rfl)
theorem dX7_tries_2 : decode cX7_tries 2 = .ok (.getfield 30, 3) := dk_180 0 30 (dk_at dksX7_tries_0 2 rfl rfl)
theorem dX7_tries_5 : decode cX7_tries 5 = .ok (.if_icmp .ne 12, 3) := dk_160 0 12 (dk_at dksX7_tries_0 5 rfl rfl)
theorem dX7_tries_8 : decode cX7_tries 8 = .ok (.aload_n 0, 1) := dk_42 (dk_at dksX7_tries_0 8 rfl rfl)
theorem dX7_tries_9 : decode cX7_tries 9 = .ok (.aload_n 0, 1) := dk_42 (dk_at dksX7_tries_0 9 rfl rfl)
theorem dX7_tries_10 : decode cX7_tries 10 = .ok (.invokevirtual 37, 3) := dk_182 0 37 (dk_at dksX7_tries_0 10 rfl rfl)
theorem dX7_tries_13 : decode cX7_tries 13 = .ok (.putfield 26, 3) := dk_181 0 26 (dk_at dksX7_tries_0 13 rfl rfl)
theorem dX7_tries_16 : decode cX7_tries 16 = .ok (.return_, 1) := dk_177 (dk_at dksX7_tries_0 16 rfl rfl)
theorem dX7_tries_17 : decode cX7_tries 17 = .ok (.iload_n 2, 1) := dk_28 (dk_at dksX7_tries_0 17 rfl rfl)
theorem dX7_tries_18 : decode cX7_tries 18 = .ok (.istore_n 3, 1) := dk_62 (dk_at dksX7_tries_0 18 rfl rfl)
theorem dX7_tries_19 : decode cX7_tries 19 = .ok (.iload_n 3, 1) := dk_29 (dk_at dksX7_tries_0 19 rfl rfl)
theorem dX7_tries_20 : decode cX7_tries 20 = .ok (.iconst 1, 1) := dk_4 (dk_at dksX7_tries_0 20 rfl rfl)
theorem dX7_tries_21 : decode cX7_tries 21 = .ok (.aload_n 0, 1) := dk_42 (dk_at dksX7_tries_0 21 rfl rfl)
theorem dX7_tries_22 : decode cX7_tries 22 = .ok (.getfield 19, 3) := dk_180 0 19 (dk_at dksX7_tries_1 0 rfl rfl)
theorem dX7_tries_25 : decode cX7_tries 25 = .ok (.ishl, 1) := dk_120 (dk_at dksX7_tries_1 3 rfl rfl)
theorem dX7_tries_26 : decode cX7_tries 26 = .ok (.if_icmp .ge 31, 3) := dk_162 0 31 (dk_at dksX7_tries_1 4 rfl rfl)
theorem dX7_tries_29 : decode cX7_tries 29 = .ok (.aload_n 0, 1) := dk_42 (dk_at dksX7_tries_1 7 rfl rfl)
theorem dX7_tries_30 : decode cX7_tries 30 = .ok (.getfield 26, 3) := dk_180 0 26 (dk_at dksX7_tries_1 8 rfl rfl)
theorem dX7_tries_33 : decode cX7_tries 33 = .ok (.ifCond .ne 24, 3) := dk_154 0 24 (dk_at dksX7_tries_1 11 rfl rfl)
theorem dX7_tries_36 : decode cX7_tries 36 = .ok (.aload_n 0, 1) := dk_42 (dk_at dksX7_tries_1 14 rfl rfl)
theorem dX7_tries_37 : decode cX7_tries 37 = .ok (.getfield 15, 3) := dk_180 0 15 (dk_at dksX7_tries_1 15 rfl rfl)
theorem dX7_tries_40 : decode cX7_tries 40 = .ok (.iload_n 1, 1) := dk_27 (dk_at dksX7_tries_1 18 rfl rfl)
theorem dX7_tries_41 : decode cX7_tries 41 = .ok (.iload_n 3, 1) := dk_29 (dk_at dksX7_tries_1 19 rfl rfl)
theorem dX7_tries_42 : decode cX7_tries 42 = .ok (.iastore, 1) := dk_79 (dk_at dksX7_tries_1 20 rfl rfl)
theorem dX7_tries_43 : decode cX7_tries 43 = .ok (.aload_n 0, 1) := dk_42 (dk_at dksX7_tries_1 21 rfl rfl)
theorem dX7_tries_44 : decode cX7_tries 44 = .ok (.iload_n 1, 1) := dk_27 (dk_at dksX7_tries_1 22 rfl rfl)
theorem dX7_tries_45 : decode cX7_tries 45 = .ok (.iconst 1, 1) := dk_4 (dk_at dksX7_tries_1 23 rfl rfl)
theorem dX7_tries_46 : decode cX7_tries 46 = .ok (.iadd, 1) := dk_96 (dk_at dksX7_tries_2 0 rfl rfl)
theorem dX7_tries_47 : decode cX7_tries 47 = .ok (.iload_n 3, 1) := dk_29 (dk_at dksX7_tries_2 1 rfl rfl)
theorem dX7_tries_48 : decode cX7_tries 48 = .ok (.invokevirtual 33, 3) := dk_182 0 33 (dk_at dksX7_tries_2 2 rfl rfl)
theorem dX7_tries_51 : decode cX7_tries 51 = .ok (.iinc 3 1, 3) := dk_132 3 1 (dk_at dksX7_tries_2 5 rfl rfl)
theorem dX7_tries_54 : decode cX7_tries 54 = .ok (.goto (-35), 3) := dk_167 255 221 (dk_at dksX7_tries_2 8 rfl rfl)
theorem dX7_tries_57 : decode cX7_tries 57 = .ok (.return_, 1) := dk_177 (dk_at dksX7_tries_2 11 rfl rfl)
abbrev cX7_isSafe : ByteArray := prog_14_method_4_code
def yX7_isSafe : MethodName := ⟨RX7, "isSafe", "()Z"⟩
def dkwX7_isSafe_4 : List UInt8 := [180, 0, 19, 182, 0, 68, 154, 0, 5, 3, 172, 132, 1, 1, 167, 255, 151, 4, 172]
abbrev dktX7_isSafe_4 : List UInt8 := dkwX7_isSafe_4 ++ []
def dkwX7_isSafe_3 : List UInt8 := [42, 180, 0, 15, 28, 46, 182, 0, 64, 132, 2, 1, 167, 255, 221, 42, 180, 0, 3, 180, 0, 51, 42]
abbrev dktX7_isSafe_3 : List UInt8 := dkwX7_isSafe_3 ++ dktX7_isSafe_4
def dkwX7_isSafe_2 : List UInt8 := [61, 28, 42, 180, 0, 30, 162, 0, 33, 27, 28, 184, 0, 60, 153, 0, 19, 42, 180, 0, 3, 180, 0, 51]
abbrev dktX7_isSafe_2 : List UInt8 := dkwX7_isSafe_2 ++ dktX7_isSafe_3
def dkwX7_isSafe_1 : List UInt8 := [180, 0, 23, 100, 184, 0, 45, 159, 0, 6, 167, 0, 72, 42, 180, 0, 3, 180, 0, 51, 182, 0, 55, 3]
abbrev dktX7_isSafe_1 : List UInt8 := dkwX7_isSafe_1 ++ dktX7_isSafe_2
def dkwX7_isSafe_0 : List UInt8 := [3, 60, 27, 4, 42, 180, 0, 30, 120, 162, 0, 101, 27, 184, 0, 41, 3, 42, 180, 0, 30, 42]
abbrev dktX7_isSafe_0 : List UInt8 := dkwX7_isSafe_0 ++ dktX7_isSafe_1
theorem dksX7_isSafe_0 : cX7_isSafe.data.toList.drop 0 = dktX7_isSafe_0 := by decide +kernel
theorem dksX7_isSafe_1 : cX7_isSafe.data.toList.drop 22 = dktX7_isSafe_1 := dk_seg dksX7_isSafe_0 22 rfl rfl
theorem dksX7_isSafe_2 : cX7_isSafe.data.toList.drop 46 = dktX7_isSafe_2 := dk_seg dksX7_isSafe_1 24 rfl rfl
theorem dksX7_isSafe_3 : cX7_isSafe.data.toList.drop 70 = dktX7_isSafe_3 := dk_seg dksX7_isSafe_2 24 rfl rfl
theorem dksX7_isSafe_4 : cX7_isSafe.data.toList.drop 93 = dktX7_isSafe_4 := dk_seg dksX7_isSafe_3 23 rfl rfl
theorem dX7_isSafe_0 : decode cX7_isSafe 0 = .ok (.iconst 0, 1) := dk_3 (dk_at dksX7_isSafe_0 0 rfl rfl)
theorem dX7_isSafe_1 : decode cX7_isSafe 1 = .ok (.istore_n 1, 1) := dk_60 (dk_at dksX7_isSafe_0 1 rfl rfl)
theorem dX7_isSafe_2 : decode cX7_isSafe 2 = .ok (.iload_n 1, 1) := dk_27 (dk_at dksX7_isSafe_0 2 rfl rfl)
theorem dX7_isSafe_3 : decode cX7_isSafe 3 = .ok (.iconst 1, 1) := dk_4 (dk_at dksX7_isSafe_0 3 rfl rfl)
theorem dX7_isSafe_4 : decode cX7_isSafe 4 = .ok (.aload_n 0, 1) := dk_42 (dk_at dksX7_isSafe_0 4 rfl rfl)
theorem dX7_isSafe_5 : decode cX7_isSafe 5 = .ok (.getfield 30, 3) := dk_180 0 30 (dk_at dksX7_isSafe_0 5 rfl rfl)
theorem dX7_isSafe_8 : decode cX7_isSafe 8 = .ok (.ishl, 1) := dk_120 (dk_at dksX7_isSafe_0 8 rfl rfl)
theorem dX7_isSafe_9 : decode cX7_isSafe 9 = .ok (.if_icmp .ge 101, 3) := dk_162 0 101 (dk_at dksX7_isSafe_0 9 rfl rfl)
theorem dX7_isSafe_12 : decode cX7_isSafe 12 = .ok (.iload_n 1, 1) := dk_27 (dk_at dksX7_isSafe_0 12 rfl rfl)
theorem dX7_isSafe_13 : decode cX7_isSafe 13 = .ok (.invokestatic 41, 3) := dk_184 0 41 (dk_at dksX7_isSafe_0 13 rfl rfl)
theorem dX7_isSafe_16 : decode cX7_isSafe 16 = .ok (.iconst 0, 1) := dk_3 (dk_at dksX7_isSafe_0 16 rfl rfl)
theorem dX7_isSafe_17 : decode cX7_isSafe 17 = .ok (.aload_n 0, 1) := dk_42 (dk_at dksX7_isSafe_0 17 rfl rfl)
theorem dX7_isSafe_18 : decode cX7_isSafe 18 = .ok (.getfield 30, 3) := dk_180 0 30 (dk_at dksX7_isSafe_0 18 rfl rfl)
theorem dX7_isSafe_21 : decode cX7_isSafe 21 = .ok (.aload_n 0, 1) := dk_42 (dk_at dksX7_isSafe_0 21 rfl rfl)
theorem dX7_isSafe_22 : decode cX7_isSafe 22 = .ok (.getfield 23, 3) := dk_180 0 23 (dk_at dksX7_isSafe_1 0 rfl rfl)
theorem dX7_isSafe_25 : decode cX7_isSafe 25 = .ok (.isub, 1) := dk_100 (dk_at dksX7_isSafe_1 3 rfl rfl)
theorem dX7_isSafe_26 : decode cX7_isSafe 26 = .ok (.invokestatic 45, 3) := dk_184 0 45 (dk_at dksX7_isSafe_1 4 rfl rfl)
theorem dX7_isSafe_29 : decode cX7_isSafe 29 = .ok (.if_icmp .eq 6, 3) := dk_159 0 6 (dk_at dksX7_isSafe_1 7 rfl rfl)
theorem dX7_isSafe_32 : decode cX7_isSafe 32 = .ok (.goto 72, 3) := dk_167 0 72 (dk_at dksX7_isSafe_1 10 rfl rfl)
theorem dX7_isSafe_35 : decode cX7_isSafe 35 = .ok (.aload_n 0, 1) := dk_42 (dk_at dksX7_isSafe_1 13 rfl rfl)
theorem dX7_isSafe_36 : decode cX7_isSafe 36 = .ok (.getfield 3, 3) := dk_180 0 3 (dk_at dksX7_isSafe_1 14 rfl rfl)
theorem dX7_isSafe_39 : decode cX7_isSafe 39 = .ok (.getfield 51, 3) := dk_180 0 51 (dk_at dksX7_isSafe_1 17 rfl rfl)
theorem dX7_isSafe_42 : decode cX7_isSafe 42 = .ok (.invokevirtual 55, 3) := dk_182 0 55 (dk_at dksX7_isSafe_1 20 rfl rfl)
theorem dX7_isSafe_45 : decode cX7_isSafe 45 = .ok (.iconst 0, 1) := dk_3 (dk_at dksX7_isSafe_1 23 rfl rfl)
theorem dX7_isSafe_46 : decode cX7_isSafe 46 = .ok (.istore_n 2, 1) := dk_61 (dk_at dksX7_isSafe_2 0 rfl rfl)
theorem dX7_isSafe_47 : decode cX7_isSafe 47 = .ok (.iload_n 2, 1) := dk_28 (dk_at dksX7_isSafe_2 1 rfl rfl)
theorem dX7_isSafe_48 : decode cX7_isSafe 48 = .ok (.aload_n 0, 1) := dk_42 (dk_at dksX7_isSafe_2 2 rfl rfl)
theorem dX7_isSafe_49 : decode cX7_isSafe 49 = .ok (.getfield 30, 3) := dk_180 0 30 (dk_at dksX7_isSafe_2 3 rfl rfl)
theorem dX7_isSafe_52 : decode cX7_isSafe 52 = .ok (.if_icmp .ge 33, 3) := dk_162 0 33 (dk_at dksX7_isSafe_2 6 rfl rfl)
theorem dX7_isSafe_55 : decode cX7_isSafe 55 = .ok (.iload_n 1, 1) := dk_27 (dk_at dksX7_isSafe_2 9 rfl rfl)
theorem dX7_isSafe_56 : decode cX7_isSafe 56 = .ok (.iload_n 2, 1) := dk_28 (dk_at dksX7_isSafe_2 10 rfl rfl)
theorem dX7_isSafe_57 : decode cX7_isSafe 57 = .ok (.invokestatic 60, 3) := dk_184 0 60 (dk_at dksX7_isSafe_2 11 rfl rfl)
theorem dX7_isSafe_60 : decode cX7_isSafe 60 = .ok (.ifCond .eq 19, 3) := dk_153 0 19 (dk_at dksX7_isSafe_2 14 rfl rfl)
theorem dX7_isSafe_63 : decode cX7_isSafe 63 = .ok (.aload_n 0, 1) := dk_42 (dk_at dksX7_isSafe_2 17 rfl rfl)
theorem dX7_isSafe_64 : decode cX7_isSafe 64 = .ok (.getfield 3, 3) := dk_180 0 3 (dk_at dksX7_isSafe_2 18 rfl rfl)
theorem dX7_isSafe_67 : decode cX7_isSafe 67 = .ok (.getfield 51, 3) := dk_180 0 51 (dk_at dksX7_isSafe_2 21 rfl rfl)
theorem dX7_isSafe_70 : decode cX7_isSafe 70 = .ok (.aload_n 0, 1) := dk_42 (dk_at dksX7_isSafe_3 0 rfl rfl)
theorem dX7_isSafe_71 : decode cX7_isSafe 71 = .ok (.getfield 15, 3) := dk_180 0 15 (dk_at dksX7_isSafe_3 1 rfl rfl)
theorem dX7_isSafe_74 : decode cX7_isSafe 74 = .ok (.iload_n 2, 1) := dk_28 (dk_at dksX7_isSafe_3 4 rfl rfl)
theorem dX7_isSafe_75 : decode cX7_isSafe 75 = .ok (.iaload, 1) := dk_46 (dk_at dksX7_isSafe_3 5 rfl rfl)
theorem dX7_isSafe_76 : decode cX7_isSafe 76 = .ok (.invokevirtual 64, 3) := dk_182 0 64 (dk_at dksX7_isSafe_3 6 rfl rfl)
theorem dX7_isSafe_79 : decode cX7_isSafe 79 = .ok (.iinc 2 1, 3) := dk_132 2 1 (dk_at dksX7_isSafe_3 9 rfl rfl)
theorem dX7_isSafe_82 : decode cX7_isSafe 82 = .ok (.goto (-35), 3) := dk_167 255 221 (dk_at dksX7_isSafe_3 12 rfl rfl)
theorem dX7_isSafe_85 : decode cX7_isSafe 85 = .ok (.aload_n 0, 1) := dk_42 (dk_at dksX7_isSafe_3 15 rfl rfl)
theorem dX7_isSafe_86 : decode cX7_isSafe 86 = .ok (.getfield 3, 3) := dk_180 0 3 (dk_at dksX7_isSafe_3 16 rfl rfl)
theorem dX7_isSafe_89 : decode cX7_isSafe 89 = .ok (.getfield 51, 3) := dk_180 0 51 (dk_at dksX7_isSafe_3 19 rfl rfl)
theorem dX7_isSafe_92 : decode cX7_isSafe 92 = .ok (.aload_n 0, 1) := dk_42 (dk_at dksX7_isSafe_3 22 rfl rfl)
theorem dX7_isSafe_93 : decode cX7_isSafe 93 = .ok (.getfield 19, 3) := dk_180 0 19 (dk_at dksX7_isSafe_4 0 rfl rfl)
theorem dX7_isSafe_96 : decode cX7_isSafe 96 = .ok (.invokevirtual 68, 3) := dk_182 0 68 (dk_at dksX7_isSafe_4 3 rfl rfl)
theorem dX7_isSafe_99 : decode cX7_isSafe 99 = .ok (.ifCond .ne 5, 3) := dk_154 0 5 (dk_at dksX7_isSafe_4 6 rfl rfl)
theorem dX7_isSafe_102 : decode cX7_isSafe 102 = .ok (.iconst 0, 1) := dk_3 (dk_at dksX7_isSafe_4 9 rfl rfl)
theorem dX7_isSafe_103 : decode cX7_isSafe 103 = .ok (.ireturn, 1) := dk_172 (dk_at dksX7_isSafe_4 10 rfl rfl)
theorem dX7_isSafe_104 : decode cX7_isSafe 104 = .ok (.iinc 1 1, 3) := dk_132 1 1 (dk_at dksX7_isSafe_4 11 rfl rfl)
theorem dX7_isSafe_107 : decode cX7_isSafe 107 = .ok (.goto (-105), 3) := dk_167 255 151 (dk_at dksX7_isSafe_4 14 rfl rfl)
theorem dX7_isSafe_110 : decode cX7_isSafe 110 = .ok (.iconst 1, 1) := dk_4 (dk_at dksX7_isSafe_4 17 rfl rfl)
theorem dX7_isSafe_111 : decode cX7_isSafe 111 = .ok (.ireturn, 1) := dk_172 (dk_at dksX7_isSafe_4 18 rfl rfl)
theorem q115 : (Jvm.Cond.initialized "SnailPost$Shells") ∈ lw_all := lw_g (lw_at lw_m1 13 rfl) rfl
theorem q419 : (Jvm.Cond.instantiable "SnailPost$Shells" (6 : Nat)) ∈ lw_all := lw_g (lw_at lw_m2 77 rfl) rfl
theorem q421 : (Jvm.Cond.instanceMethod ({ cls := "SnailPost$Shells", name := "<init>", desc := "(LSnailPost;)V" } : Jvm.MethodName)) ∈ lw_all := lw_g (lw_at lw_m2 79 rfl) rfl
theorem q422 : (Jvm.Cond.code ({ cls := "SnailPost$Shells", name := "<init>", desc := "(LSnailPost;)V" } : Jvm.MethodName) prog_14_method_1_code (2 : Nat) (Option.none : Option Jvm.ClassFile.FieldType)) ∈ lw_all := lw_g (lw_at lw_m2 80 rfl) rfl
theorem q423 : (Jvm.Cond.methodLink "SnailPost$Shells" (9 : Nat) ({ cls := "java/lang/Object", name := "<init>", desc := "()V" } : Jvm.MethodName)) ∈ lw_all := lw_g (lw_at lw_m2 81 rfl) rfl
theorem q424 : (Jvm.Cond.fieldLink "SnailPost$Shells" (15 : Nat) "SnailPost$Shells" "row" "[I") ∈ lw_all := lw_g (lw_at lw_m2 82 rfl) rfl
theorem q426 : (Jvm.Cond.fieldLink "SnailPost$Shells" (19 : Nat) "SnailPost$Shells" "words" "I") ∈ lw_all := lw_g (lw_at lw_m2 84 rfl) rfl
theorem q427 : (Jvm.Cond.fieldLink "SnailPost$Shells" (23 : Nat) "SnailPost$Shells" "losses" "I") ∈ lw_all := lw_g (lw_at lw_m2 85 rfl) rfl
theorem q428 : (Jvm.Cond.fieldLink "SnailPost$Shells" (30 : Nat) "SnailPost$Shells" "size" "I") ∈ lw_all := lw_g (lw_at lw_m2 86 rfl) rfl
theorem q430 : (Jvm.Cond.fieldLink "SnailPost$Shells" (26 : Nat) "SnailPost$Shells" "isFound" "Z") ∈ lw_all := lw_g (lw_at lw_m2 88 rfl) rfl
theorem q431 : (Jvm.Cond.fieldLink "SnailPost$Shells" (3 : Nat) "SnailPost$Shells" "this$0" "LSnailPost;") ∈ lw_all := lw_g (lw_at lw_m2 89 rfl) rfl
theorem q432 : (Jvm.Cond.laysFinal "SnailPost$Shells" "SnailPost$Shells" "row" "[I") ∈ lw_all := lw_g (lw_at lw_m2 90 rfl) rfl
theorem q433 : (Jvm.Cond.soleField "SnailPost$Shells" "row") ∈ lw_all := lw_g (lw_at lw_m2 91 rfl) rfl
theorem q434 : (Jvm.Cond.lays "SnailPost$Shells" "SnailPost$Shells" "words" "I") ∈ lw_all := lw_g (lw_at lw_m2 92 rfl) rfl
theorem q435 : (Jvm.Cond.soleField "SnailPost$Shells" "words") ∈ lw_all := lw_g (lw_at lw_m2 93 rfl) rfl
theorem q436 : (Jvm.Cond.lays "SnailPost$Shells" "SnailPost$Shells" "losses" "I") ∈ lw_all := lw_g (lw_at lw_m2 94 rfl) rfl
theorem q437 : (Jvm.Cond.soleField "SnailPost$Shells" "losses") ∈ lw_all := lw_g (lw_at lw_m2 95 rfl) rfl
theorem q438 : (Jvm.Cond.lays "SnailPost$Shells" "SnailPost$Shells" "size" "I") ∈ lw_all := lw_g (lw_at lw_m2 96 rfl) rfl
theorem q439 : (Jvm.Cond.soleField "SnailPost$Shells" "size") ∈ lw_all := lw_g (lw_at lw_m2 97 rfl) rfl
theorem q440 : (Jvm.Cond.lays "SnailPost$Shells" "SnailPost$Shells" "isFound" "Z") ∈ lw_all := lw_g (lw_at lw_m2 98 rfl) rfl
theorem q441 : (Jvm.Cond.soleField "SnailPost$Shells" "isFound") ∈ lw_all := lw_g (lw_at lw_m2 99 rfl) rfl
theorem q442 : (Jvm.Cond.laysFinal "SnailPost$Shells" "SnailPost$Shells" "this$0" "LSnailPost;") ∈ lw_all := lw_g (lw_at lw_m2 100 rfl) rfl
theorem q443 : (Jvm.Cond.soleField "SnailPost$Shells" "this$0") ∈ lw_all := lw_g (lw_at lw_m2 101 rfl) rfl
theorem q444 : (Jvm.Cond.superclass "SnailPost$Shells" "java/lang/Object") ∈ lw_all := lw_g (lw_at lw_m2 102 rfl) rfl
theorem q510 : (Jvm.Cond.fieldLinkNest "SnailPost$Shells" (51 : Nat) "SnailPost" "span" "LSnailPost$Span;" "SnailPost") ∈ lw_tbl := lw_at lw_m2 168 rfl
theorem q632 : (Jvm.Cond.selects "SnailPost$Shells" ({ cls := "java/lang/Object", name := "getClass", desc := "()Ljava/lang/Class;" } : Jvm.MethodName) ({ cls := "java/lang/Object", name := "getClass", desc := "()Ljava/lang/Class;" } : Jvm.MethodName)) ∈ lw_all := lw_g (lw_at lw_m3 50 rfl) rfl
theorem q1340 : (Jvm.Cond.instanceMethod ({ cls := "SnailPost$Shells", name := "finds", desc := "(II)V" } : Jvm.MethodName)) ∈ lw_all := lw_g (lw_at lw_m6 38 rfl) rfl
theorem q1341 : (Jvm.Cond.selects "SnailPost$Shells" ({ cls := "SnailPost$Shells", name := "finds", desc := "(II)V" } : Jvm.MethodName) ({ cls := "SnailPost$Shells", name := "finds", desc := "(II)V" } : Jvm.MethodName)) ∈ lw_all := lw_g (lw_at lw_m6 39 rfl) rfl
theorem q1342 : (Jvm.Cond.code ({ cls := "SnailPost$Shells", name := "finds", desc := "(II)V" } : Jvm.MethodName) prog_14_method_2_code (3 : Nat) (Option.none : Option Jvm.ClassFile.FieldType)) ∈ lw_all := lw_g (lw_at lw_m6 40 rfl) rfl
theorem q1343 : (Jvm.Cond.methodLink "SnailPost$Shells" (33 : Nat) ({ cls := "SnailPost$Shells", name := "tries", desc := "(II)V" } : Jvm.MethodName)) ∈ lw_all := lw_g (lw_at lw_m6 41 rfl) rfl
theorem q1344 : (Jvm.Cond.privateMethod ({ cls := "SnailPost$Shells", name := "tries", desc := "(II)V" } : Jvm.MethodName)) ∈ lw_tbl := lw_at lw_m6 42 rfl
theorem q1345 : (Jvm.Cond.instanceMethod ({ cls := "SnailPost$Shells", name := "tries", desc := "(II)V" } : Jvm.MethodName)) ∈ lw_all := lw_g (lw_at lw_m6 43 rfl) rfl
theorem q1346 : (Jvm.Cond.code ({ cls := "SnailPost$Shells", name := "tries", desc := "(II)V" } : Jvm.MethodName) prog_14_method_3_code (4 : Nat) (Option.none : Option Jvm.ClassFile.FieldType)) ∈ lw_all := lw_g (lw_at lw_m6 44 rfl) rfl
theorem q1347 : (Jvm.Cond.methodLink "SnailPost$Shells" (37 : Nat) ({ cls := "SnailPost$Shells", name := "isSafe", desc := "()Z" } : Jvm.MethodName)) ∈ lw_all := lw_g (lw_at lw_m6 45 rfl) rfl
theorem q1348 : (Jvm.Cond.privateMethod ({ cls := "SnailPost$Shells", name := "isSafe", desc := "()Z" } : Jvm.MethodName)) ∈ lw_tbl := lw_at lw_m6 46 rfl
theorem q1349 : (Jvm.Cond.instanceMethod ({ cls := "SnailPost$Shells", name := "isSafe", desc := "()Z" } : Jvm.MethodName)) ∈ lw_all := lw_g (lw_at lw_m6 47 rfl) rfl
theorem q1350 : (Jvm.Cond.code ({ cls := "SnailPost$Shells", name := "isSafe", desc := "()Z" } : Jvm.MethodName) prog_14_method_4_code (3 : Nat) (Option.some Jvm.ClassFile.FieldType.boolean)) ∈ lw_all := lw_g (lw_at lw_m6 48 rfl) rfl
theorem q1351 : (Jvm.Cond.methodLinkNest "SnailPost$Shells" (41 : Nat) ({ cls := "SnailPost", name := "ones", desc := "(I)I" } : Jvm.MethodName) "SnailPost") ∈ lw_tbl := lw_at lw_m6 49 rfl
theorem q1352 : (Jvm.Cond.methodLink "SnailPost$Shells" (45 : Nat) ({ cls := "java/lang/Math", name := "max", desc := "(II)I" } : Jvm.MethodName)) ∈ lw_all := lw_g (lw_at lw_m6 50 rfl) rfl
theorem q1353 : (Jvm.Cond.methodLink "SnailPost$Shells" (55 : Nat) ({ cls := "SnailPost$Span", name := "clears", desc := "()V" } : Jvm.MethodName)) ∈ lw_all := lw_g (lw_at lw_m6 51 rfl) rfl
theorem q1354 : (Jvm.Cond.methodLinkNest "SnailPost$Shells" (60 : Nat) ({ cls := "SnailPost", name := "isOf", desc := "(II)Z" } : Jvm.MethodName) "SnailPost") ∈ lw_tbl := lw_at lw_m6 52 rfl
theorem q1355 : (Jvm.Cond.methodLink "SnailPost$Shells" (64 : Nat) ({ cls := "SnailPost$Span", name := "adds", desc := "(I)V" } : Jvm.MethodName)) ∈ lw_all := lw_g (lw_at lw_m6 53 rfl) rfl
theorem q1356 : (Jvm.Cond.methodLink "SnailPost$Shells" (68 : Nat) ({ cls := "SnailPost$Span", name := "tells", desc := "(I)Z" } : Jvm.MethodName)) ∈ lw_all := lw_g (lw_at lw_m6 54 rfl) rfl
theorem q2082 : (Jvm.Cond.castable "SnailPost$Shells" "java/lang/Object") ∈ lw_tbl := lw_at lw_m9 60 rfl
theorem in_X7 : ∀ w ∈ wsX70, w ∈ lw_all := lw_in wsX70 [432, 434, 436, 438, 440, 442] (by decide +kernel) (by decide +kernel)
/-! SnailPost$Orders -/
set_option maxRecDepth 100000
def RX8 : String := "SnailPost$Orders"
def TX8 : u_T := fun k => match k with
  | 0 => ("SnailPost$Orders", "row", "[I", true)
  | 1 => ("SnailPost$Orders", "first", "[I", true)
  | 2 => ("SnailPost$Orders", "ahead", "[I", true)
  | 3 => ("SnailPost$Orders", "made", "I", false)
  | 4 => ("SnailPost$Orders", "many", "I", false)
  | 5 => ("SnailPost$Orders", "firsts", "I", false)
  | 6 => ("SnailPost$Orders", "lasts", "I", false)
  | _ => ("SnailPost$Orders", "this$0", "LSnailPost;", true)
def tyX8 : Nat → FieldType := fun k => match k with
  | 0 => .array .int
  | 1 => .array .int
  | 2 => .array .int
  | 3 => .int
  | 4 => .int
  | 5 => .int
  | 6 => .int
  | _ => .object "SnailPost"
abbrev wsX80 : List Cond := u_ws RX8 TX8 8
theorem nmX8 : ∀ a, a < 8 → ∀ b, b < 8 → a ≠ b → (TX8 a).2.1 ≠ (TX8 b).2.1 := by decide +kernel
theorem tyX8_ok : ∀ k, k < 8 → parseFieldDescriptor (TX8 k).2.2.1 = some (tyX8 k) := by decide +kernel
abbrev cX8_init : ByteArray := prog_10_method_1_code
def yX8_init : MethodName := ⟨RX8, "<init>", "(LSnailPost;)V"⟩
def dkwX8_init_1 : List UInt8 := [181, 0, 19, 42, 16, 36, 188, 10, 181, 0, 22, 42, 2, 181, 0, 25, 177]
abbrev dktX8_init_1 : List UInt8 := dkwX8_init_1 ++ []
def dkwX8_init_0 : List UInt8 := [42, 43, 181, 0, 3, 42, 183, 0, 9, 42, 16, 6, 188, 10, 181, 0, 15, 42, 16, 6, 188, 10]
abbrev dktX8_init_0 : List UInt8 := dkwX8_init_0 ++ dktX8_init_1
theorem dksX8_init_0 : cX8_init.data.toList.drop 0 = dktX8_init_0 := by decide +kernel
theorem dksX8_init_1 : cX8_init.data.toList.drop 22 = dktX8_init_1 := dk_seg dksX8_init_0 22 rfl rfl
theorem dX8_init_0 : decode cX8_init 0 = .ok (.aload_n 0, 1) := dk_42 (dk_at dksX8_init_0 0 rfl rfl)
theorem dX8_init_1 : decode cX8_init 1 = .ok (.aload_n 1, 1) := dk_43 (dk_at dksX8_init_0 1 rfl rfl)
theorem dX8_init_2 : decode cX8_init 2 = .ok (.putfield 3, 3) := dk_181 0 3 (dk_at dksX8_init_0 2 rfl rfl)
theorem dX8_init_5 : decode cX8_init 5 = .ok (.aload_n 0, 1) := dk_42 (dk_at dksX8_init_0 5 rfl rfl)
theorem dX8_init_6 : decode cX8_init 6 = .ok (.invokespecial 9, 3) := dk_183 0 9 (dk_at dksX8_init_0 6 rfl rfl)
theorem dX8_init_9 : decode cX8_init 9 = .ok (.aload_n 0, 1) := dk_42 (dk_at dksX8_init_0 9 rfl rfl)
theorem dX8_init_10 : decode cX8_init 10 = .ok (.bipush 6, 2) := dk_16 6 (dk_at dksX8_init_0 10 rfl rfl)
theorem dX8_init_12 : decode cX8_init 12 = .ok (.newarray .int, 2) := dk_188_10 (dk_at dksX8_init_0 12 rfl rfl)
theorem dX8_init_14 : decode cX8_init 14 = .ok (.putfield 15, 3) := dk_181 0 15 (dk_at dksX8_init_0 14 rfl rfl)
theorem dX8_init_17 : decode cX8_init 17 = .ok (.aload_n 0, 1) := dk_42 (dk_at dksX8_init_0 17 rfl rfl)
theorem dX8_init_18 : decode cX8_init 18 = .ok (.bipush 6, 2) := dk_16 6 (dk_at dksX8_init_0 18 rfl rfl)
theorem dX8_init_20 : decode cX8_init 20 = .ok (.newarray .int, 2) := dk_188_10 (dk_at dksX8_init_0 20 rfl rfl)
theorem dX8_init_22 : decode cX8_init 22 = .ok (.putfield 19, 3) := dk_181 0 19 (dk_at dksX8_init_1 0 rfl rfl)
theorem dX8_init_25 : decode cX8_init 25 = .ok (.aload_n 0, 1) := dk_42 (dk_at dksX8_init_1 3 rfl rfl)
theorem dX8_init_26 : decode cX8_init 26 = .ok (.bipush 36, 2) := dk_16 36 (dk_at dksX8_init_1 4 rfl rfl)
theorem dX8_init_28 : decode cX8_init 28 = .ok (.newarray .int, 2) := dk_188_10 (dk_at dksX8_init_1 6 rfl rfl)
theorem dX8_init_30 : decode cX8_init 30 = .ok (.putfield 22, 3) := dk_181 0 22 (dk_at dksX8_init_1 8 rfl rfl)
theorem dX8_init_33 : decode cX8_init 33 = .ok (.aload_n 0, 1) := dk_42 (dk_at dksX8_init_1 11 rfl rfl)
theorem dX8_init_34 : decode cX8_init 34 = .ok (.iconst (-1), 1) := dk_2 (dk_at dksX8_init_1 12 rfl rfl)
theorem dX8_init_35 : decode cX8_init 35 = .ok (.putfield 25, 3) := dk_181 0 25 (dk_at dksX8_init_1 13 rfl rfl)
theorem dX8_init_38 : decode cX8_init 38 = .ok (.return_, 1) := dk_177 (dk_at dksX8_init_1 16 rfl rfl)
abbrev cX8_looks : ByteArray := prog_10_method_2_code
def yX8_looks : MethodName := ⟨RX8, "looks", "()V"⟩
def dkwX8_looks_2 : List UInt8 := [162, 0, 16, 42, 180, 0, 22, 27, 3, 79, 132, 1, 1, 167, 255, 240, 42, 3, 3, 182, 0, 41, 177]
abbrev dktX8_looks_2 : List UInt8 := dkwX8_looks_2 ++ []
def dkwX8_looks_1 : List UInt8 := [181, 0, 25, 42, 3, 181, 0, 32, 42, 3, 181, 0, 35, 42, 3, 181, 0, 38, 3, 60, 27, 16, 36]
abbrev dktX8_looks_1 : List UInt8 := dkwX8_looks_1 ++ dktX8_looks_2
def dkwX8_looks_0 : List UInt8 := [42, 180, 0, 25, 42, 180, 0, 3, 180, 0, 29, 160, 0, 4, 177, 42, 42, 180, 0, 3, 180, 0, 29]
abbrev dktX8_looks_0 : List UInt8 := dkwX8_looks_0 ++ dktX8_looks_1
theorem dksX8_looks_0 : cX8_looks.data.toList.drop 0 = dktX8_looks_0 := by decide +kernel
theorem dksX8_looks_1 : cX8_looks.data.toList.drop 23 = dktX8_looks_1 := dk_seg dksX8_looks_0 23 rfl rfl
theorem dksX8_looks_2 : cX8_looks.data.toList.drop 46 = dktX8_looks_2 := dk_seg dksX8_looks_1 23 rfl rfl
theorem dX8_looks_0 : decode cX8_looks 0 = .ok (.aload_n 0, 1) := dk_42 (dk_at dksX8_looks_0 0 rfl rfl)
theorem dX8_looks_1 : decode cX8_looks 1 = .ok (.getfield 25, 3) := dk_180 0 25 (dk_at dksX8_looks_0 1 rfl rfl)
theorem dX8_looks_4 : decode cX8_looks 4 = .ok (.aload_n 0, 1) := dk_42 (dk_at dksX8_looks_0 4 rfl rfl)
theorem dX8_looks_5 : decode cX8_looks 5 = .ok (.getfield 3, 3) := dk_180 0 3 (dk_at dksX8_looks_0 5 rfl rfl)
theorem dX8_looks_8 : decode cX8_looks 8 = .ok (.getfield 29, 3) := dk_180 0 29 (dk_at dksX8_looks_0 8 rfl rfl)
theorem dX8_looks_11 : decode cX8_looks 11 = .ok (.if_icmp .ne 4, 3) := dk_160 0 4 (dk_at dksX8_looks_0 11 rfl rfl)
theorem dX8_looks_14 : decode cX8_looks 14 = .ok (.return_, 1) := dk_177 (dk_at dksX8_looks_0 14 rfl rfl)
theorem dX8_looks_15 : decode cX8_looks 15 = .ok (.aload_n 0, 1) := dk_42 (dk_at dksX8_looks_0 15 rfl rfl)
theorem dX8_looks_16 : decode cX8_looks 16 = .ok (.aload_n 0, 1) := dk_42 (dk_at dksX8_looks_0 16 rfl rfl)
theorem dX8_looks_17 : decode cX8_looks 17 = .ok (.getfield 3, 3) := dk_180 0 3 (dk_at dksX8_looks_0 17 rfl rfl)
theorem dX8_looks_20 : decode cX8_looks 20 = .ok (.getfield 29, 3) := dk_180 0 29 (dk_at dksX8_looks_0 20 rfl rfl)
theorem dX8_looks_23 : decode cX8_looks 23 = .ok (.putfield 25, 3) := dk_181 0 25 (dk_at dksX8_looks_1 0 rfl rfl)
theorem dX8_looks_26 : decode cX8_looks 26 = .ok (.aload_n 0, 1) := dk_42 (dk_at dksX8_looks_1 3 rfl rfl)
theorem dX8_looks_27 : decode cX8_looks 27 = .ok (.iconst 0, 1) := dk_3 (dk_at dksX8_looks_1 4 rfl rfl)
theorem dX8_looks_28 : decode cX8_looks 28 = .ok (.putfield 32, 3) := dk_181 0 32 (dk_at dksX8_looks_1 5 rfl rfl)
theorem dX8_looks_31 : decode cX8_looks 31 = .ok (.aload_n 0, 1) := dk_42 (dk_at dksX8_looks_1 8 rfl rfl)
theorem dX8_looks_32 : decode cX8_looks 32 = .ok (.iconst 0, 1) := dk_3 (dk_at dksX8_looks_1 9 rfl rfl)
theorem dX8_looks_33 : decode cX8_looks 33 = .ok (.putfield 35, 3) := dk_181 0 35 (dk_at dksX8_looks_1 10 rfl rfl)
theorem dX8_looks_36 : decode cX8_looks 36 = .ok (.aload_n 0, 1) := dk_42 (dk_at dksX8_looks_1 13 rfl rfl)
theorem dX8_looks_37 : decode cX8_looks 37 = .ok (.iconst 0, 1) := dk_3 (dk_at dksX8_looks_1 14 rfl rfl)
theorem dX8_looks_38 : decode cX8_looks 38 = .ok (.putfield 38, 3) := dk_181 0 38 (dk_at dksX8_looks_1 15 rfl rfl)
theorem dX8_looks_41 : decode cX8_looks 41 = .ok (.iconst 0, 1) := dk_3 (dk_at dksX8_looks_1 18 rfl rfl)
theorem dX8_looks_42 : decode cX8_looks 42 = .ok (.istore_n 1, 1) := dk_60 (dk_at dksX8_looks_1 19 rfl rfl)
theorem dX8_looks_43 : decode cX8_looks 43 = .ok (.iload_n 1, 1) := dk_27 (dk_at dksX8_looks_1 20 rfl rfl)
theorem dX8_looks_44 : decode cX8_looks 44 = .ok (.bipush 36, 2) := dk_16 36 (dk_at dksX8_looks_1 21 rfl rfl)
theorem dX8_looks_46 : decode cX8_looks 46 = .ok (.if_icmp .ge 16, 3) := dk_162 0 16 (dk_at dksX8_looks_2 0 rfl rfl)
theorem dX8_looks_49 : decode cX8_looks 49 = .ok (.aload_n 0, 1) := dk_42 (dk_at dksX8_looks_2 3 rfl rfl)
theorem dX8_looks_50 : decode cX8_looks 50 = .ok (.getfield 22, 3) := dk_180 0 22 (dk_at dksX8_looks_2 4 rfl rfl)
theorem dX8_looks_53 : decode cX8_looks 53 = .ok (.iload_n 1, 1) := dk_27 (dk_at dksX8_looks_2 7 rfl rfl)
theorem dX8_looks_54 : decode cX8_looks 54 = .ok (.iconst 0, 1) := dk_3 (dk_at dksX8_looks_2 8 rfl rfl)
theorem dX8_looks_55 : decode cX8_looks 55 = .ok (.iastore, 1) := dk_79 (dk_at dksX8_looks_2 9 rfl rfl)
theorem dX8_looks_56 : decode cX8_looks 56 = .ok (.iinc 1 1, 3) := dk_132 1 1 (dk_at dksX8_looks_2 10 rfl rfl)
theorem dX8_looks_59 : decode cX8_looks 59 = .ok (.goto (-16), 3) := dk_167 255 240 (dk_at dksX8_looks_2 13 rfl rfl)
theorem dX8_looks_62 : decode cX8_looks 62 = .ok (.aload_n 0, 1) := dk_42 (dk_at dksX8_looks_2 16 rfl rfl)
theorem dX8_looks_63 : decode cX8_looks 63 = .ok (.iconst 0, 1) := dk_3 (dk_at dksX8_looks_2 17 rfl rfl)
theorem dX8_looks_64 : decode cX8_looks 64 = .ok (.iconst 0, 1) := dk_3 (dk_at dksX8_looks_2 18 rfl rfl)
theorem dX8_looks_65 : decode cX8_looks 65 = .ok (.invokevirtual 41, 3) := dk_182 0 41 (dk_at dksX8_looks_2 19 rfl rfl)
theorem dX8_looks_68 : decode cX8_looks 68 = .ok (.return_, 1) := dk_177 (dk_at dksX8_looks_2 22 rfl rfl)
abbrev cX8_tries : ByteArray := prog_10_method_3_code
def yX8_tries : MethodName := ⟨RX8, "tries", "(II)V"⟩
def dkwX8_tries_3 : List UInt8 := [128, 182, 0, 41, 132, 3, 1, 167, 255, 200, 177]
abbrev dktX8_tries_3 : List UInt8 := dkwX8_tries_3 ++ []
def dkwX8_tries_2 : List UInt8 := [182, 0, 59, 154, 0, 6, 167, 0, 22, 42, 180, 0, 15, 27, 29, 79, 42, 27, 4, 96, 28, 4, 29, 120]
abbrev dktX8_tries_2 : List UInt8 := dkwX8_tries_2 ++ dktX8_tries_3
def dkwX8_tries_1 : List UInt8 := [180, 0, 3, 180, 0, 45, 180, 0, 49, 162, 0, 48, 28, 29, 184, 0, 55, 154, 0, 34, 42, 29, 28]
abbrev dktX8_tries_1 : List UInt8 := dkwX8_tries_1 ++ dktX8_tries_2
def dkwX8_tries_0 : List UInt8 := [27, 42, 180, 0, 3, 180, 0, 45, 180, 0, 49, 160, 0, 8, 42, 182, 0, 52, 177, 3, 62, 29, 42]
abbrev dktX8_tries_0 : List UInt8 := dkwX8_tries_0 ++ dktX8_tries_1
theorem dksX8_tries_0 : cX8_tries.data.toList.drop 0 = dktX8_tries_0 := by decide +kernel
theorem dksX8_tries_1 : cX8_tries.data.toList.drop 23 = dktX8_tries_1 := dk_seg dksX8_tries_0 23 rfl rfl
theorem dksX8_tries_2 : cX8_tries.data.toList.drop 46 = dktX8_tries_2 := dk_seg dksX8_tries_1 23 rfl rfl
theorem dksX8_tries_3 : cX8_tries.data.toList.drop 70 = dktX8_tries_3 := dk_seg dksX8_tries_2 24 rfl rfl
theorem dX8_tries_0 : decode cX8_tries 0 = .ok (.iload_n 1, 1) := dk_27 (dk_at dksX8_tries_0 0 rfl rfl)
theorem dX8_tries_1 : decode cX8_tries 1 = .ok (.aload_n 0, 1) := dk_42 (dk_at dksX8_tries_0 1 rfl rfl)
theorem dX8_tries_2 : decode cX8_tries 2 = .ok (.getfield 3, 3) := dk_180 0 3 (dk_at dksX8_tries_0 2 rfl rfl)
theorem dX8_tries_5 : decode cX8_tries 5 = .ok (.getfield 45, 3) := dk_180 0 45 (dk_at dksX8_tries_0 5 rfl rfl)
theorem dX8_tries_8 : decode cX8_tries 8 = .ok (.getfield 49, 3) := dk_180 0 49 (dk_at dksX8_tries_0 8 rfl rfl)
theorem dX8_tries_11 : decode cX8_tries 11 = .ok (.if_icmp .ne 8, 3) := dk_160 0 8 (dk_at dksX8_tries_0 11 rfl rfl)
theorem dX8_tries_14 : decode cX8_tries 14 = .ok (.aload_n 0, 1) := dk_42 (dk_at dksX8_tries_0 14 rfl rfl)
theorem dX8_tries_15 : decode cX8_tries 15 = .ok (.invokevirtual 52, 3) := dk_182 0 52 (dk_at dksX8_tries_0 15 rfl rfl)
theorem dX8_tries_18 : decode cX8_tries 18 = .ok (.return_, 1) := dk_177 (dk_at dksX8_tries_0 18 rfl rfl)
theorem dX8_tries_19 : decode cX8_tries 19 = .ok (.iconst 0, 1) := dk_3 (dk_at dksX8_tries_0 19 rfl rfl)
theorem dX8_tries_20 : decode cX8_tries 20 = .ok (.istore_n 3, 1) := dk_62 (dk_at dksX8_tries_0 20 rfl rfl)
theorem dX8_tries_21 : decode cX8_tries 21 = .ok (.iload_n 3, 1) := dk_29 (dk_at dksX8_tries_0 21 rfl rfl)
theorem dX8_tries_22 : decode cX8_tries 22 = .ok (.aload_n 0, 1) := dk_42 (dk_at dksX8_tries_0 22 rfl rfl)
theorem dX8_tries_23 : decode cX8_tries 23 = .ok (.getfield 3, 3) := dk_180 0 3 (dk_at dksX8_tries_1 0 rfl rfl)
theorem dX8_tries_26 : decode cX8_tries 26 = .ok (.getfield 45, 3) := dk_180 0 45 (dk_at dksX8_tries_1 3 rfl rfl)
theorem dX8_tries_29 : decode cX8_tries 29 = .ok (.getfield 49, 3) := dk_180 0 49 (dk_at dksX8_tries_1 6 rfl rfl)
theorem dX8_tries_32 : decode cX8_tries 32 = .ok (.if_icmp .ge 48, 3) := dk_162 0 48 (dk_at dksX8_tries_1 9 rfl rfl)
theorem dX8_tries_35 : decode cX8_tries 35 = .ok (.iload_n 2, 1) := dk_28 (dk_at dksX8_tries_1 12 rfl rfl)
theorem dX8_tries_36 : decode cX8_tries 36 = .ok (.iload_n 3, 1) := dk_29 (dk_at dksX8_tries_1 13 rfl rfl)
theorem dX8_tries_37 : decode cX8_tries 37 = .ok (.invokestatic 55, 3) := dk_184 0 55 (dk_at dksX8_tries_1 14 rfl rfl)
theorem dX8_tries_40 : decode cX8_tries 40 = .ok (.ifCond .ne 34, 3) := dk_154 0 34 (dk_at dksX8_tries_1 17 rfl rfl)
theorem dX8_tries_43 : decode cX8_tries 43 = .ok (.aload_n 0, 1) := dk_42 (dk_at dksX8_tries_1 20 rfl rfl)
theorem dX8_tries_44 : decode cX8_tries 44 = .ok (.iload_n 3, 1) := dk_29 (dk_at dksX8_tries_1 21 rfl rfl)
theorem dX8_tries_45 : decode cX8_tries 45 = .ok (.iload_n 2, 1) := dk_28 (dk_at dksX8_tries_1 22 rfl rfl)
theorem dX8_tries_46 : decode cX8_tries 46 = .ok (.invokevirtual 59, 3) := dk_182 0 59 (dk_at dksX8_tries_2 0 rfl rfl)
theorem dX8_tries_49 : decode cX8_tries 49 = .ok (.ifCond .ne 6, 3) := dk_154 0 6 (dk_at dksX8_tries_2 3 rfl rfl)
theorem dX8_tries_52 : decode cX8_tries 52 = .ok (.goto 22, 3) := dk_167 0 22 (dk_at dksX8_tries_2 6 rfl rfl)
theorem dX8_tries_55 : decode cX8_tries 55 = .ok (.aload_n 0, 1) := dk_42 (dk_at dksX8_tries_2 9 rfl rfl)
theorem dX8_tries_56 : decode cX8_tries 56 = .ok (.getfield 15, 3) := dk_180 0 15 (dk_at dksX8_tries_2 10 rfl rfl)
theorem dX8_tries_59 : decode cX8_tries 59 = .ok (.iload_n 1, 1) := dk_27 (dk_at dksX8_tries_2 13 rfl rfl)
theorem dX8_tries_60 : decode cX8_tries 60 = .ok (.iload_n 3, 1) := dk_29 (dk_at dksX8_tries_2 14 rfl rfl)
theorem dX8_tries_61 : decode cX8_tries 61 = .ok (.iastore, 1) := dk_79 (dk_at dksX8_tries_2 15 rfl rfl)
theorem dX8_tries_62 : decode cX8_tries 62 = .ok (.aload_n 0, 1) := dk_42 (dk_at dksX8_tries_2 16 rfl rfl)
theorem dX8_tries_63 : decode cX8_tries 63 = .ok (.iload_n 1, 1) := dk_27 (dk_at dksX8_tries_2 17 rfl rfl)
theorem dX8_tries_64 : decode cX8_tries 64 = .ok (.iconst 1, 1) := dk_4 (dk_at dksX8_tries_2 18 rfl rfl)
theorem dX8_tries_65 : decode cX8_tries 65 = .ok (.iadd, 1) := dk_96 (dk_at dksX8_tries_2 19 rfl rfl)
theorem dX8_tries_66 : decode cX8_tries 66 = .ok (.iload_n 2, 1) := dk_28 (dk_at dksX8_tries_2 20 rfl rfl)
theorem dX8_tries_67 : decode cX8_tries 67 = .ok (.iconst 1, 1) := dk_4 (dk_at dksX8_tries_2 21 rfl rfl)
theorem dX8_tries_68 : decode cX8_tries 68 = .ok (.iload_n 3, 1) := dk_29 (dk_at dksX8_tries_2 22 rfl rfl)
theorem dX8_tries_69 : decode cX8_tries 69 = .ok (.ishl, 1) := dk_120 (dk_at dksX8_tries_2 23 rfl rfl)
theorem dX8_tries_70 : decode cX8_tries 70 = .ok (.ior, 1) := dk_128 (dk_at dksX8_tries_3 0 rfl rfl)
theorem dX8_tries_71 : decode cX8_tries 71 = .ok (.invokevirtual 41, 3) := dk_182 0 41 (dk_at dksX8_tries_3 1 rfl rfl)
theorem dX8_tries_74 : decode cX8_tries 74 = .ok (.iinc 3 1, 3) := dk_132 3 1 (dk_at dksX8_tries_3 4 rfl rfl)
theorem dX8_tries_77 : decode cX8_tries 77 = .ok (.goto (-56), 3) := dk_167 255 200 (dk_at dksX8_tries_3 7 rfl rfl)
theorem dX8_tries_80 : decode cX8_tries 80 = .ok (.return_, 1) := dk_177 (dk_at dksX8_tries_3 10 rfl rfl)
abbrev cX8_ends : ByteArray := prog_10_method_5_code
def yX8_ends : MethodName := ⟨RX8, "ends", "()V"⟩
def dkwX8_ends_6 : List UInt8 := [180, 0, 15, 28, 46, 96, 92, 46, 4, 96, 79, 132, 2, 1, 167, 255, 214, 132, 1, 1, 167, 255, 190, 177]
abbrev dktX8_ends_6 : List UInt8 := dkwX8_ends_6 ++ []
def dkwX8_ends_5 : List UInt8 := [180, 0, 45, 180, 0, 49, 162, 0, 34, 42, 180, 0, 22, 16, 6, 42, 180, 0, 15, 27, 46, 104, 42]
abbrev dktX8_ends_5 : List UInt8 := dkwX8_ends_5 ++ dktX8_ends_6
def dkwX8_ends_4 : List UInt8 := [42, 180, 0, 3, 180, 0, 45, 180, 0, 49, 162, 0, 58, 27, 4, 96, 61, 28, 42, 180, 0, 3]
abbrev dktX8_ends_4 : List UInt8 := dkwX8_ends_4 ++ dktX8_ends_5
def dkwX8_ends_3 : List UInt8 := [180, 0, 15, 42, 180, 0, 3, 180, 0, 45, 180, 0, 49, 4, 100, 46, 120, 128, 181, 0, 38, 3, 60, 27]
abbrev dktX8_ends_3 : List UInt8 := dkwX8_ends_3 ++ dktX8_ends_4
def dkwX8_ends_2 : List UInt8 := [180, 0, 35, 4, 42, 180, 0, 15, 3, 46, 120, 128, 181, 0, 35, 42, 89, 180, 0, 38, 4, 42]
abbrev dktX8_ends_2 : List UInt8 := dkwX8_ends_2 ++ dktX8_ends_3
def dkwX8_ends_1 : List UInt8 := [180, 0, 32, 4, 96, 181, 0, 32, 42, 180, 0, 3, 180, 0, 45, 180, 0, 49, 154, 0, 4, 177, 42, 89]
abbrev dktX8_ends_1 : List UInt8 := dkwX8_ends_1 ++ dktX8_ends_2
def dkwX8_ends_0 : List UInt8 := [42, 180, 0, 32, 154, 0, 18, 42, 180, 0, 15, 3, 42, 180, 0, 19, 3, 16, 6, 184, 0, 68, 42, 89]
abbrev dktX8_ends_0 : List UInt8 := dkwX8_ends_0 ++ dktX8_ends_1
theorem dksX8_ends_0 : cX8_ends.data.toList.drop 0 = dktX8_ends_0 := by decide +kernel
theorem dksX8_ends_1 : cX8_ends.data.toList.drop 24 = dktX8_ends_1 := dk_seg dksX8_ends_0 24 rfl rfl
theorem dksX8_ends_2 : cX8_ends.data.toList.drop 48 = dktX8_ends_2 := dk_seg dksX8_ends_1 24 rfl rfl
theorem dksX8_ends_3 : cX8_ends.data.toList.drop 70 = dktX8_ends_3 := dk_seg dksX8_ends_2 22 rfl rfl
theorem dksX8_ends_4 : cX8_ends.data.toList.drop 94 = dktX8_ends_4 := dk_seg dksX8_ends_3 24 rfl rfl
theorem dksX8_ends_5 : cX8_ends.data.toList.drop 116 = dktX8_ends_5 := dk_seg dksX8_ends_4 22 rfl rfl
theorem dksX8_ends_6 : cX8_ends.data.toList.drop 139 = dktX8_ends_6 := dk_seg dksX8_ends_5 23 rfl rfl
theorem dX8_ends_0 : decode cX8_ends 0 = .ok (.aload_n 0, 1) := dk_42 (dk_at dksX8_ends_0 0 rfl rfl)
theorem dX8_ends_1 : decode cX8_ends 1 = .ok (.getfield 32, 3) := dk_180 0 32 (dk_at dksX8_ends_0 1 rfl rfl)
theorem dX8_ends_4 : decode cX8_ends 4 = .ok (.ifCond .ne 18, 3) := dk_154 0 18 (dk_at dksX8_ends_0 4 rfl rfl)
theorem dX8_ends_7 : decode cX8_ends 7 = .ok (.aload_n 0, 1) := dk_42 (dk_at dksX8_ends_0 7 rfl rfl)
theorem dX8_ends_8 : decode cX8_ends 8 = .ok (.getfield 15, 3) := dk_180 0 15 (dk_at dksX8_ends_0 8 rfl rfl)
theorem dX8_ends_11 : decode cX8_ends 11 = .ok (.iconst 0, 1) := dk_3 (dk_at dksX8_ends_0 11 rfl rfl)
theorem dX8_ends_12 : decode cX8_ends 12 = .ok (.aload_n 0, 1) := dk_42 (dk_at dksX8_ends_0 12 rfl rfl)
theorem dX8_ends_13 : decode cX8_ends 13 = .ok (.getfield 19, 3) := dk_180 0 19 (dk_at dksX8_ends_0 13 rfl rfl)
theorem dX8_ends_16 : decode cX8_ends 16 = .ok (.iconst 0, 1) := dk_3 (dk_at dksX8_ends_0 16 rfl rfl)
theorem dX8_ends_17 : decode cX8_ends 17 = .ok (.bipush 6, 2) := dk_16 6 (dk_at dksX8_ends_0 17 rfl rfl)
theorem dX8_ends_19 : decode cX8_ends 19 = .ok (.invokestatic 68, 3) := dk_184 0 68 (dk_at dksX8_ends_0 19 rfl rfl)
theorem dX8_ends_22 : decode cX8_ends 22 = .ok (.aload_n 0, 1) := dk_42 (dk_at dksX8_ends_0 22 rfl rfl)
theorem dX8_ends_23 : decode cX8_ends 23 = .ok (.dup, 1) := dk_89 (dk_at dksX8_ends_0 23 rfl rfl)
theorem dX8_ends_24 : decode cX8_ends 24 = .ok (.getfield 32, 3) := dk_180 0 32 (dk_at dksX8_ends_1 0 rfl rfl)
theorem dX8_ends_27 : decode cX8_ends 27 = .ok (.iconst 1, 1) := dk_4 (dk_at dksX8_ends_1 3 rfl rfl)
theorem dX8_ends_28 : decode cX8_ends 28 = .ok (.iadd, 1) := dk_96 (dk_at dksX8_ends_1 4 rfl rfl)
theorem dX8_ends_29 : decode cX8_ends 29 = .ok (.putfield 32, 3) := dk_181 0 32 (dk_at dksX8_ends_1 5 rfl rfl)
theorem dX8_ends_32 : decode cX8_ends 32 = .ok (.aload_n 0, 1) := dk_42 (dk_at dksX8_ends_1 8 rfl rfl)
theorem dX8_ends_33 : decode cX8_ends 33 = .ok (.getfield 3, 3) := dk_180 0 3 (dk_at dksX8_ends_1 9 rfl rfl)
theorem dX8_ends_36 : decode cX8_ends 36 = .ok (.getfield 45, 3) := dk_180 0 45 (dk_at dksX8_ends_1 12 rfl rfl)
theorem dX8_ends_39 : decode cX8_ends 39 = .ok (.getfield 49, 3) := dk_180 0 49 (dk_at dksX8_ends_1 15 rfl rfl)
theorem dX8_ends_42 : decode cX8_ends 42 = .ok (.ifCond .ne 4, 3) := dk_154 0 4 (dk_at dksX8_ends_1 18 rfl rfl)
theorem dX8_ends_45 : decode cX8_ends 45 = .ok (.return_, 1) := dk_177 (dk_at dksX8_ends_1 21 rfl rfl)
theorem dX8_ends_46 : decode cX8_ends 46 = .ok (.aload_n 0, 1) := dk_42 (dk_at dksX8_ends_1 22 rfl rfl)
theorem dX8_ends_47 : decode cX8_ends 47 = .ok (.dup, 1) := dk_89 (dk_at dksX8_ends_1 23 rfl rfl)
theorem dX8_ends_48 : decode cX8_ends 48 = .ok (.getfield 35, 3) := dk_180 0 35 (dk_at dksX8_ends_2 0 rfl rfl)
theorem dX8_ends_51 : decode cX8_ends 51 = .ok (.iconst 1, 1) := dk_4 (dk_at dksX8_ends_2 3 rfl rfl)
theorem dX8_ends_52 : decode cX8_ends 52 = .ok (.aload_n 0, 1) := dk_42 (dk_at dksX8_ends_2 4 rfl rfl)
theorem dX8_ends_53 : decode cX8_ends 53 = .ok (.getfield 15, 3) := dk_180 0 15 (dk_at dksX8_ends_2 5 rfl rfl)
theorem dX8_ends_56 : decode cX8_ends 56 = .ok (.iconst 0, 1) := dk_3 (dk_at dksX8_ends_2 8 rfl rfl)
theorem dX8_ends_57 : decode cX8_ends 57 = .ok (.iaload, 1) := dk_46 (dk_at dksX8_ends_2 9 rfl rfl)
theorem dX8_ends_58 : decode cX8_ends 58 = .ok (.ishl, 1) := dk_120 (dk_at dksX8_ends_2 10 rfl rfl)
theorem dX8_ends_59 : decode cX8_ends 59 = .ok (.ior, 1) := dk_128 (dk_at dksX8_ends_2 11 rfl rfl)
theorem dX8_ends_60 : decode cX8_ends 60 = .ok (.putfield 35, 3) := dk_181 0 35 (dk_at dksX8_ends_2 12 rfl rfl)
theorem dX8_ends_63 : decode cX8_ends 63 = .ok (.aload_n 0, 1) := dk_42 (dk_at dksX8_ends_2 15 rfl rfl)
theorem dX8_ends_64 : decode cX8_ends 64 = .ok (.dup, 1) := dk_89 (dk_at dksX8_ends_2 16 rfl rfl)
theorem dX8_ends_65 : decode cX8_ends 65 = .ok (.getfield 38, 3) := dk_180 0 38 (dk_at dksX8_ends_2 17 rfl rfl)
theorem dX8_ends_68 : decode cX8_ends 68 = .ok (.iconst 1, 1) := dk_4 (dk_at dksX8_ends_2 20 rfl rfl)
theorem dX8_ends_69 : decode cX8_ends 69 = .ok (.aload_n 0, 1) := dk_42 (dk_at dksX8_ends_2 21 rfl rfl)
theorem dX8_ends_70 : decode cX8_ends 70 = .ok (.getfield 15, 3) := dk_180 0 15 (dk_at dksX8_ends_3 0 rfl rfl)
theorem dX8_ends_73 : decode cX8_ends 73 = .ok (.aload_n 0, 1) := dk_42 (dk_at dksX8_ends_3 3 rfl rfl)
theorem dX8_ends_74 : decode cX8_ends 74 = .ok (.getfield 3, 3) := dk_180 0 3 (dk_at dksX8_ends_3 4 rfl rfl)
theorem dX8_ends_77 : decode cX8_ends 77 = .ok (.getfield 45, 3) := dk_180 0 45 (dk_at dksX8_ends_3 7 rfl rfl)
theorem dX8_ends_80 : decode cX8_ends 80 = .ok (.getfield 49, 3) := dk_180 0 49 (dk_at dksX8_ends_3 10 rfl rfl)
theorem dX8_ends_83 : decode cX8_ends 83 = .ok (.iconst 1, 1) := dk_4 (dk_at dksX8_ends_3 13 rfl rfl)
theorem dX8_ends_84 : decode cX8_ends 84 = .ok (.isub, 1) := dk_100 (dk_at dksX8_ends_3 14 rfl rfl)
theorem dX8_ends_85 : decode cX8_ends 85 = .ok (.iaload, 1) := dk_46 (dk_at dksX8_ends_3 15 rfl rfl)
theorem dX8_ends_86 : decode cX8_ends 86 = .ok (.ishl, 1) := dk_120 (dk_at dksX8_ends_3 16 rfl rfl)
theorem dX8_ends_87 : decode cX8_ends 87 = .ok (.ior, 1) := dk_128 (dk_at dksX8_ends_3 17 rfl rfl)
theorem dX8_ends_88 : decode cX8_ends 88 = .ok (.putfield 38, 3) := dk_181 0 38 (dk_at dksX8_ends_3 18 rfl rfl)
theorem dX8_ends_91 : decode cX8_ends 91 = .ok (.iconst 0, 1) := dk_3 (dk_at dksX8_ends_3 21 rfl rfl)
theorem dX8_ends_92 : decode cX8_ends 92 = .ok (.istore_n 1, 1) := dk_60 (dk_at dksX8_ends_3 22 rfl rfl)
theorem dX8_ends_93 : decode cX8_ends 93 = .ok (.iload_n 1, 1) := dk_27 (dk_at dksX8_ends_3 23 rfl rfl)
theorem dX8_ends_94 : decode cX8_ends 94 = .ok (.aload_n 0, 1) := dk_42 (dk_at dksX8_ends_4 0 rfl rfl)
theorem dX8_ends_95 : decode cX8_ends 95 = .ok (.getfield 3, 3) := dk_180 0 3 (dk_at dksX8_ends_4 1 rfl rfl)
theorem dX8_ends_98 : decode cX8_ends 98 = .ok (.getfield 45, 3) := dk_180 0 45 (dk_at dksX8_ends_4 4 rfl rfl)
theorem dX8_ends_101 : decode cX8_ends 101 = .ok (.getfield 49, 3) := dk_180 0 49 (dk_at dksX8_ends_4 7 rfl rfl)
theorem dX8_ends_104 : decode cX8_ends 104 = .ok (.if_icmp .ge 58, 3) := dk_162 0 58 (dk_at dksX8_ends_4 10 rfl rfl)
theorem dX8_ends_107 : decode cX8_ends 107 = .ok (.iload_n 1, 1) := dk_27 (dk_at dksX8_ends_4 13 rfl rfl)
theorem dX8_ends_108 : decode cX8_ends 108 = .ok (.iconst 1, 1) := dk_4 (dk_at dksX8_ends_4 14 rfl rfl)
theorem dX8_ends_109 : decode cX8_ends 109 = .ok (.iadd, 1) := dk_96 (dk_at dksX8_ends_4 15 rfl rfl)
theorem dX8_ends_110 : decode cX8_ends 110 = .ok (.istore_n 2, 1) := dk_61 (dk_at dksX8_ends_4 16 rfl rfl)
theorem dX8_ends_111 : decode cX8_ends 111 = .ok (.iload_n 2, 1) := dk_28 (dk_at dksX8_ends_4 17 rfl rfl)
theorem dX8_ends_112 : decode cX8_ends 112 = .ok (.aload_n 0, 1) := dk_42 (dk_at dksX8_ends_4 18 rfl rfl)
theorem dX8_ends_113 : decode cX8_ends 113 = .ok (.getfield 3, 3) := dk_180 0 3 (dk_at dksX8_ends_4 19 rfl rfl)
theorem dX8_ends_116 : decode cX8_ends 116 = .ok (.getfield 45, 3) := dk_180 0 45 (dk_at dksX8_ends_5 0 rfl rfl)
theorem dX8_ends_119 : decode cX8_ends 119 = .ok (.getfield 49, 3) := dk_180 0 49 (dk_at dksX8_ends_5 3 rfl rfl)
theorem dX8_ends_122 : decode cX8_ends 122 = .ok (.if_icmp .ge 34, 3) := dk_162 0 34 (dk_at dksX8_ends_5 6 rfl rfl)
theorem dX8_ends_125 : decode cX8_ends 125 = .ok (.aload_n 0, 1) := dk_42 (dk_at dksX8_ends_5 9 rfl rfl)
theorem dX8_ends_126 : decode cX8_ends 126 = .ok (.getfield 22, 3) := dk_180 0 22 (dk_at dksX8_ends_5 10 rfl rfl)
theorem dX8_ends_129 : decode cX8_ends 129 = .ok (.bipush 6, 2) := dk_16 6 (dk_at dksX8_ends_5 13 rfl rfl)
theorem dX8_ends_131 : decode cX8_ends 131 = .ok (.aload_n 0, 1) := dk_42 (dk_at dksX8_ends_5 15 rfl rfl)
theorem dX8_ends_132 : decode cX8_ends 132 = .ok (.getfield 15, 3) := dk_180 0 15 (dk_at dksX8_ends_5 16 rfl rfl)
theorem dX8_ends_135 : decode cX8_ends 135 = .ok (.iload_n 1, 1) := dk_27 (dk_at dksX8_ends_5 19 rfl rfl)
theorem dX8_ends_136 : decode cX8_ends 136 = .ok (.iaload, 1) := dk_46 (dk_at dksX8_ends_5 20 rfl rfl)
theorem dX8_ends_137 : decode cX8_ends 137 = .ok (.imul, 1) := dk_104 (dk_at dksX8_ends_5 21 rfl rfl)
theorem dX8_ends_138 : decode cX8_ends 138 = .ok (.aload_n 0, 1) := dk_42 (dk_at dksX8_ends_5 22 rfl rfl)
theorem dX8_ends_139 : decode cX8_ends 139 = .ok (.getfield 15, 3) := dk_180 0 15 (dk_at dksX8_ends_6 0 rfl rfl)
theorem dX8_ends_142 : decode cX8_ends 142 = .ok (.iload_n 2, 1) := dk_28 (dk_at dksX8_ends_6 3 rfl rfl)
theorem dX8_ends_143 : decode cX8_ends 143 = .ok (.iaload, 1) := dk_46 (dk_at dksX8_ends_6 4 rfl rfl)
theorem dX8_ends_144 : decode cX8_ends 144 = .ok (.iadd, 1) := dk_96 (dk_at dksX8_ends_6 5 rfl rfl)
theorem dX8_ends_145 : decode cX8_ends 145 = .ok (.dup2, 1) := dk_92 (dk_at dksX8_ends_6 6 rfl rfl)
theorem dX8_ends_146 : decode cX8_ends 146 = .ok (.iaload, 1) := dk_46 (dk_at dksX8_ends_6 7 rfl rfl)
theorem dX8_ends_147 : decode cX8_ends 147 = .ok (.iconst 1, 1) := dk_4 (dk_at dksX8_ends_6 8 rfl rfl)
theorem dX8_ends_148 : decode cX8_ends 148 = .ok (.iadd, 1) := dk_96 (dk_at dksX8_ends_6 9 rfl rfl)
theorem dX8_ends_149 : decode cX8_ends 149 = .ok (.iastore, 1) := dk_79 (dk_at dksX8_ends_6 10 rfl rfl)
theorem dX8_ends_150 : decode cX8_ends 150 = .ok (.iinc 2 1, 3) := dk_132 2 1 (dk_at dksX8_ends_6 11 rfl rfl)
theorem dX8_ends_153 : decode cX8_ends 153 = .ok (.goto (-42), 3) := dk_167 255 214 (dk_at dksX8_ends_6 14 rfl rfl)
theorem dX8_ends_156 : decode cX8_ends 156 = .ok (.iinc 1 1, 3) := dk_132 1 1 (dk_at dksX8_ends_6 17 rfl rfl)
theorem dX8_ends_159 : decode cX8_ends 159 = .ok (.goto (-66), 3) := dk_167 255 190 (dk_at dksX8_ends_6 20 rfl rfl)
theorem dX8_ends_162 : decode cX8_ends 162 = .ok (.return_, 1) := dk_177 (dk_at dksX8_ends_6 23 rfl rfl)
abbrev cX8_mayPass : ByteArray := prog_10_method_4_code
def yX8_mayPass : MethodName := ⟨RX8, "mayPass", "(II)Z"⟩
def dkwX8_mayPass_2 : List UInt8 := [104, 4, 96, 46, 184, 0, 55, 154, 0, 5, 3, 172, 132, 3, 1, 167, 255, 196, 4, 172]
abbrev dktX8_mayPass_2 : List UInt8 := dkwX8_mayPass_2 ++ []
def dkwX8_mayPass_1 : List UInt8 := [180, 0, 65, 5, 29, 104, 46, 27, 160, 0, 28, 28, 42, 180, 0, 3, 180, 0, 45, 180, 0, 65, 5, 29]
abbrev dktX8_mayPass_1 : List UInt8 := dkwX8_mayPass_1 ++ dktX8_mayPass_2
def dkwX8_mayPass_0 : List UInt8 := [3, 62, 29, 42, 180, 0, 3, 180, 0, 45, 180, 0, 62, 162, 0, 52, 42, 180, 0, 3, 180, 0, 45]
abbrev dktX8_mayPass_0 : List UInt8 := dkwX8_mayPass_0 ++ dktX8_mayPass_1
theorem dksX8_mayPass_0 : cX8_mayPass.data.toList.drop 0 = dktX8_mayPass_0 := by decide +kernel
theorem dksX8_mayPass_1 : cX8_mayPass.data.toList.drop 23 = dktX8_mayPass_1 := dk_seg dksX8_mayPass_0 23 rfl rfl
theorem dksX8_mayPass_2 : cX8_mayPass.data.toList.drop 47 = dktX8_mayPass_2 := dk_seg dksX8_mayPass_1 24 rfl rfl
theorem dX8_mayPass_0 : decode cX8_mayPass 0 = .ok (.iconst 0, 1) := dk_3 (dk_at dksX8_mayPass_0 0 rfl rfl)
theorem dX8_mayPass_1 : decode cX8_mayPass 1 = .ok (.istore_n 3, 1) := dk_62 (dk_at dksX8_mayPass_0 1 rfl rfl)
theorem dX8_mayPass_2 : decode cX8_mayPass 2 = .ok (.iload_n 3, 1) := dk_29 (dk_at dksX8_mayPass_0 2 rfl rfl)
theorem dX8_mayPass_3 : decode cX8_mayPass 3 = .ok (.aload_n 0, 1) := dk_42 (dk_at dksX8_mayPass_0 3 rfl rfl)
theorem dX8_mayPass_4 : decode cX8_mayPass 4 = .ok (.getfield 3, 3) := dk_180 0 3 (dk_at dksX8_mayPass_0 4 rfl rfl)
theorem dX8_mayPass_7 : decode cX8_mayPass 7 = .ok (.getfield 45, 3) := dk_180 0 45 (dk_at dksX8_mayPass_0 7 rfl rfl)
theorem dX8_mayPass_10 : decode cX8_mayPass 10 = .ok (.getfield 62, 3) := dk_180 0 62 (dk_at dksX8_mayPass_0 10 rfl rfl)
theorem dX8_mayPass_13 : decode cX8_mayPass 13 = .ok (.if_icmp .ge 52, 3) := dk_162 0 52 (dk_at dksX8_mayPass_0 13 rfl rfl)
theorem dX8_mayPass_16 : decode cX8_mayPass 16 = .ok (.aload_n 0, 1) := dk_42 (dk_at dksX8_mayPass_0 16 rfl rfl)
theorem dX8_mayPass_17 : decode cX8_mayPass 17 = .ok (.getfield 3, 3) := dk_180 0 3 (dk_at dksX8_mayPass_0 17 rfl rfl)
theorem dX8_mayPass_20 : decode cX8_mayPass 20 = .ok (.getfield 45, 3) := dk_180 0 45 (dk_at dksX8_mayPass_0 20 rfl rfl)
theorem dX8_mayPass_23 : decode cX8_mayPass 23 = .ok (.getfield 65, 3) := dk_180 0 65 (dk_at dksX8_mayPass_1 0 rfl rfl)
theorem dX8_mayPass_26 : decode cX8_mayPass 26 = .ok (.iconst 2, 1) := dk_5 (dk_at dksX8_mayPass_1 3 rfl rfl)
theorem dX8_mayPass_27 : decode cX8_mayPass 27 = .ok (.iload_n 3, 1) := dk_29 (dk_at dksX8_mayPass_1 4 rfl rfl)
theorem dX8_mayPass_28 : decode cX8_mayPass 28 = .ok (.imul, 1) := dk_104 (dk_at dksX8_mayPass_1 5 rfl rfl)
theorem dX8_mayPass_29 : decode cX8_mayPass 29 = .ok (.iaload, 1) := dk_46 (dk_at dksX8_mayPass_1 6 rfl rfl)
theorem dX8_mayPass_30 : decode cX8_mayPass 30 = .ok (.iload_n 1, 1) := dk_27 (dk_at dksX8_mayPass_1 7 rfl rfl)
theorem dX8_mayPass_31 : decode cX8_mayPass 31 = .ok (.if_icmp .ne 28, 3) := dk_160 0 28 (dk_at dksX8_mayPass_1 8 rfl rfl)
theorem dX8_mayPass_34 : decode cX8_mayPass 34 = .ok (.iload_n 2, 1) := dk_28 (dk_at dksX8_mayPass_1 11 rfl rfl)
theorem dX8_mayPass_35 : decode cX8_mayPass 35 = .ok (.aload_n 0, 1) := dk_42 (dk_at dksX8_mayPass_1 12 rfl rfl)
theorem dX8_mayPass_36 : decode cX8_mayPass 36 = .ok (.getfield 3, 3) := dk_180 0 3 (dk_at dksX8_mayPass_1 13 rfl rfl)
theorem dX8_mayPass_39 : decode cX8_mayPass 39 = .ok (.getfield 45, 3) := dk_180 0 45 (dk_at dksX8_mayPass_1 16 rfl rfl)
theorem dX8_mayPass_42 : decode cX8_mayPass 42 = .ok (.getfield 65, 3) := dk_180 0 65 (dk_at dksX8_mayPass_1 19 rfl rfl)
theorem dX8_mayPass_45 : decode cX8_mayPass 45 = .ok (.iconst 2, 1) := dk_5 (dk_at dksX8_mayPass_1 22 rfl rfl)
theorem dX8_mayPass_46 : decode cX8_mayPass 46 = .ok (.iload_n 3, 1) := dk_29 (dk_at dksX8_mayPass_1 23 rfl rfl)
theorem dX8_mayPass_47 : decode cX8_mayPass 47 = .ok (.imul, 1) := dk_104 (dk_at dksX8_mayPass_2 0 rfl rfl)
theorem dX8_mayPass_48 : decode cX8_mayPass 48 = .ok (.iconst 1, 1) := dk_4 (dk_at dksX8_mayPass_2 1 rfl rfl)
theorem dX8_mayPass_49 : decode cX8_mayPass 49 = .ok (.iadd, 1) := dk_96 (dk_at dksX8_mayPass_2 2 rfl rfl)
theorem dX8_mayPass_50 : decode cX8_mayPass 50 = .ok (.iaload, 1) := dk_46 (dk_at dksX8_mayPass_2 3 rfl rfl)
theorem dX8_mayPass_51 : decode cX8_mayPass 51 = .ok (.invokestatic 55, 3) := dk_184 0 55 (dk_at dksX8_mayPass_2 4 rfl rfl)
theorem dX8_mayPass_54 : decode cX8_mayPass 54 = .ok (.ifCond .ne 5, 3) := dk_154 0 5 (dk_at dksX8_mayPass_2 7 rfl rfl)
theorem dX8_mayPass_57 : decode cX8_mayPass 57 = .ok (.iconst 0, 1) := dk_3 (dk_at dksX8_mayPass_2 10 rfl rfl)
theorem dX8_mayPass_58 : decode cX8_mayPass 58 = .ok (.ireturn, 1) := dk_172 (dk_at dksX8_mayPass_2 11 rfl rfl)
theorem dX8_mayPass_59 : decode cX8_mayPass 59 = .ok (.iinc 3 1, 3) := dk_132 3 1 (dk_at dksX8_mayPass_2 12 rfl rfl)
theorem dX8_mayPass_62 : decode cX8_mayPass 62 = .ok (.goto (-60), 3) := dk_167 255 196 (dk_at dksX8_mayPass_2 15 rfl rfl)
theorem dX8_mayPass_65 : decode cX8_mayPass 65 = .ok (.iconst 1, 1) := dk_4 (dk_at dksX8_mayPass_2 18 rfl rfl)
theorem dX8_mayPass_66 : decode cX8_mayPass 66 = .ok (.ireturn, 1) := dk_172 (dk_at dksX8_mayPass_2 19 rfl rfl)
theorem q116 : (Jvm.Cond.initialized "SnailPost$Orders") ∈ lw_all := lw_g (lw_at lw_m1 14 rfl) rfl
theorem q198 : (Jvm.Cond.fieldLinkNest "SnailPost$Orders" (65 : Nat) "SnailPost$State" "crossings" "[I" "SnailPost") ∈ lw_tbl := lw_at lw_m1 96 rfl
theorem q207 : (Jvm.Cond.fieldLinkNest "SnailPost$Orders" (49 : Nat) "SnailPost$State" "many" "I" "SnailPost") ∈ lw_tbl := lw_at lw_m1 105 rfl
theorem q215 : (Jvm.Cond.fieldLinkNest "SnailPost$Orders" (62 : Nat) "SnailPost$State" "crossMany" "I" "SnailPost") ∈ lw_tbl := lw_at lw_m1 113 rfl
theorem q446 : (Jvm.Cond.instantiable "SnailPost$Orders" (8 : Nat)) ∈ lw_all := lw_g (lw_at lw_m2 104 rfl) rfl
theorem q448 : (Jvm.Cond.instanceMethod ({ cls := "SnailPost$Orders", name := "<init>", desc := "(LSnailPost;)V" } : Jvm.MethodName)) ∈ lw_all := lw_g (lw_at lw_m2 106 rfl) rfl
theorem q449 : (Jvm.Cond.code ({ cls := "SnailPost$Orders", name := "<init>", desc := "(LSnailPost;)V" } : Jvm.MethodName) prog_10_method_1_code (2 : Nat) (Option.none : Option Jvm.ClassFile.FieldType)) ∈ lw_all := lw_g (lw_at lw_m2 107 rfl) rfl
theorem q450 : (Jvm.Cond.methodLink "SnailPost$Orders" (9 : Nat) ({ cls := "java/lang/Object", name := "<init>", desc := "()V" } : Jvm.MethodName)) ∈ lw_all := lw_g (lw_at lw_m2 108 rfl) rfl
theorem q451 : (Jvm.Cond.fieldLink "SnailPost$Orders" (15 : Nat) "SnailPost$Orders" "row" "[I") ∈ lw_all := lw_g (lw_at lw_m2 109 rfl) rfl
theorem q452 : (Jvm.Cond.fieldLink "SnailPost$Orders" (19 : Nat) "SnailPost$Orders" "first" "[I") ∈ lw_all := lw_g (lw_at lw_m2 110 rfl) rfl
theorem q454 : (Jvm.Cond.fieldLink "SnailPost$Orders" (22 : Nat) "SnailPost$Orders" "ahead" "[I") ∈ lw_all := lw_g (lw_at lw_m2 112 rfl) rfl
theorem q456 : (Jvm.Cond.fieldLink "SnailPost$Orders" (25 : Nat) "SnailPost$Orders" "made" "I") ∈ lw_all := lw_g (lw_at lw_m2 114 rfl) rfl
theorem q457 : (Jvm.Cond.fieldLink "SnailPost$Orders" (32 : Nat) "SnailPost$Orders" "many" "I") ∈ lw_all := lw_g (lw_at lw_m2 115 rfl) rfl
theorem q459 : (Jvm.Cond.fieldLink "SnailPost$Orders" (35 : Nat) "SnailPost$Orders" "firsts" "I") ∈ lw_all := lw_g (lw_at lw_m2 117 rfl) rfl
theorem q461 : (Jvm.Cond.fieldLink "SnailPost$Orders" (38 : Nat) "SnailPost$Orders" "lasts" "I") ∈ lw_all := lw_g (lw_at lw_m2 119 rfl) rfl
theorem q463 : (Jvm.Cond.fieldLink "SnailPost$Orders" (3 : Nat) "SnailPost$Orders" "this$0" "LSnailPost;") ∈ lw_all := lw_g (lw_at lw_m2 121 rfl) rfl
theorem q464 : (Jvm.Cond.laysFinal "SnailPost$Orders" "SnailPost$Orders" "row" "[I") ∈ lw_all := lw_g (lw_at lw_m2 122 rfl) rfl
theorem q465 : (Jvm.Cond.soleField "SnailPost$Orders" "row") ∈ lw_all := lw_g (lw_at lw_m2 123 rfl) rfl
theorem q466 : (Jvm.Cond.laysFinal "SnailPost$Orders" "SnailPost$Orders" "first" "[I") ∈ lw_all := lw_g (lw_at lw_m2 124 rfl) rfl
theorem q467 : (Jvm.Cond.soleField "SnailPost$Orders" "first") ∈ lw_all := lw_g (lw_at lw_m2 125 rfl) rfl
theorem q468 : (Jvm.Cond.laysFinal "SnailPost$Orders" "SnailPost$Orders" "ahead" "[I") ∈ lw_all := lw_g (lw_at lw_m2 126 rfl) rfl
theorem q469 : (Jvm.Cond.soleField "SnailPost$Orders" "ahead") ∈ lw_all := lw_g (lw_at lw_m2 127 rfl) rfl
theorem q470 : (Jvm.Cond.lays "SnailPost$Orders" "SnailPost$Orders" "made" "I") ∈ lw_all := lw_g (lw_at lw_m2 128 rfl) rfl
theorem q471 : (Jvm.Cond.soleField "SnailPost$Orders" "made") ∈ lw_all := lw_g (lw_at lw_m2 129 rfl) rfl
theorem q472 : (Jvm.Cond.lays "SnailPost$Orders" "SnailPost$Orders" "many" "I") ∈ lw_all := lw_g (lw_at lw_m2 130 rfl) rfl
theorem q473 : (Jvm.Cond.soleField "SnailPost$Orders" "many") ∈ lw_all := lw_g (lw_at lw_m2 131 rfl) rfl
theorem q474 : (Jvm.Cond.lays "SnailPost$Orders" "SnailPost$Orders" "firsts" "I") ∈ lw_all := lw_g (lw_at lw_m2 132 rfl) rfl
theorem q475 : (Jvm.Cond.soleField "SnailPost$Orders" "firsts") ∈ lw_all := lw_g (lw_at lw_m2 133 rfl) rfl
theorem q476 : (Jvm.Cond.lays "SnailPost$Orders" "SnailPost$Orders" "lasts" "I") ∈ lw_all := lw_g (lw_at lw_m2 134 rfl) rfl
theorem q477 : (Jvm.Cond.soleField "SnailPost$Orders" "lasts") ∈ lw_all := lw_g (lw_at lw_m2 135 rfl) rfl
theorem q478 : (Jvm.Cond.laysFinal "SnailPost$Orders" "SnailPost$Orders" "this$0" "LSnailPost;") ∈ lw_all := lw_g (lw_at lw_m2 136 rfl) rfl
theorem q479 : (Jvm.Cond.soleField "SnailPost$Orders" "this$0") ∈ lw_all := lw_g (lw_at lw_m2 137 rfl) rfl
theorem q480 : (Jvm.Cond.superclass "SnailPost$Orders" "java/lang/Object") ∈ lw_all := lw_g (lw_at lw_m2 138 rfl) rfl
theorem q485 : (Jvm.Cond.fieldLinkNest "SnailPost$Orders" (45 : Nat) "SnailPost" "state" "LSnailPost$State;" "SnailPost") ∈ lw_tbl := lw_at lw_m2 143 rfl
theorem q493 : (Jvm.Cond.fieldLinkNest "SnailPost$Orders" (29 : Nat) "SnailPost" "version" "I" "SnailPost") ∈ lw_tbl := lw_at lw_m2 151 rfl
theorem q628 : (Jvm.Cond.selects "SnailPost$Orders" ({ cls := "java/lang/Object", name := "getClass", desc := "()Ljava/lang/Class;" } : Jvm.MethodName) ({ cls := "java/lang/Object", name := "getClass", desc := "()Ljava/lang/Class;" } : Jvm.MethodName)) ∈ lw_all := lw_g (lw_at lw_m3 46 rfl) rfl
theorem q1370 : (Jvm.Cond.instanceMethod ({ cls := "SnailPost$Orders", name := "looks", desc := "()V" } : Jvm.MethodName)) ∈ lw_all := lw_g (lw_at lw_m6 68 rfl) rfl
theorem q1371 : (Jvm.Cond.selects "SnailPost$Orders" ({ cls := "SnailPost$Orders", name := "looks", desc := "()V" } : Jvm.MethodName) ({ cls := "SnailPost$Orders", name := "looks", desc := "()V" } : Jvm.MethodName)) ∈ lw_all := lw_g (lw_at lw_m6 69 rfl) rfl
theorem q1372 : (Jvm.Cond.code ({ cls := "SnailPost$Orders", name := "looks", desc := "()V" } : Jvm.MethodName) prog_10_method_2_code (2 : Nat) (Option.none : Option Jvm.ClassFile.FieldType)) ∈ lw_all := lw_g (lw_at lw_m6 70 rfl) rfl
theorem q1373 : (Jvm.Cond.methodLink "SnailPost$Orders" (41 : Nat) ({ cls := "SnailPost$Orders", name := "tries", desc := "(II)V" } : Jvm.MethodName)) ∈ lw_all := lw_g (lw_at lw_m6 71 rfl) rfl
theorem q1374 : (Jvm.Cond.privateMethod ({ cls := "SnailPost$Orders", name := "tries", desc := "(II)V" } : Jvm.MethodName)) ∈ lw_tbl := lw_at lw_m6 72 rfl
theorem q1375 : (Jvm.Cond.instanceMethod ({ cls := "SnailPost$Orders", name := "tries", desc := "(II)V" } : Jvm.MethodName)) ∈ lw_all := lw_g (lw_at lw_m6 73 rfl) rfl
theorem q1376 : (Jvm.Cond.code ({ cls := "SnailPost$Orders", name := "tries", desc := "(II)V" } : Jvm.MethodName) prog_10_method_3_code (4 : Nat) (Option.none : Option Jvm.ClassFile.FieldType)) ∈ lw_all := lw_g (lw_at lw_m6 74 rfl) rfl
theorem q1377 : (Jvm.Cond.methodLink "SnailPost$Orders" (52 : Nat) ({ cls := "SnailPost$Orders", name := "ends", desc := "()V" } : Jvm.MethodName)) ∈ lw_all := lw_g (lw_at lw_m6 75 rfl) rfl
theorem q1378 : (Jvm.Cond.privateMethod ({ cls := "SnailPost$Orders", name := "ends", desc := "()V" } : Jvm.MethodName)) ∈ lw_tbl := lw_at lw_m6 76 rfl
theorem q1379 : (Jvm.Cond.instanceMethod ({ cls := "SnailPost$Orders", name := "ends", desc := "()V" } : Jvm.MethodName)) ∈ lw_all := lw_g (lw_at lw_m6 77 rfl) rfl
theorem q1380 : (Jvm.Cond.code ({ cls := "SnailPost$Orders", name := "ends", desc := "()V" } : Jvm.MethodName) prog_10_method_5_code (3 : Nat) (Option.none : Option Jvm.ClassFile.FieldType)) ∈ lw_all := lw_g (lw_at lw_m6 78 rfl) rfl
theorem q1381 : (Jvm.Cond.methodLink "SnailPost$Orders" (68 : Nat) ({ cls := "java/lang/System", name := "arraycopy", desc := "(Ljava/lang/Object;ILjava/lang/Object;II)V" } : Jvm.MethodName)) ∈ lw_all := lw_g (lw_at lw_m6 79 rfl) rfl
theorem q1382 : (Jvm.Cond.methodLinkNest "SnailPost$Orders" (55 : Nat) ({ cls := "SnailPost", name := "isOf", desc := "(II)Z" } : Jvm.MethodName) "SnailPost") ∈ lw_tbl := lw_at lw_m6 80 rfl
theorem q1383 : (Jvm.Cond.methodLink "SnailPost$Orders" (59 : Nat) ({ cls := "SnailPost$Orders", name := "mayPass", desc := "(II)Z" } : Jvm.MethodName)) ∈ lw_all := lw_g (lw_at lw_m6 81 rfl) rfl
theorem q1384 : (Jvm.Cond.privateMethod ({ cls := "SnailPost$Orders", name := "mayPass", desc := "(II)Z" } : Jvm.MethodName)) ∈ lw_tbl := lw_at lw_m6 82 rfl
theorem q1385 : (Jvm.Cond.instanceMethod ({ cls := "SnailPost$Orders", name := "mayPass", desc := "(II)Z" } : Jvm.MethodName)) ∈ lw_all := lw_g (lw_at lw_m6 83 rfl) rfl
theorem q1386 : (Jvm.Cond.code ({ cls := "SnailPost$Orders", name := "mayPass", desc := "(II)Z" } : Jvm.MethodName) prog_10_method_4_code (4 : Nat) (Option.some Jvm.ClassFile.FieldType.boolean)) ∈ lw_all := lw_g (lw_at lw_m6 84 rfl) rfl
theorem q2083 : (Jvm.Cond.castable "SnailPost$Orders" "java/lang/Object") ∈ lw_tbl := lw_at lw_m9 61 rfl
theorem in_X8 : ∀ w ∈ wsX80, w ∈ lw_all := lw_in wsX80 [464, 466, 468, 470, 472, 474, 476, 478] (by decide +kernel) (by decide +kernel)
/-! SnailPost$Reader -/
set_option maxRecDepth 100000
def RX10 : String := "SnailPost$Reader"
def TX10 : u_T := fun k => match k with
  | 0 => ("SnailPost$Reader", "tape", "[B", true)
  | 1 => ("SnailPost$Reader", "size", "I", true)
  | 2 => ("SnailPost$Reader", "made", "Ljava/util/ArrayList;", true)
  | 3 => ("SnailPost$Reader", "from", "I", false)
  | 4 => ("SnailPost$Reader", "to", "I", false)
  | 5 => ("SnailPost$Reader", "leaves", "I", false)
  | _ => ("SnailPost$Reader", "deep", "I", false)
def tyX10 : Nat → FieldType := fun k => match k with
  | 0 => .array .byte
  | 1 => .int
  | 2 => .object "java/util/ArrayList"
  | 3 => .int
  | 4 => .int
  | 5 => .int
  | _ => .int
abbrev wsX100 : List Cond := u_ws RX10 TX10 7
theorem nmX10 : ∀ a, a < 7 → ∀ b, b < 7 → a ≠ b → (TX10 a).2.1 ≠ (TX10 b).2.1 := by decide +kernel
theorem tyX10_ok : ∀ k, k < 7 → parseFieldDescriptor (TX10 k).2.2.1 = some (tyX10 k) := by decide +kernel
abbrev cX10_init : ByteArray := prog_11_method_1_code
def yX10_init : MethodName := ⟨RX10, "<init>", "([BI)V"⟩
def dkwX10_init_1 : List UInt8 := [181, 0, 24, 177]
abbrev dktX10_init_1 : List UInt8 := dkwX10_init_1 ++ []
def dkwX10_init_0 : List UInt8 := [42, 183, 0, 3, 42, 187, 0, 9, 89, 5, 183, 0, 11, 181, 0, 14, 42, 43, 181, 0, 20, 42, 28]
abbrev dktX10_init_0 : List UInt8 := dkwX10_init_0 ++ dktX10_init_1
theorem dksX10_init_0 : cX10_init.data.toList.drop 0 = dktX10_init_0 := by decide +kernel
theorem dksX10_init_1 : cX10_init.data.toList.drop 23 = dktX10_init_1 := dk_seg dksX10_init_0 23 rfl rfl
theorem dX10_init_0 : decode cX10_init 0 = .ok (.aload_n 0, 1) := dk_42 (dk_at dksX10_init_0 0 rfl rfl)
theorem dX10_init_1 : decode cX10_init 1 = .ok (.invokespecial 3, 3) := dk_183 0 3 (dk_at dksX10_init_0 1 rfl rfl)
theorem dX10_init_4 : decode cX10_init 4 = .ok (.aload_n 0, 1) := dk_42 (dk_at dksX10_init_0 4 rfl rfl)
theorem dX10_init_5 : decode cX10_init 5 = .ok (.new 9, 3) := dk_187 0 9 (dk_at dksX10_init_0 5 rfl rfl)
theorem dX10_init_8 : decode cX10_init 8 = .ok (.dup, 1) := dk_89 (dk_at dksX10_init_0 8 rfl rfl)
theorem dX10_init_9 : decode cX10_init 9 = .ok (.iconst 2, 1) := dk_5 (dk_at dksX10_init_0 9 rfl rfl)
theorem dX10_init_10 : decode cX10_init 10 = .ok (.invokespecial 11, 3) := dk_183 0 11 (dk_at dksX10_init_0 10 rfl rfl)
theorem dX10_init_13 : decode cX10_init 13 = .ok (.putfield 14, 3) := dk_181 0 14 (dk_at dksX10_init_0 13 rfl rfl)
theorem dX10_init_16 : decode cX10_init 16 = .ok (.aload_n 0, 1) := dk_42 (dk_at dksX10_init_0 16 rfl rfl)
theorem dX10_init_17 : decode cX10_init 17 = .ok (.aload_n 1, 1) := dk_43 (dk_at dksX10_init_0 17 rfl rfl)
theorem dX10_init_18 : decode cX10_init 18 = .ok (.putfield 20, 3) := dk_181 0 20 (dk_at dksX10_init_0 18 rfl rfl)
theorem dX10_init_21 : decode cX10_init 21 = .ok (.aload_n 0, 1) := dk_42 (dk_at dksX10_init_0 21 rfl rfl)
theorem dX10_init_22 : decode cX10_init 22 = .ok (.iload_n 2, 1) := dk_28 (dk_at dksX10_init_0 22 rfl rfl)
theorem dX10_init_23 : decode cX10_init 23 = .ok (.putfield 24, 3) := dk_181 0 24 (dk_at dksX10_init_1 0 rfl rfl)
theorem dX10_init_26 : decode cX10_init 26 = .ok (.return_, 1) := dk_177 (dk_at dksX10_init_1 3 rfl rfl)
abbrev cX10_read : ByteArray := prog_11_method_8_code
def yX10_read : MethodName := ⟨RX10, "read", "()V"⟩
def dkwX10_read_1 : List UInt8 := [42, 180, 0, 31, 42, 180, 0, 24, 162, 0, 15, 187, 0, 58, 89, 42, 180, 0, 31, 183, 0, 60, 191, 177]
abbrev dktX10_read_1 : List UInt8 := dkwX10_read_1 ++ []
def dkwX10_read_0 : List UInt8 := [42, 182, 0, 52, 42, 182, 0, 61, 42, 18, 64, 182, 0, 55, 153, 0, 10, 42, 182, 0, 61, 167, 255, 243]
abbrev dktX10_read_0 : List UInt8 := dkwX10_read_0 ++ dktX10_read_1
theorem dksX10_read_0 : cX10_read.data.toList.drop 0 = dktX10_read_0 := by decide +kernel
theorem dksX10_read_1 : cX10_read.data.toList.drop 24 = dktX10_read_1 := dk_seg dksX10_read_0 24 rfl rfl
theorem dX10_read_0 : decode cX10_read 0 = .ok (.aload_n 0, 1) := dk_42 (dk_at dksX10_read_0 0 rfl rfl)
theorem dX10_read_1 : decode cX10_read 1 = .ok (.invokevirtual 52, 3) := dk_182 0 52 (dk_at dksX10_read_0 1 rfl rfl)
theorem dX10_read_4 : decode cX10_read 4 = .ok (.aload_n 0, 1) := dk_42 (dk_at dksX10_read_0 4 rfl rfl)
theorem dX10_read_5 : decode cX10_read 5 = .ok (.invokevirtual 61, 3) := dk_182 0 61 (dk_at dksX10_read_0 5 rfl rfl)
theorem dX10_read_8 : decode cX10_read 8 = .ok (.aload_n 0, 1) := dk_42 (dk_at dksX10_read_0 8 rfl rfl)
theorem dX10_read_9 : decode cX10_read 9 = .ok (.ldc 64, 2) := dk_18 64 (dk_at dksX10_read_0 9 rfl rfl)
theorem dX10_read_11 : decode cX10_read 11 = .ok (.invokevirtual 55, 3) := dk_182 0 55 (dk_at dksX10_read_0 11 rfl rfl)
theorem dX10_read_14 : decode cX10_read 14 = .ok (.ifCond .eq 10, 3) := dk_153 0 10 (dk_at dksX10_read_0 14 rfl rfl)
theorem dX10_read_17 : decode cX10_read 17 = .ok (.aload_n 0, 1) := dk_42 (dk_at dksX10_read_0 17 rfl rfl)
theorem dX10_read_18 : decode cX10_read 18 = .ok (.invokevirtual 61, 3) := dk_182 0 61 (dk_at dksX10_read_0 18 rfl rfl)
theorem dX10_read_21 : decode cX10_read 21 = .ok (.goto (-13), 3) := dk_167 255 243 (dk_at dksX10_read_0 21 rfl rfl)
theorem dX10_read_24 : decode cX10_read 24 = .ok (.aload_n 0, 1) := dk_42 (dk_at dksX10_read_1 0 rfl rfl)
theorem dX10_read_25 : decode cX10_read 25 = .ok (.getfield 31, 3) := dk_180 0 31 (dk_at dksX10_read_1 1 rfl rfl)
theorem dX10_read_28 : decode cX10_read 28 = .ok (.aload_n 0, 1) := dk_42 (dk_at dksX10_read_1 4 rfl rfl)
theorem dX10_read_29 : decode cX10_read 29 = .ok (.getfield 24, 3) := dk_180 0 24 (dk_at dksX10_read_1 5 rfl rfl)
theorem dX10_read_32 : decode cX10_read 32 = .ok (.if_icmp .ge 15, 3) := dk_162 0 15 (dk_at dksX10_read_1 8 rfl rfl)
theorem dX10_read_35 : decode cX10_read 35 = .ok (.new 58, 3) := dk_187 0 58 (dk_at dksX10_read_1 11 rfl rfl)
theorem dX10_read_38 : decode cX10_read 38 = .ok (.dup, 1) := dk_89 (dk_at dksX10_read_1 14 rfl rfl)
theorem dX10_read_39 : decode cX10_read 39 = .ok (.aload_n 0, 1) := dk_42 (dk_at dksX10_read_1 15 rfl rfl)
theorem dX10_read_40 : decode cX10_read 40 = .ok (.getfield 31, 3) := dk_180 0 31 (dk_at dksX10_read_1 16 rfl rfl)
theorem dX10_read_43 : decode cX10_read 43 = .ok (.invokespecial 60, 3) := dk_183 0 60 (dk_at dksX10_read_1 19 rfl rfl)
theorem dX10_read_46 : decode cX10_read 46 = .ok (.athrow, 1) := dk_191 (dk_at dksX10_read_1 22 rfl rfl)
theorem dX10_read_47 : decode cX10_read 47 = .ok (.return_, 1) := dk_177 (dk_at dksX10_read_1 23 rfl rfl)
abbrev cX10_next : ByteArray := prog_11_method_3_code
def yX10_next : MethodName := ⟨RX10, "next", "()V"⟩
def dkwX10_next_6 : List UInt8 := [162, 0, 13, 42, 89, 180, 0, 28, 4, 96, 181, 0, 28, 177]
abbrev dktX10_next_6 : List UInt8 := dkwX10_next_6 ++ []
def dkwX10_next_5 : List UInt8 := [153, 0, 37, 42, 89, 180, 0, 28, 4, 96, 181, 0, 28, 167, 255, 231, 42, 180, 0, 31, 42, 180, 0, 24]
abbrev dktX10_next_5 : List UInt8 := dkwX10_next_5 ++ dktX10_next_6
def dkwX10_next_4 : List UInt8 := [16, 48, 16, 57, 182, 0, 34, 153, 0, 31, 42, 42, 180, 0, 28, 16, 48, 16, 57, 182, 0, 34]
abbrev dktX10_next_4 : List UInt8 := dkwX10_next_4 ++ dktX10_next_5
def dkwX10_next_3 : List UInt8 := [182, 0, 34, 153, 0, 80, 42, 89, 180, 0, 28, 4, 96, 181, 0, 28, 167, 255, 231, 42, 42, 180, 0, 31]
abbrev dktX10_next_3 : List UInt8 := dkwX10_next_3 ++ dktX10_next_4
def dkwX10_next_2 : List UInt8 := [180, 0, 31, 16, 97, 16, 122, 182, 0, 34, 153, 0, 31, 42, 42, 180, 0, 28, 16, 97, 16, 122]
abbrev dktX10_next_2 : List UInt8 := dkwX10_next_2 ++ dktX10_next_3
def dkwX10_next_1 : List UInt8 := [89, 180, 0, 31, 4, 96, 181, 0, 31, 167, 255, 231, 42, 42, 180, 0, 31, 181, 0, 28, 42, 42]
abbrev dktX10_next_1 : List UInt8 := dkwX10_next_1 ++ dktX10_next_2
def dkwX10_next_0 : List UInt8 := [42, 42, 180, 0, 28, 181, 0, 31, 42, 42, 180, 0, 31, 16, 32, 16, 32, 182, 0, 34, 153, 0, 16, 42]
abbrev dktX10_next_0 : List UInt8 := dkwX10_next_0 ++ dktX10_next_1
theorem dksX10_next_0 : cX10_next.data.toList.drop 0 = dktX10_next_0 := by decide +kernel
theorem dksX10_next_1 : cX10_next.data.toList.drop 24 = dktX10_next_1 := dk_seg dksX10_next_0 24 rfl rfl
theorem dksX10_next_2 : cX10_next.data.toList.drop 46 = dktX10_next_2 := dk_seg dksX10_next_1 22 rfl rfl
theorem dksX10_next_3 : cX10_next.data.toList.drop 68 = dktX10_next_3 := dk_seg dksX10_next_2 22 rfl rfl
theorem dksX10_next_4 : cX10_next.data.toList.drop 92 = dktX10_next_4 := dk_seg dksX10_next_3 24 rfl rfl
theorem dksX10_next_5 : cX10_next.data.toList.drop 114 = dktX10_next_5 := dk_seg dksX10_next_4 22 rfl rfl
theorem dksX10_next_6 : cX10_next.data.toList.drop 138 = dktX10_next_6 := dk_seg dksX10_next_5 24 rfl rfl
theorem dX10_next_0 : decode cX10_next 0 = .ok (.aload_n 0, 1) := dk_42 (dk_at dksX10_next_0 0 rfl rfl)
theorem dX10_next_1 : decode cX10_next 1 = .ok (.aload_n 0, 1) := dk_42 (dk_at dksX10_next_0 1 rfl rfl)
theorem dX10_next_2 : decode cX10_next 2 = .ok (.getfield 28, 3) := dk_180 0 28 (dk_at dksX10_next_0 2 rfl rfl)
theorem dX10_next_5 : decode cX10_next 5 = .ok (.putfield 31, 3) := dk_181 0 31 (dk_at dksX10_next_0 5 rfl rfl)
theorem dX10_next_8 : decode cX10_next 8 = .ok (.aload_n 0, 1) := dk_42 (dk_at dksX10_next_0 8 rfl rfl)
theorem dX10_next_9 : decode cX10_next 9 = .ok (.aload_n 0, 1) := dk_42 (dk_at dksX10_next_0 9 rfl rfl)
theorem dX10_next_10 : decode cX10_next 10 = .ok (.getfield 31, 3) := dk_180 0 31 (dk_at dksX10_next_0 10 rfl rfl)
theorem dX10_next_13 : decode cX10_next 13 = .ok (.bipush 32, 2) := dk_16 32 (dk_at dksX10_next_0 13 rfl rfl)
theorem dX10_next_15 : decode cX10_next 15 = .ok (.bipush 32, 2) := dk_16 32 (dk_at dksX10_next_0 15 rfl rfl)
theorem dX10_next_17 : decode cX10_next 17 = .ok (.invokevirtual 34, 3) := dk_182 0 34 (dk_at dksX10_next_0 17 rfl rfl)
theorem dX10_next_20 : decode cX10_next 20 = .ok (.ifCond .eq 16, 3) := dk_153 0 16 (dk_at dksX10_next_0 20 rfl rfl)
theorem dX10_next_23 : decode cX10_next 23 = .ok (.aload_n 0, 1) := dk_42 (dk_at dksX10_next_0 23 rfl rfl)
theorem dX10_next_24 : decode cX10_next 24 = .ok (.dup, 1) := dk_89 (dk_at dksX10_next_1 0 rfl rfl)
theorem dX10_next_25 : decode cX10_next 25 = .ok (.getfield 31, 3) := dk_180 0 31 (dk_at dksX10_next_1 1 rfl rfl)
theorem dX10_next_28 : decode cX10_next 28 = .ok (.iconst 1, 1) := dk_4 (dk_at dksX10_next_1 4 rfl rfl)
theorem dX10_next_29 : decode cX10_next 29 = .ok (.iadd, 1) := dk_96 (dk_at dksX10_next_1 5 rfl rfl)
theorem dX10_next_30 : decode cX10_next 30 = .ok (.putfield 31, 3) := dk_181 0 31 (dk_at dksX10_next_1 6 rfl rfl)
theorem dX10_next_33 : decode cX10_next 33 = .ok (.goto (-25), 3) := dk_167 255 231 (dk_at dksX10_next_1 9 rfl rfl)
theorem dX10_next_36 : decode cX10_next 36 = .ok (.aload_n 0, 1) := dk_42 (dk_at dksX10_next_1 12 rfl rfl)
theorem dX10_next_37 : decode cX10_next 37 = .ok (.aload_n 0, 1) := dk_42 (dk_at dksX10_next_1 13 rfl rfl)
theorem dX10_next_38 : decode cX10_next 38 = .ok (.getfield 31, 3) := dk_180 0 31 (dk_at dksX10_next_1 14 rfl rfl)
theorem dX10_next_41 : decode cX10_next 41 = .ok (.putfield 28, 3) := dk_181 0 28 (dk_at dksX10_next_1 17 rfl rfl)
theorem dX10_next_44 : decode cX10_next 44 = .ok (.aload_n 0, 1) := dk_42 (dk_at dksX10_next_1 20 rfl rfl)
theorem dX10_next_45 : decode cX10_next 45 = .ok (.aload_n 0, 1) := dk_42 (dk_at dksX10_next_1 21 rfl rfl)
theorem dX10_next_46 : decode cX10_next 46 = .ok (.getfield 31, 3) := dk_180 0 31 (dk_at dksX10_next_2 0 rfl rfl)
theorem dX10_next_49 : decode cX10_next 49 = .ok (.bipush 97, 2) := dk_16 97 (dk_at dksX10_next_2 3 rfl rfl)
theorem dX10_next_51 : decode cX10_next 51 = .ok (.bipush 122, 2) := dk_16 122 (dk_at dksX10_next_2 5 rfl rfl)
theorem dX10_next_53 : decode cX10_next 53 = .ok (.invokevirtual 34, 3) := dk_182 0 34 (dk_at dksX10_next_2 7 rfl rfl)
theorem dX10_next_56 : decode cX10_next 56 = .ok (.ifCond .eq 31, 3) := dk_153 0 31 (dk_at dksX10_next_2 10 rfl rfl)
theorem dX10_next_59 : decode cX10_next 59 = .ok (.aload_n 0, 1) := dk_42 (dk_at dksX10_next_2 13 rfl rfl)
theorem dX10_next_60 : decode cX10_next 60 = .ok (.aload_n 0, 1) := dk_42 (dk_at dksX10_next_2 14 rfl rfl)
theorem dX10_next_61 : decode cX10_next 61 = .ok (.getfield 28, 3) := dk_180 0 28 (dk_at dksX10_next_2 15 rfl rfl)
theorem dX10_next_64 : decode cX10_next 64 = .ok (.bipush 97, 2) := dk_16 97 (dk_at dksX10_next_2 18 rfl rfl)
theorem dX10_next_66 : decode cX10_next 66 = .ok (.bipush 122, 2) := dk_16 122 (dk_at dksX10_next_2 20 rfl rfl)
theorem dX10_next_68 : decode cX10_next 68 = .ok (.invokevirtual 34, 3) := dk_182 0 34 (dk_at dksX10_next_3 0 rfl rfl)
theorem dX10_next_71 : decode cX10_next 71 = .ok (.ifCond .eq 80, 3) := dk_153 0 80 (dk_at dksX10_next_3 3 rfl rfl)
theorem dX10_next_74 : decode cX10_next 74 = .ok (.aload_n 0, 1) := dk_42 (dk_at dksX10_next_3 6 rfl rfl)
theorem dX10_next_75 : decode cX10_next 75 = .ok (.dup, 1) := dk_89 (dk_at dksX10_next_3 7 rfl rfl)
theorem dX10_next_76 : decode cX10_next 76 = .ok (.getfield 28, 3) := dk_180 0 28 (dk_at dksX10_next_3 8 rfl rfl)
theorem dX10_next_79 : decode cX10_next 79 = .ok (.iconst 1, 1) := dk_4 (dk_at dksX10_next_3 11 rfl rfl)
theorem dX10_next_80 : decode cX10_next 80 = .ok (.iadd, 1) := dk_96 (dk_at dksX10_next_3 12 rfl rfl)
theorem dX10_next_81 : decode cX10_next 81 = .ok (.putfield 28, 3) := dk_181 0 28 (dk_at dksX10_next_3 13 rfl rfl)
theorem dX10_next_84 : decode cX10_next 84 = .ok (.goto (-25), 3) := dk_167 255 231 (dk_at dksX10_next_3 16 rfl rfl)
theorem dX10_next_87 : decode cX10_next 87 = .ok (.aload_n 0, 1) := dk_42 (dk_at dksX10_next_3 19 rfl rfl)
theorem dX10_next_88 : decode cX10_next 88 = .ok (.aload_n 0, 1) := dk_42 (dk_at dksX10_next_3 20 rfl rfl)
theorem dX10_next_89 : decode cX10_next 89 = .ok (.getfield 31, 3) := dk_180 0 31 (dk_at dksX10_next_3 21 rfl rfl)
theorem dX10_next_92 : decode cX10_next 92 = .ok (.bipush 48, 2) := dk_16 48 (dk_at dksX10_next_4 0 rfl rfl)
theorem dX10_next_94 : decode cX10_next 94 = .ok (.bipush 57, 2) := dk_16 57 (dk_at dksX10_next_4 2 rfl rfl)
theorem dX10_next_96 : decode cX10_next 96 = .ok (.invokevirtual 34, 3) := dk_182 0 34 (dk_at dksX10_next_4 4 rfl rfl)
theorem dX10_next_99 : decode cX10_next 99 = .ok (.ifCond .eq 31, 3) := dk_153 0 31 (dk_at dksX10_next_4 7 rfl rfl)
theorem dX10_next_102 : decode cX10_next 102 = .ok (.aload_n 0, 1) := dk_42 (dk_at dksX10_next_4 10 rfl rfl)
theorem dX10_next_103 : decode cX10_next 103 = .ok (.aload_n 0, 1) := dk_42 (dk_at dksX10_next_4 11 rfl rfl)
theorem dX10_next_104 : decode cX10_next 104 = .ok (.getfield 28, 3) := dk_180 0 28 (dk_at dksX10_next_4 12 rfl rfl)
theorem dX10_next_107 : decode cX10_next 107 = .ok (.bipush 48, 2) := dk_16 48 (dk_at dksX10_next_4 15 rfl rfl)
theorem dX10_next_109 : decode cX10_next 109 = .ok (.bipush 57, 2) := dk_16 57 (dk_at dksX10_next_4 17 rfl rfl)
theorem dX10_next_111 : decode cX10_next 111 = .ok (.invokevirtual 34, 3) := dk_182 0 34 (dk_at dksX10_next_4 19 rfl rfl)
theorem dX10_next_114 : decode cX10_next 114 = .ok (.ifCond .eq 37, 3) := dk_153 0 37 (dk_at dksX10_next_5 0 rfl rfl)
theorem dX10_next_117 : decode cX10_next 117 = .ok (.aload_n 0, 1) := dk_42 (dk_at dksX10_next_5 3 rfl rfl)
theorem dX10_next_118 : decode cX10_next 118 = .ok (.dup, 1) := dk_89 (dk_at dksX10_next_5 4 rfl rfl)
theorem dX10_next_119 : decode cX10_next 119 = .ok (.getfield 28, 3) := dk_180 0 28 (dk_at dksX10_next_5 5 rfl rfl)
theorem dX10_next_122 : decode cX10_next 122 = .ok (.iconst 1, 1) := dk_4 (dk_at dksX10_next_5 8 rfl rfl)
theorem dX10_next_123 : decode cX10_next 123 = .ok (.iadd, 1) := dk_96 (dk_at dksX10_next_5 9 rfl rfl)
theorem dX10_next_124 : decode cX10_next 124 = .ok (.putfield 28, 3) := dk_181 0 28 (dk_at dksX10_next_5 10 rfl rfl)
theorem dX10_next_127 : decode cX10_next 127 = .ok (.goto (-25), 3) := dk_167 255 231 (dk_at dksX10_next_5 13 rfl rfl)
theorem dX10_next_130 : decode cX10_next 130 = .ok (.aload_n 0, 1) := dk_42 (dk_at dksX10_next_5 16 rfl rfl)
theorem dX10_next_131 : decode cX10_next 131 = .ok (.getfield 31, 3) := dk_180 0 31 (dk_at dksX10_next_5 17 rfl rfl)
theorem dX10_next_134 : decode cX10_next 134 = .ok (.aload_n 0, 1) := dk_42 (dk_at dksX10_next_5 20 rfl rfl)
theorem dX10_next_135 : decode cX10_next 135 = .ok (.getfield 24, 3) := dk_180 0 24 (dk_at dksX10_next_5 21 rfl rfl)
theorem dX10_next_138 : decode cX10_next 138 = .ok (.if_icmp .ge 13, 3) := dk_162 0 13 (dk_at dksX10_next_6 0 rfl rfl)
theorem dX10_next_141 : decode cX10_next 141 = .ok (.aload_n 0, 1) := dk_42 (dk_at dksX10_next_6 3 rfl rfl)
theorem dX10_next_142 : decode cX10_next 142 = .ok (.dup, 1) := dk_89 (dk_at dksX10_next_6 4 rfl rfl)
theorem dX10_next_143 : decode cX10_next 143 = .ok (.getfield 28, 3) := dk_180 0 28 (dk_at dksX10_next_6 5 rfl rfl)
theorem dX10_next_146 : decode cX10_next 146 = .ok (.iconst 1, 1) := dk_4 (dk_at dksX10_next_6 8 rfl rfl)
theorem dX10_next_147 : decode cX10_next 147 = .ok (.iadd, 1) := dk_96 (dk_at dksX10_next_6 9 rfl rfl)
theorem dX10_next_148 : decode cX10_next 148 = .ok (.putfield 28, 3) := dk_181 0 28 (dk_at dksX10_next_6 10 rfl rfl)
theorem dX10_next_151 : decode cX10_next 151 = .ok (.return_, 1) := dk_177 (dk_at dksX10_next_6 13 rfl rfl)
abbrev cX10_isIn : ByteArray := prog_11_method_2_code
def yX10_isIn : MethodName := ⟨RX10, "isIn", "(III)Z"⟩
def dkwX10_isIn_1 : List UInt8 := [29, 163, 0, 7, 4, 167, 0, 4, 3, 172]
abbrev dktX10_isIn_1 : List UInt8 := dkwX10_isIn_1 ++ []
def dkwX10_isIn_0 : List UInt8 := [27, 42, 180, 0, 24, 162, 0, 27, 42, 180, 0, 20, 27, 51, 28, 161, 0, 17, 42, 180, 0, 20, 27, 51]
abbrev dktX10_isIn_0 : List UInt8 := dkwX10_isIn_0 ++ dktX10_isIn_1
theorem dksX10_isIn_0 : cX10_isIn.data.toList.drop 0 = dktX10_isIn_0 := by decide +kernel
theorem dksX10_isIn_1 : cX10_isIn.data.toList.drop 24 = dktX10_isIn_1 := dk_seg dksX10_isIn_0 24 rfl rfl
theorem dX10_isIn_0 : decode cX10_isIn 0 = .ok (.iload_n 1, 1) := dk_27 (dk_at dksX10_isIn_0 0 rfl rfl)
theorem dX10_isIn_1 : decode cX10_isIn 1 = .ok (.aload_n 0, 1) := dk_42 (dk_at dksX10_isIn_0 1 rfl rfl)
theorem dX10_isIn_2 : decode cX10_isIn 2 = .ok (.getfield 24, 3) := dk_180 0 24 (dk_at dksX10_isIn_0 2 rfl rfl)
theorem dX10_isIn_5 : decode cX10_isIn 5 = .ok (.if_icmp .ge 27, 3) := dk_162 0 27 (dk_at dksX10_isIn_0 5 rfl rfl)
theorem dX10_isIn_8 : decode cX10_isIn 8 = .ok (.aload_n 0, 1) := dk_42 (dk_at dksX10_isIn_0 8 rfl rfl)
theorem dX10_isIn_9 : decode cX10_isIn 9 = .ok (.getfield 20, 3) := dk_180 0 20 (dk_at dksX10_isIn_0 9 rfl rfl)
theorem dX10_isIn_12 : decode cX10_isIn 12 = .ok (.iload_n 1, 1) := dk_27 (dk_at dksX10_isIn_0 12 rfl rfl)
theorem dX10_isIn_13 : decode cX10_isIn 13 = .ok (.baload, 1) := dk_51 (dk_at dksX10_isIn_0 13 rfl rfl)
theorem dX10_isIn_14 : decode cX10_isIn 14 = .ok (.iload_n 2, 1) := dk_28 (dk_at dksX10_isIn_0 14 rfl rfl)
theorem dX10_isIn_15 : decode cX10_isIn 15 = .ok (.if_icmp .lt 17, 3) := dk_161 0 17 (dk_at dksX10_isIn_0 15 rfl rfl)
theorem dX10_isIn_18 : decode cX10_isIn 18 = .ok (.aload_n 0, 1) := dk_42 (dk_at dksX10_isIn_0 18 rfl rfl)
theorem dX10_isIn_19 : decode cX10_isIn 19 = .ok (.getfield 20, 3) := dk_180 0 20 (dk_at dksX10_isIn_0 19 rfl rfl)
theorem dX10_isIn_22 : decode cX10_isIn 22 = .ok (.iload_n 1, 1) := dk_27 (dk_at dksX10_isIn_0 22 rfl rfl)
theorem dX10_isIn_23 : decode cX10_isIn 23 = .ok (.baload, 1) := dk_51 (dk_at dksX10_isIn_0 23 rfl rfl)
theorem dX10_isIn_24 : decode cX10_isIn 24 = .ok (.iload_n 3, 1) := dk_29 (dk_at dksX10_isIn_1 0 rfl rfl)
theorem dX10_isIn_25 : decode cX10_isIn 25 = .ok (.if_icmp .gt 7, 3) := dk_163 0 7 (dk_at dksX10_isIn_1 1 rfl rfl)
theorem dX10_isIn_28 : decode cX10_isIn 28 = .ok (.iconst 1, 1) := dk_4 (dk_at dksX10_isIn_1 4 rfl rfl)
theorem dX10_isIn_29 : decode cX10_isIn 29 = .ok (.goto 4, 3) := dk_167 0 4 (dk_at dksX10_isIn_1 5 rfl rfl)
theorem dX10_isIn_32 : decode cX10_isIn 32 = .ok (.iconst 0, 1) := dk_3 (dk_at dksX10_isIn_1 8 rfl rfl)
theorem dX10_isIn_33 : decode cX10_isIn 33 = .ok (.ireturn, 1) := dk_172 (dk_at dksX10_isIn_1 9 rfl rfl)
abbrev cX10_clause : ByteArray := prog_11_method_9_code
def yX10_clause : MethodName := ⟨RX10, "clause", "()V"⟩
def dkwX10_clause_5 : List UInt8 := [44, 182, 0, 94, 87, 177]
abbrev dktX10_clause_5 : List UInt8 := dkwX10_clause_5 ++ []
def dkwX10_clause_4 : List UInt8 := [181, 0, 81, 42, 18, 84, 182, 0, 55, 153, 0, 11, 44, 42, 182, 0, 86, 181, 0, 90, 42, 180, 0, 14]
abbrev dktX10_clause_4 : List UInt8 := dkwX10_clause_4 ++ dktX10_clause_5
def dkwX10_clause_3 : List UInt8 := [191, 42, 182, 0, 52, 187, 0, 74, 89, 27, 183, 0, 76, 77, 27, 5, 159, 0, 11, 44, 42, 182, 0, 77]
abbrev dktX10_clause_3 : List UInt8 := dkwX10_clause_3 ++ dktX10_clause_4
def dkwX10_clause_2 : List UInt8 := [182, 0, 72, 16, 12, 159, 0, 8, 27, 2, 160, 0, 15, 187, 0, 58, 89, 42, 180, 0, 31, 183, 0, 60]
abbrev dktX10_clause_2 : List UInt8 := dkwX10_clause_2 ++ dktX10_clause_3
def dkwX10_clause_1 : List UInt8 := [167, 0, 17, 42, 18, 70, 182, 0, 48, 153, 0, 7, 5, 167, 0, 4, 2, 60, 42, 180, 0, 14]
abbrev dktX10_clause_1 : List UInt8 := dkwX10_clause_1 ++ dktX10_clause_2
def dkwX10_clause_0 : List UInt8 := [42, 18, 66, 182, 0, 48, 153, 0, 7, 3, 167, 0, 30, 42, 18, 68, 182, 0, 48, 153, 0, 7, 4]
abbrev dktX10_clause_0 : List UInt8 := dkwX10_clause_0 ++ dktX10_clause_1
theorem dksX10_clause_0 : cX10_clause.data.toList.drop 0 = dktX10_clause_0 := by decide +kernel
theorem dksX10_clause_1 : cX10_clause.data.toList.drop 23 = dktX10_clause_1 := dk_seg dksX10_clause_0 23 rfl rfl
theorem dksX10_clause_2 : cX10_clause.data.toList.drop 45 = dktX10_clause_2 := dk_seg dksX10_clause_1 22 rfl rfl
theorem dksX10_clause_3 : cX10_clause.data.toList.drop 69 = dktX10_clause_3 := dk_seg dksX10_clause_2 24 rfl rfl
theorem dksX10_clause_4 : cX10_clause.data.toList.drop 93 = dktX10_clause_4 := dk_seg dksX10_clause_3 24 rfl rfl
theorem dksX10_clause_5 : cX10_clause.data.toList.drop 117 = dktX10_clause_5 := dk_seg dksX10_clause_4 24 rfl rfl
theorem dX10_clause_0 : decode cX10_clause 0 = .ok (.aload_n 0, 1) := dk_42 (dk_at dksX10_clause_0 0 rfl rfl)
theorem dX10_clause_1 : decode cX10_clause 1 = .ok (.ldc 66, 2) := dk_18 66 (dk_at dksX10_clause_0 1 rfl rfl)
theorem dX10_clause_3 : decode cX10_clause 3 = .ok (.invokevirtual 48, 3) := dk_182 0 48 (dk_at dksX10_clause_0 3 rfl rfl)
theorem dX10_clause_6 : decode cX10_clause 6 = .ok (.ifCond .eq 7, 3) := dk_153 0 7 (dk_at dksX10_clause_0 6 rfl rfl)
theorem dX10_clause_9 : decode cX10_clause 9 = .ok (.iconst 0, 1) := dk_3 (dk_at dksX10_clause_0 9 rfl rfl)
theorem dX10_clause_10 : decode cX10_clause 10 = .ok (.goto 30, 3) := dk_167 0 30 (dk_at dksX10_clause_0 10 rfl rfl)
theorem dX10_clause_13 : decode cX10_clause 13 = .ok (.aload_n 0, 1) := dk_42 (dk_at dksX10_clause_0 13 rfl rfl)
theorem dX10_clause_14 : decode cX10_clause 14 = .ok (.ldc 68, 2) := dk_18 68 (dk_at dksX10_clause_0 14 rfl rfl)
theorem dX10_clause_16 : decode cX10_clause 16 = .ok (.invokevirtual 48, 3) := dk_182 0 48 (dk_at dksX10_clause_0 16 rfl rfl)
theorem dX10_clause_19 : decode cX10_clause 19 = .ok (.ifCond .eq 7, 3) := dk_153 0 7 (dk_at dksX10_clause_0 19 rfl rfl)
theorem dX10_clause_22 : decode cX10_clause 22 = .ok (.iconst 1, 1) := dk_4 (dk_at dksX10_clause_0 22 rfl rfl)
theorem dX10_clause_23 : decode cX10_clause 23 = .ok (.goto 17, 3) := dk_167 0 17 (dk_at dksX10_clause_1 0 rfl rfl)
theorem dX10_clause_26 : decode cX10_clause 26 = .ok (.aload_n 0, 1) := dk_42 (dk_at dksX10_clause_1 3 rfl rfl)
theorem dX10_clause_27 : decode cX10_clause 27 = .ok (.ldc 70, 2) := dk_18 70 (dk_at dksX10_clause_1 4 rfl rfl)
theorem dX10_clause_29 : decode cX10_clause 29 = .ok (.invokevirtual 48, 3) := dk_182 0 48 (dk_at dksX10_clause_1 6 rfl rfl)
theorem dX10_clause_32 : decode cX10_clause 32 = .ok (.ifCond .eq 7, 3) := dk_153 0 7 (dk_at dksX10_clause_1 9 rfl rfl)
theorem dX10_clause_35 : decode cX10_clause 35 = .ok (.iconst 2, 1) := dk_5 (dk_at dksX10_clause_1 12 rfl rfl)
theorem dX10_clause_36 : decode cX10_clause 36 = .ok (.goto 4, 3) := dk_167 0 4 (dk_at dksX10_clause_1 13 rfl rfl)
theorem dX10_clause_39 : decode cX10_clause 39 = .ok (.iconst (-1), 1) := dk_2 (dk_at dksX10_clause_1 16 rfl rfl)
theorem dX10_clause_40 : decode cX10_clause 40 = .ok (.istore_n 1, 1) := dk_60 (dk_at dksX10_clause_1 17 rfl rfl)
theorem dX10_clause_41 : decode cX10_clause 41 = .ok (.aload_n 0, 1) := dk_42 (dk_at dksX10_clause_1 18 rfl rfl)
theorem dX10_clause_42 : decode cX10_clause 42 = .ok (.getfield 14, 3) := dk_180 0 14 (dk_at dksX10_clause_1 19 rfl rfl)
theorem dX10_clause_45 : decode cX10_clause 45 = .ok (.invokevirtual 72, 3) := dk_182 0 72 (dk_at dksX10_clause_2 0 rfl rfl)
theorem dX10_clause_48 : decode cX10_clause 48 = .ok (.bipush 12, 2) := dk_16 12 (dk_at dksX10_clause_2 3 rfl rfl)
theorem dX10_clause_50 : decode cX10_clause 50 = .ok (.if_icmp .eq 8, 3) := dk_159 0 8 (dk_at dksX10_clause_2 5 rfl rfl)
theorem dX10_clause_53 : decode cX10_clause 53 = .ok (.iload_n 1, 1) := dk_27 (dk_at dksX10_clause_2 8 rfl rfl)
theorem dX10_clause_54 : decode cX10_clause 54 = .ok (.iconst (-1), 1) := dk_2 (dk_at dksX10_clause_2 9 rfl rfl)
theorem dX10_clause_55 : decode cX10_clause 55 = .ok (.if_icmp .ne 15, 3) := dk_160 0 15 (dk_at dksX10_clause_2 10 rfl rfl)
theorem dX10_clause_58 : decode cX10_clause 58 = .ok (.new 58, 3) := dk_187 0 58 (dk_at dksX10_clause_2 13 rfl rfl)
theorem dX10_clause_61 : decode cX10_clause 61 = .ok (.dup, 1) := dk_89 (dk_at dksX10_clause_2 16 rfl rfl)
theorem dX10_clause_62 : decode cX10_clause 62 = .ok (.aload_n 0, 1) := dk_42 (dk_at dksX10_clause_2 17 rfl rfl)
theorem dX10_clause_63 : decode cX10_clause 63 = .ok (.getfield 31, 3) := dk_180 0 31 (dk_at dksX10_clause_2 18 rfl rfl)
theorem dX10_clause_66 : decode cX10_clause 66 = .ok (.invokespecial 60, 3) := dk_183 0 60 (dk_at dksX10_clause_2 21 rfl rfl)
theorem dX10_clause_69 : decode cX10_clause 69 = .ok (.athrow, 1) := dk_191 (dk_at dksX10_clause_3 0 rfl rfl)
theorem dX10_clause_70 : decode cX10_clause 70 = .ok (.aload_n 0, 1) := dk_42 (dk_at dksX10_clause_3 1 rfl rfl)
theorem dX10_clause_71 : decode cX10_clause 71 = .ok (.invokevirtual 52, 3) := dk_182 0 52 (dk_at dksX10_clause_3 2 rfl rfl)
theorem dX10_clause_74 : decode cX10_clause 74 = .ok (.new 74, 3) := dk_187 0 74 (dk_at dksX10_clause_3 5 rfl rfl)
theorem dX10_clause_77 : decode cX10_clause 77 = .ok (.dup, 1) := dk_89 (dk_at dksX10_clause_3 8 rfl rfl)
theorem dX10_clause_78 : decode cX10_clause 78 = .ok (.iload_n 1, 1) := dk_27 (dk_at dksX10_clause_3 9 rfl rfl)
theorem dX10_clause_79 : decode cX10_clause 79 = .ok (.invokespecial 76, 3) := dk_183 0 76 (dk_at dksX10_clause_3 10 rfl rfl)
theorem dX10_clause_82 : decode cX10_clause 82 = .ok (.astore_n 2, 1) := dk_77 (dk_at dksX10_clause_3 13 rfl rfl)
theorem dX10_clause_83 : decode cX10_clause 83 = .ok (.iload_n 1, 1) := dk_27 (dk_at dksX10_clause_3 14 rfl rfl)
theorem dX10_clause_84 : decode cX10_clause 84 = .ok (.iconst 2, 1) := dk_5 (dk_at dksX10_clause_3 15 rfl rfl)
theorem dX10_clause_85 : decode cX10_clause 85 = .ok (.if_icmp .eq 11, 3) := dk_159 0 11 (dk_at dksX10_clause_3 16 rfl rfl)
theorem dX10_clause_88 : decode cX10_clause 88 = .ok (.aload_n 2, 1) := dk_44 (dk_at dksX10_clause_3 19 rfl rfl)
theorem dX10_clause_89 : decode cX10_clause 89 = .ok (.aload_n 0, 1) := dk_42 (dk_at dksX10_clause_3 20 rfl rfl)
theorem dX10_clause_90 : decode cX10_clause 90 = .ok (.invokevirtual 77, 3) := dk_182 0 77 (dk_at dksX10_clause_3 21 rfl rfl)
theorem dX10_clause_93 : decode cX10_clause 93 = .ok (.putfield 81, 3) := dk_181 0 81 (dk_at dksX10_clause_4 0 rfl rfl)
theorem dX10_clause_96 : decode cX10_clause 96 = .ok (.aload_n 0, 1) := dk_42 (dk_at dksX10_clause_4 3 rfl rfl)
theorem dX10_clause_97 : decode cX10_clause 97 = .ok (.ldc 84, 2) := dk_18 84 (dk_at dksX10_clause_4 4 rfl rfl)
theorem dX10_clause_99 : decode cX10_clause 99 = .ok (.invokevirtual 55, 3) := dk_182 0 55 (dk_at dksX10_clause_4 6 rfl rfl)
theorem dX10_clause_102 : decode cX10_clause 102 = .ok (.ifCond .eq 11, 3) := dk_153 0 11 (dk_at dksX10_clause_4 9 rfl rfl)
theorem dX10_clause_105 : decode cX10_clause 105 = .ok (.aload_n 2, 1) := dk_44 (dk_at dksX10_clause_4 12 rfl rfl)
theorem dX10_clause_106 : decode cX10_clause 106 = .ok (.aload_n 0, 1) := dk_42 (dk_at dksX10_clause_4 13 rfl rfl)
theorem dX10_clause_107 : decode cX10_clause 107 = .ok (.invokevirtual 86, 3) := dk_182 0 86 (dk_at dksX10_clause_4 14 rfl rfl)
theorem dX10_clause_110 : decode cX10_clause 110 = .ok (.putfield 90, 3) := dk_181 0 90 (dk_at dksX10_clause_4 17 rfl rfl)
theorem dX10_clause_113 : decode cX10_clause 113 = .ok (.aload_n 0, 1) := dk_42 (dk_at dksX10_clause_4 20 rfl rfl)
theorem dX10_clause_114 : decode cX10_clause 114 = .ok (.getfield 14, 3) := dk_180 0 14 (dk_at dksX10_clause_4 21 rfl rfl)
theorem dX10_clause_117 : decode cX10_clause 117 = .ok (.aload_n 2, 1) := dk_44 (dk_at dksX10_clause_5 0 rfl rfl)
theorem dX10_clause_118 : decode cX10_clause 118 = .ok (.invokevirtual 94, 3) := dk_182 0 94 (dk_at dksX10_clause_5 1 rfl rfl)
theorem dX10_clause_121 : decode cX10_clause 121 = .ok (.pop, 1) := dk_87 (dk_at dksX10_clause_5 4 rfl rfl)
theorem dX10_clause_122 : decode cX10_clause 122 = .ok (.return_, 1) := dk_177 (dk_at dksX10_clause_5 5 rfl rfl)
abbrev cX10_is : ByteArray := prog_11_method_4_code
def yX10_is : MethodName := ⟨RX10, "is", "(Ljava/lang/String;)Z"⟩
def dkwX10_is_2 : List UInt8 := [159, 0, 5, 3, 172, 132, 2, 1, 167, 255, 224, 4, 172]
abbrev dktX10_is_2 : List UInt8 := dkwX10_is_2 ++ []
def dkwX10_is_1 : List UInt8 := [182, 0, 38, 162, 0, 30, 42, 180, 0, 20, 42, 180, 0, 31, 28, 96, 51, 43, 28, 182, 0, 44]
abbrev dktX10_is_1 : List UInt8 := dkwX10_is_1 ++ dktX10_is_2
def dkwX10_is_0 : List UInt8 := [42, 180, 0, 28, 42, 180, 0, 31, 100, 43, 182, 0, 38, 159, 0, 5, 3, 172, 3, 61, 28, 43]
abbrev dktX10_is_0 : List UInt8 := dkwX10_is_0 ++ dktX10_is_1
theorem dksX10_is_0 : cX10_is.data.toList.drop 0 = dktX10_is_0 := by decide +kernel
theorem dksX10_is_1 : cX10_is.data.toList.drop 22 = dktX10_is_1 := dk_seg dksX10_is_0 22 rfl rfl
theorem dksX10_is_2 : cX10_is.data.toList.drop 44 = dktX10_is_2 := dk_seg dksX10_is_1 22 rfl rfl
theorem dX10_is_0 : decode cX10_is 0 = .ok (.aload_n 0, 1) := dk_42 (dk_at dksX10_is_0 0 rfl rfl)
theorem dX10_is_1 : decode cX10_is 1 = .ok (.getfield 28, 3) := dk_180 0 28 (dk_at dksX10_is_0 1 rfl rfl)
theorem dX10_is_4 : decode cX10_is 4 = .ok (.aload_n 0, 1) := dk_42 (dk_at dksX10_is_0 4 rfl rfl)
theorem dX10_is_5 : decode cX10_is 5 = .ok (.getfield 31, 3) := dk_180 0 31 (dk_at dksX10_is_0 5 rfl rfl)
theorem dX10_is_8 : decode cX10_is 8 = .ok (.isub, 1) := dk_100 (dk_at dksX10_is_0 8 rfl rfl)
theorem dX10_is_9 : decode cX10_is 9 = .ok (.aload_n 1, 1) := dk_43 (dk_at dksX10_is_0 9 rfl rfl)
theorem dX10_is_10 : decode cX10_is 10 = .ok (.invokevirtual 38, 3) := dk_182 0 38 (dk_at dksX10_is_0 10 rfl rfl)
theorem dX10_is_13 : decode cX10_is 13 = .ok (.if_icmp .eq 5, 3) := dk_159 0 5 (dk_at dksX10_is_0 13 rfl rfl)
theorem dX10_is_16 : decode cX10_is 16 = .ok (.iconst 0, 1) := dk_3 (dk_at dksX10_is_0 16 rfl rfl)
theorem dX10_is_17 : decode cX10_is 17 = .ok (.ireturn, 1) := dk_172 (dk_at dksX10_is_0 17 rfl rfl)
theorem dX10_is_18 : decode cX10_is 18 = .ok (.iconst 0, 1) := dk_3 (dk_at dksX10_is_0 18 rfl rfl)
theorem dX10_is_19 : decode cX10_is 19 = .ok (.istore_n 2, 1) := dk_61 (dk_at dksX10_is_0 19 rfl rfl)
theorem dX10_is_20 : decode cX10_is 20 = .ok (.iload_n 2, 1) := dk_28 (dk_at dksX10_is_0 20 rfl rfl)
theorem dX10_is_21 : decode cX10_is 21 = .ok (.aload_n 1, 1) := dk_43 (dk_at dksX10_is_0 21 rfl rfl)
theorem dX10_is_22 : decode cX10_is 22 = .ok (.invokevirtual 38, 3) := dk_182 0 38 (dk_at dksX10_is_1 0 rfl rfl)
theorem dX10_is_25 : decode cX10_is 25 = .ok (.if_icmp .ge 30, 3) := dk_162 0 30 (dk_at dksX10_is_1 3 rfl rfl)
theorem dX10_is_28 : decode cX10_is 28 = .ok (.aload_n 0, 1) := dk_42 (dk_at dksX10_is_1 6 rfl rfl)
theorem dX10_is_29 : decode cX10_is 29 = .ok (.getfield 20, 3) := dk_180 0 20 (dk_at dksX10_is_1 7 rfl rfl)
theorem dX10_is_32 : decode cX10_is 32 = .ok (.aload_n 0, 1) := dk_42 (dk_at dksX10_is_1 10 rfl rfl)
theorem dX10_is_33 : decode cX10_is 33 = .ok (.getfield 31, 3) := dk_180 0 31 (dk_at dksX10_is_1 11 rfl rfl)
theorem dX10_is_36 : decode cX10_is 36 = .ok (.iload_n 2, 1) := dk_28 (dk_at dksX10_is_1 14 rfl rfl)
theorem dX10_is_37 : decode cX10_is 37 = .ok (.iadd, 1) := dk_96 (dk_at dksX10_is_1 15 rfl rfl)
theorem dX10_is_38 : decode cX10_is 38 = .ok (.baload, 1) := dk_51 (dk_at dksX10_is_1 16 rfl rfl)
theorem dX10_is_39 : decode cX10_is 39 = .ok (.aload_n 1, 1) := dk_43 (dk_at dksX10_is_1 17 rfl rfl)
theorem dX10_is_40 : decode cX10_is 40 = .ok (.iload_n 2, 1) := dk_28 (dk_at dksX10_is_1 18 rfl rfl)
theorem dX10_is_41 : decode cX10_is 41 = .ok (.invokevirtual 44, 3) := dk_182 0 44 (dk_at dksX10_is_1 19 rfl rfl)
theorem dX10_is_44 : decode cX10_is 44 = .ok (.if_icmp .eq 5, 3) := dk_159 0 5 (dk_at dksX10_is_2 0 rfl rfl)
theorem dX10_is_47 : decode cX10_is 47 = .ok (.iconst 0, 1) := dk_3 (dk_at dksX10_is_2 3 rfl rfl)
theorem dX10_is_48 : decode cX10_is 48 = .ok (.ireturn, 1) := dk_172 (dk_at dksX10_is_2 4 rfl rfl)
theorem dX10_is_49 : decode cX10_is 49 = .ok (.iinc 2 1, 3) := dk_132 2 1 (dk_at dksX10_is_2 5 rfl rfl)
theorem dX10_is_52 : decode cX10_is 52 = .ok (.goto (-32), 3) := dk_167 255 224 (dk_at dksX10_is_2 8 rfl rfl)
theorem dX10_is_55 : decode cX10_is 55 = .ok (.iconst 1, 1) := dk_4 (dk_at dksX10_is_2 11 rfl rfl)
theorem dX10_is_56 : decode cX10_is 56 = .ok (.ireturn, 1) := dk_172 (dk_at dksX10_is_2 12 rfl rfl)
abbrev cX10_sum : ByteArray := prog_11_method_15_code
def yX10_sum : MethodName := ⟨RX10, "sum", "()LSnailPost$Sum;"⟩
def dkwX10_sum_2 : List UInt8 := [183, 0, 160, 76, 167, 255, 209, 43, 176]
abbrev dktX10_sum_2 : List UInt8 := dkwX10_sum_2 ++ []
def dkwX10_sum_1 : List UInt8 := [180, 0, 20, 42, 180, 0, 31, 51, 146, 61, 42, 182, 0, 52, 187, 0, 158, 89, 28, 43, 42, 182, 0, 151]
abbrev dktX10_sum_1 : List UInt8 := dkwX10_sum_1 ++ dktX10_sum_2
def dkwX10_sum_0 : List UInt8 := [42, 182, 0, 151, 76, 42, 18, 154, 182, 0, 48, 154, 0, 12, 42, 18, 156, 182, 0, 48, 153, 0, 35, 42]
abbrev dktX10_sum_0 : List UInt8 := dkwX10_sum_0 ++ dktX10_sum_1
theorem dksX10_sum_0 : cX10_sum.data.toList.drop 0 = dktX10_sum_0 := by decide +kernel
theorem dksX10_sum_1 : cX10_sum.data.toList.drop 24 = dktX10_sum_1 := dk_seg dksX10_sum_0 24 rfl rfl
theorem dksX10_sum_2 : cX10_sum.data.toList.drop 48 = dktX10_sum_2 := dk_seg dksX10_sum_1 24 rfl rfl
theorem dX10_sum_0 : decode cX10_sum 0 = .ok (.aload_n 0, 1) := dk_42 (dk_at dksX10_sum_0 0 rfl rfl)
theorem dX10_sum_1 : decode cX10_sum 1 = .ok (.invokevirtual 151, 3) := dk_182 0 151 (dk_at dksX10_sum_0 1 rfl rfl)
theorem dX10_sum_4 : decode cX10_sum 4 = .ok (.astore_n 1, 1) := dk_76 (dk_at dksX10_sum_0 4 rfl rfl)
theorem dX10_sum_5 : decode cX10_sum 5 = .ok (.aload_n 0, 1) := dk_42 (dk_at dksX10_sum_0 5 rfl rfl)
theorem dX10_sum_6 : decode cX10_sum 6 = .ok (.ldc 154, 2) := dk_18 154 (dk_at dksX10_sum_0 6 rfl rfl)
theorem dX10_sum_8 : decode cX10_sum 8 = .ok (.invokevirtual 48, 3) := dk_182 0 48 (dk_at dksX10_sum_0 8 rfl rfl)
theorem dX10_sum_11 : decode cX10_sum 11 = .ok (.ifCond .ne 12, 3) := dk_154 0 12 (dk_at dksX10_sum_0 11 rfl rfl)
theorem dX10_sum_14 : decode cX10_sum 14 = .ok (.aload_n 0, 1) := dk_42 (dk_at dksX10_sum_0 14 rfl rfl)
theorem dX10_sum_15 : decode cX10_sum 15 = .ok (.ldc 156, 2) := dk_18 156 (dk_at dksX10_sum_0 15 rfl rfl)
theorem dX10_sum_17 : decode cX10_sum 17 = .ok (.invokevirtual 48, 3) := dk_182 0 48 (dk_at dksX10_sum_0 17 rfl rfl)
theorem dX10_sum_20 : decode cX10_sum 20 = .ok (.ifCond .eq 35, 3) := dk_153 0 35 (dk_at dksX10_sum_0 20 rfl rfl)
theorem dX10_sum_23 : decode cX10_sum 23 = .ok (.aload_n 0, 1) := dk_42 (dk_at dksX10_sum_0 23 rfl rfl)
theorem dX10_sum_24 : decode cX10_sum 24 = .ok (.getfield 20, 3) := dk_180 0 20 (dk_at dksX10_sum_1 0 rfl rfl)
theorem dX10_sum_27 : decode cX10_sum 27 = .ok (.aload_n 0, 1) := dk_42 (dk_at dksX10_sum_1 3 rfl rfl)
theorem dX10_sum_28 : decode cX10_sum 28 = .ok (.getfield 31, 3) := dk_180 0 31 (dk_at dksX10_sum_1 4 rfl rfl)
theorem dX10_sum_31 : decode cX10_sum 31 = .ok (.baload, 1) := dk_51 (dk_at dksX10_sum_1 7 rfl rfl)
theorem dX10_sum_32 : decode cX10_sum 32 = .ok (.i2c, 1) := dk_146 (dk_at dksX10_sum_1 8 rfl rfl)
theorem dX10_sum_33 : decode cX10_sum 33 = .ok (.istore_n 2, 1) := dk_61 (dk_at dksX10_sum_1 9 rfl rfl)
theorem dX10_sum_34 : decode cX10_sum 34 = .ok (.aload_n 0, 1) := dk_42 (dk_at dksX10_sum_1 10 rfl rfl)
theorem dX10_sum_35 : decode cX10_sum 35 = .ok (.invokevirtual 52, 3) := dk_182 0 52 (dk_at dksX10_sum_1 11 rfl rfl)
theorem dX10_sum_38 : decode cX10_sum 38 = .ok (.new 158, 3) := dk_187 0 158 (dk_at dksX10_sum_1 14 rfl rfl)
theorem dX10_sum_41 : decode cX10_sum 41 = .ok (.dup, 1) := dk_89 (dk_at dksX10_sum_1 17 rfl rfl)
theorem dX10_sum_42 : decode cX10_sum 42 = .ok (.iload_n 2, 1) := dk_28 (dk_at dksX10_sum_1 18 rfl rfl)
theorem dX10_sum_43 : decode cX10_sum 43 = .ok (.aload_n 1, 1) := dk_43 (dk_at dksX10_sum_1 19 rfl rfl)
theorem dX10_sum_44 : decode cX10_sum 44 = .ok (.aload_n 0, 1) := dk_42 (dk_at dksX10_sum_1 20 rfl rfl)
theorem dX10_sum_45 : decode cX10_sum 45 = .ok (.invokevirtual 151, 3) := dk_182 0 151 (dk_at dksX10_sum_1 21 rfl rfl)
theorem dX10_sum_48 : decode cX10_sum 48 = .ok (.invokespecial 160, 3) := dk_183 0 160 (dk_at dksX10_sum_2 0 rfl rfl)
theorem dX10_sum_51 : decode cX10_sum 51 = .ok (.astore_n 1, 1) := dk_76 (dk_at dksX10_sum_2 3 rfl rfl)
theorem dX10_sum_52 : decode cX10_sum 52 = .ok (.goto (-47), 3) := dk_167 255 209 (dk_at dksX10_sum_2 4 rfl rfl)
theorem dX10_sum_55 : decode cX10_sum 55 = .ok (.aload_n 1, 1) := dk_43 (dk_at dksX10_sum_2 7 rfl rfl)
theorem dX10_sum_56 : decode cX10_sum 56 = .ok (.areturn, 1) := dk_176 (dk_at dksX10_sum_2 8 rfl rfl)
abbrev cX10_term : ByteArray := prog_11_method_16_code
def yX10_term : MethodName := ⟨RX10, "term", "()LSnailPost$Sum;"⟩
def dkwX10_term_2 : List UInt8 := [183, 0, 160, 76, 167, 255, 209, 43, 176]
abbrev dktX10_term_2 : List UInt8 := dkwX10_term_2 ++ []
def dkwX10_term_1 : List UInt8 := [180, 0, 20, 42, 180, 0, 31, 51, 146, 61, 42, 182, 0, 52, 187, 0, 158, 89, 28, 43, 42, 182, 0, 161]
abbrev dktX10_term_1 : List UInt8 := dkwX10_term_1 ++ dktX10_term_2
def dkwX10_term_0 : List UInt8 := [42, 182, 0, 161, 76, 42, 18, 164, 182, 0, 48, 154, 0, 12, 42, 18, 166, 182, 0, 48, 153, 0, 35, 42]
abbrev dktX10_term_0 : List UInt8 := dkwX10_term_0 ++ dktX10_term_1
theorem dksX10_term_0 : cX10_term.data.toList.drop 0 = dktX10_term_0 := by decide +kernel
theorem dksX10_term_1 : cX10_term.data.toList.drop 24 = dktX10_term_1 := dk_seg dksX10_term_0 24 rfl rfl
theorem dksX10_term_2 : cX10_term.data.toList.drop 48 = dktX10_term_2 := dk_seg dksX10_term_1 24 rfl rfl
theorem dX10_term_0 : decode cX10_term 0 = .ok (.aload_n 0, 1) := dk_42 (dk_at dksX10_term_0 0 rfl rfl)
theorem dX10_term_1 : decode cX10_term 1 = .ok (.invokevirtual 161, 3) := dk_182 0 161 (dk_at dksX10_term_0 1 rfl rfl)
theorem dX10_term_4 : decode cX10_term 4 = .ok (.astore_n 1, 1) := dk_76 (dk_at dksX10_term_0 4 rfl rfl)
theorem dX10_term_5 : decode cX10_term 5 = .ok (.aload_n 0, 1) := dk_42 (dk_at dksX10_term_0 5 rfl rfl)
theorem dX10_term_6 : decode cX10_term 6 = .ok (.ldc 164, 2) := dk_18 164 (dk_at dksX10_term_0 6 rfl rfl)
theorem dX10_term_8 : decode cX10_term 8 = .ok (.invokevirtual 48, 3) := dk_182 0 48 (dk_at dksX10_term_0 8 rfl rfl)
theorem dX10_term_11 : decode cX10_term 11 = .ok (.ifCond .ne 12, 3) := dk_154 0 12 (dk_at dksX10_term_0 11 rfl rfl)
theorem dX10_term_14 : decode cX10_term 14 = .ok (.aload_n 0, 1) := dk_42 (dk_at dksX10_term_0 14 rfl rfl)
theorem dX10_term_15 : decode cX10_term 15 = .ok (.ldc 166, 2) := dk_18 166 (dk_at dksX10_term_0 15 rfl rfl)
theorem dX10_term_17 : decode cX10_term 17 = .ok (.invokevirtual 48, 3) := dk_182 0 48 (dk_at dksX10_term_0 17 rfl rfl)
theorem dX10_term_20 : decode cX10_term 20 = .ok (.ifCond .eq 35, 3) := dk_153 0 35 (dk_at dksX10_term_0 20 rfl rfl)
theorem dX10_term_23 : decode cX10_term 23 = .ok (.aload_n 0, 1) := dk_42 (dk_at dksX10_term_0 23 rfl rfl)
theorem dX10_term_24 : decode cX10_term 24 = .ok (.getfield 20, 3) := dk_180 0 20 (dk_at dksX10_term_1 0 rfl rfl)
theorem dX10_term_27 : decode cX10_term 27 = .ok (.aload_n 0, 1) := dk_42 (dk_at dksX10_term_1 3 rfl rfl)
theorem dX10_term_28 : decode cX10_term 28 = .ok (.getfield 31, 3) := dk_180 0 31 (dk_at dksX10_term_1 4 rfl rfl)
theorem dX10_term_31 : decode cX10_term 31 = .ok (.baload, 1) := dk_51 (dk_at dksX10_term_1 7 rfl rfl)
theorem dX10_term_32 : decode cX10_term 32 = .ok (.i2c, 1) := dk_146 (dk_at dksX10_term_1 8 rfl rfl)
theorem dX10_term_33 : decode cX10_term 33 = .ok (.istore_n 2, 1) := dk_61 (dk_at dksX10_term_1 9 rfl rfl)
theorem dX10_term_34 : decode cX10_term 34 = .ok (.aload_n 0, 1) := dk_42 (dk_at dksX10_term_1 10 rfl rfl)
theorem dX10_term_35 : decode cX10_term 35 = .ok (.invokevirtual 52, 3) := dk_182 0 52 (dk_at dksX10_term_1 11 rfl rfl)
theorem dX10_term_38 : decode cX10_term 38 = .ok (.new 158, 3) := dk_187 0 158 (dk_at dksX10_term_1 14 rfl rfl)
theorem dX10_term_41 : decode cX10_term 41 = .ok (.dup, 1) := dk_89 (dk_at dksX10_term_1 17 rfl rfl)
theorem dX10_term_42 : decode cX10_term 42 = .ok (.iload_n 2, 1) := dk_28 (dk_at dksX10_term_1 18 rfl rfl)
theorem dX10_term_43 : decode cX10_term 43 = .ok (.aload_n 1, 1) := dk_43 (dk_at dksX10_term_1 19 rfl rfl)
theorem dX10_term_44 : decode cX10_term 44 = .ok (.aload_n 0, 1) := dk_42 (dk_at dksX10_term_1 20 rfl rfl)
theorem dX10_term_45 : decode cX10_term 45 = .ok (.invokevirtual 161, 3) := dk_182 0 161 (dk_at dksX10_term_1 21 rfl rfl)
theorem dX10_term_48 : decode cX10_term 48 = .ok (.invokespecial 160, 3) := dk_183 0 160 (dk_at dksX10_term_2 0 rfl rfl)
theorem dX10_term_51 : decode cX10_term 51 = .ok (.astore_n 1, 1) := dk_76 (dk_at dksX10_term_2 3 rfl rfl)
theorem dX10_term_52 : decode cX10_term 52 = .ok (.goto (-47), 3) := dk_167 255 209 (dk_at dksX10_term_2 4 rfl rfl)
theorem dX10_term_55 : decode cX10_term 55 = .ok (.aload_n 1, 1) := dk_43 (dk_at dksX10_term_2 7 rfl rfl)
theorem dX10_term_56 : decode cX10_term 56 = .ok (.areturn, 1) := dk_176 (dk_at dksX10_term_2 8 rfl rfl)
abbrev cX10_part : ByteArray := prog_11_method_19_code
def yX10_part : MethodName := ⟨RX10, "part", "()LSnailPost$Sum;"⟩
def dkwX10_part_4 : List UInt8 := [182, 0, 195, 42, 182, 0, 52, 187, 0, 208, 89, 27, 183, 0, 210, 176]
abbrev dktX10_part_4 : List UInt8 := dkwX10_part_4 ++ []
def dkwX10_part_3 : List UInt8 := [182, 0, 205, 60, 27, 2, 160, 0, 15, 187, 0, 58, 89, 42, 180, 0, 31, 183, 0, 60, 191, 42]
abbrev dktX10_part_3 : List UInt8 := dkwX10_part_3 ++ dktX10_part_4
def dkwX10_part_2 : List UInt8 := [153, 0, 23, 42, 182, 0, 195, 187, 0, 198, 89, 42, 3, 17, 3, 232, 182, 0, 200, 183, 0, 204, 176, 42]
abbrev dktX10_part_2 : List UInt8 := dkwX10_part_2 ++ dktX10_part_3
def dkwX10_part_1 : List UInt8 := [42, 89, 180, 0, 116, 4, 100, 181, 0, 116, 43, 176, 42, 42, 180, 0, 31, 16, 48, 16, 57, 182, 0, 34]
abbrev dktX10_part_1 : List UInt8 := dkwX10_part_1 ++ dktX10_part_2
def dkwX10_part_0 : List UInt8 := [42, 18, 191, 182, 0, 48, 153, 0, 30, 42, 182, 0, 131, 42, 182, 0, 77, 76, 42, 18, 193, 182, 0, 136]
abbrev dktX10_part_0 : List UInt8 := dkwX10_part_0 ++ dktX10_part_1
theorem dksX10_part_0 : cX10_part.data.toList.drop 0 = dktX10_part_0 := by decide +kernel
theorem dksX10_part_1 : cX10_part.data.toList.drop 24 = dktX10_part_1 := dk_seg dksX10_part_0 24 rfl rfl
theorem dksX10_part_2 : cX10_part.data.toList.drop 48 = dktX10_part_2 := dk_seg dksX10_part_1 24 rfl rfl
theorem dksX10_part_3 : cX10_part.data.toList.drop 72 = dktX10_part_3 := dk_seg dksX10_part_2 24 rfl rfl
theorem dksX10_part_4 : cX10_part.data.toList.drop 94 = dktX10_part_4 := dk_seg dksX10_part_3 22 rfl rfl
theorem dX10_part_0 : decode cX10_part 0 = .ok (.aload_n 0, 1) := dk_42 (dk_at dksX10_part_0 0 rfl rfl)
theorem dX10_part_1 : decode cX10_part 1 = .ok (.ldc 191, 2) := dk_18 191 (dk_at dksX10_part_0 1 rfl rfl)
theorem dX10_part_3 : decode cX10_part 3 = .ok (.invokevirtual 48, 3) := dk_182 0 48 (dk_at dksX10_part_0 3 rfl rfl)
theorem dX10_part_6 : decode cX10_part 6 = .ok (.ifCond .eq 30, 3) := dk_153 0 30 (dk_at dksX10_part_0 6 rfl rfl)
theorem dX10_part_9 : decode cX10_part 9 = .ok (.aload_n 0, 1) := dk_42 (dk_at dksX10_part_0 9 rfl rfl)
theorem dX10_part_10 : decode cX10_part 10 = .ok (.invokevirtual 131, 3) := dk_182 0 131 (dk_at dksX10_part_0 10 rfl rfl)
theorem dX10_part_13 : decode cX10_part 13 = .ok (.aload_n 0, 1) := dk_42 (dk_at dksX10_part_0 13 rfl rfl)
theorem dX10_part_14 : decode cX10_part 14 = .ok (.invokevirtual 77, 3) := dk_182 0 77 (dk_at dksX10_part_0 14 rfl rfl)
theorem dX10_part_17 : decode cX10_part 17 = .ok (.astore_n 1, 1) := dk_76 (dk_at dksX10_part_0 17 rfl rfl)
theorem dX10_part_18 : decode cX10_part 18 = .ok (.aload_n 0, 1) := dk_42 (dk_at dksX10_part_0 18 rfl rfl)
theorem dX10_part_19 : decode cX10_part 19 = .ok (.ldc 193, 2) := dk_18 193 (dk_at dksX10_part_0 19 rfl rfl)
theorem dX10_part_21 : decode cX10_part 21 = .ok (.invokevirtual 136, 3) := dk_182 0 136 (dk_at dksX10_part_0 21 rfl rfl)
theorem dX10_part_24 : decode cX10_part 24 = .ok (.aload_n 0, 1) := dk_42 (dk_at dksX10_part_1 0 rfl rfl)
theorem dX10_part_25 : decode cX10_part 25 = .ok (.dup, 1) := dk_89 (dk_at dksX10_part_1 1 rfl rfl)
theorem dX10_part_26 : decode cX10_part 26 = .ok (.getfield 116, 3) := dk_180 0 116 (dk_at dksX10_part_1 2 rfl rfl)
theorem dX10_part_29 : decode cX10_part 29 = .ok (.iconst 1, 1) := dk_4 (dk_at dksX10_part_1 5 rfl rfl)
theorem dX10_part_30 : decode cX10_part 30 = .ok (.isub, 1) := dk_100 (dk_at dksX10_part_1 6 rfl rfl)
theorem dX10_part_31 : decode cX10_part 31 = .ok (.putfield 116, 3) := dk_181 0 116 (dk_at dksX10_part_1 7 rfl rfl)
theorem dX10_part_34 : decode cX10_part 34 = .ok (.aload_n 1, 1) := dk_43 (dk_at dksX10_part_1 10 rfl rfl)
theorem dX10_part_35 : decode cX10_part 35 = .ok (.areturn, 1) := dk_176 (dk_at dksX10_part_1 11 rfl rfl)
theorem dX10_part_36 : decode cX10_part 36 = .ok (.aload_n 0, 1) := dk_42 (dk_at dksX10_part_1 12 rfl rfl)
theorem dX10_part_37 : decode cX10_part 37 = .ok (.aload_n 0, 1) := dk_42 (dk_at dksX10_part_1 13 rfl rfl)
theorem dX10_part_38 : decode cX10_part 38 = .ok (.getfield 31, 3) := dk_180 0 31 (dk_at dksX10_part_1 14 rfl rfl)
theorem dX10_part_41 : decode cX10_part 41 = .ok (.bipush 48, 2) := dk_16 48 (dk_at dksX10_part_1 17 rfl rfl)
theorem dX10_part_43 : decode cX10_part 43 = .ok (.bipush 57, 2) := dk_16 57 (dk_at dksX10_part_1 19 rfl rfl)
theorem dX10_part_45 : decode cX10_part 45 = .ok (.invokevirtual 34, 3) := dk_182 0 34 (dk_at dksX10_part_1 21 rfl rfl)
theorem dX10_part_48 : decode cX10_part 48 = .ok (.ifCond .eq 23, 3) := dk_153 0 23 (dk_at dksX10_part_2 0 rfl rfl)
theorem dX10_part_51 : decode cX10_part 51 = .ok (.aload_n 0, 1) := dk_42 (dk_at dksX10_part_2 3 rfl rfl)
theorem dX10_part_52 : decode cX10_part 52 = .ok (.invokevirtual 195, 3) := dk_182 0 195 (dk_at dksX10_part_2 4 rfl rfl)
theorem dX10_part_55 : decode cX10_part 55 = .ok (.new 198, 3) := dk_187 0 198 (dk_at dksX10_part_2 7 rfl rfl)
theorem dX10_part_58 : decode cX10_part 58 = .ok (.dup, 1) := dk_89 (dk_at dksX10_part_2 10 rfl rfl)
theorem dX10_part_59 : decode cX10_part 59 = .ok (.aload_n 0, 1) := dk_42 (dk_at dksX10_part_2 11 rfl rfl)
theorem dX10_part_60 : decode cX10_part 60 = .ok (.iconst 0, 1) := dk_3 (dk_at dksX10_part_2 12 rfl rfl)
theorem dX10_part_61 : decode cX10_part 61 = .ok (.sipush 1000, 3) := dk_17 3 232 (dk_at dksX10_part_2 13 rfl rfl)
theorem dX10_part_64 : decode cX10_part 64 = .ok (.invokevirtual 200, 3) := dk_182 0 200 (dk_at dksX10_part_2 16 rfl rfl)
theorem dX10_part_67 : decode cX10_part 67 = .ok (.invokespecial 204, 3) := dk_183 0 204 (dk_at dksX10_part_2 19 rfl rfl)
theorem dX10_part_70 : decode cX10_part 70 = .ok (.areturn, 1) := dk_176 (dk_at dksX10_part_2 22 rfl rfl)
theorem dX10_part_71 : decode cX10_part 71 = .ok (.aload_n 0, 1) := dk_42 (dk_at dksX10_part_2 23 rfl rfl)
theorem dX10_part_72 : decode cX10_part 72 = .ok (.invokevirtual 205, 3) := dk_182 0 205 (dk_at dksX10_part_3 0 rfl rfl)
theorem dX10_part_75 : decode cX10_part 75 = .ok (.istore_n 1, 1) := dk_60 (dk_at dksX10_part_3 3 rfl rfl)
theorem dX10_part_76 : decode cX10_part 76 = .ok (.iload_n 1, 1) := dk_27 (dk_at dksX10_part_3 4 rfl rfl)
theorem dX10_part_77 : decode cX10_part 77 = .ok (.iconst (-1), 1) := dk_2 (dk_at dksX10_part_3 5 rfl rfl)
theorem dX10_part_78 : decode cX10_part 78 = .ok (.if_icmp .ne 15, 3) := dk_160 0 15 (dk_at dksX10_part_3 6 rfl rfl)
theorem dX10_part_81 : decode cX10_part 81 = .ok (.new 58, 3) := dk_187 0 58 (dk_at dksX10_part_3 9 rfl rfl)
theorem dX10_part_84 : decode cX10_part 84 = .ok (.dup, 1) := dk_89 (dk_at dksX10_part_3 12 rfl rfl)
theorem dX10_part_85 : decode cX10_part 85 = .ok (.aload_n 0, 1) := dk_42 (dk_at dksX10_part_3 13 rfl rfl)
theorem dX10_part_86 : decode cX10_part 86 = .ok (.getfield 31, 3) := dk_180 0 31 (dk_at dksX10_part_3 14 rfl rfl)
theorem dX10_part_89 : decode cX10_part 89 = .ok (.invokespecial 60, 3) := dk_183 0 60 (dk_at dksX10_part_3 17 rfl rfl)
theorem dX10_part_92 : decode cX10_part 92 = .ok (.athrow, 1) := dk_191 (dk_at dksX10_part_3 20 rfl rfl)
theorem dX10_part_93 : decode cX10_part 93 = .ok (.aload_n 0, 1) := dk_42 (dk_at dksX10_part_3 21 rfl rfl)
theorem dX10_part_94 : decode cX10_part 94 = .ok (.invokevirtual 195, 3) := dk_182 0 195 (dk_at dksX10_part_4 0 rfl rfl)
theorem dX10_part_97 : decode cX10_part 97 = .ok (.aload_n 0, 1) := dk_42 (dk_at dksX10_part_4 3 rfl rfl)
theorem dX10_part_98 : decode cX10_part 98 = .ok (.invokevirtual 52, 3) := dk_182 0 52 (dk_at dksX10_part_4 4 rfl rfl)
theorem dX10_part_101 : decode cX10_part 101 = .ok (.new 208, 3) := dk_187 0 208 (dk_at dksX10_part_4 7 rfl rfl)
theorem dX10_part_104 : decode cX10_part 104 = .ok (.dup, 1) := dk_89 (dk_at dksX10_part_4 10 rfl rfl)
theorem dX10_part_105 : decode cX10_part 105 = .ok (.iload_n 1, 1) := dk_27 (dk_at dksX10_part_4 11 rfl rfl)
theorem dX10_part_106 : decode cX10_part 106 = .ok (.invokespecial 210, 3) := dk_183 0 210 (dk_at dksX10_part_4 12 rfl rfl)
theorem dX10_part_109 : decode cX10_part 109 = .ok (.areturn, 1) := dk_176 (dk_at dksX10_part_4 15 rfl rfl)
abbrev cX10_opens : ByteArray := prog_11_method_12_code
def yX10_opens : MethodName := ⟨RX10, "opens", "()V"⟩
def dkwX10_opens_1 : List UInt8 := [180, 0, 116, 4, 96, 181, 0, 116, 42, 182, 0, 52, 177]
abbrev dktX10_opens_1 : List UInt8 := dkwX10_opens_1 ++ []
def dkwX10_opens_0 : List UInt8 := [42, 180, 0, 116, 16, 8, 160, 0, 15, 187, 0, 58, 89, 42, 180, 0, 31, 183, 0, 60, 191, 42, 89]
abbrev dktX10_opens_0 : List UInt8 := dkwX10_opens_0 ++ dktX10_opens_1
theorem dksX10_opens_0 : cX10_opens.data.toList.drop 0 = dktX10_opens_0 := by decide +kernel
theorem dksX10_opens_1 : cX10_opens.data.toList.drop 23 = dktX10_opens_1 := dk_seg dksX10_opens_0 23 rfl rfl
theorem dX10_opens_0 : decode cX10_opens 0 = .ok (.aload_n 0, 1) := dk_42 (dk_at dksX10_opens_0 0 rfl rfl)
theorem dX10_opens_1 : decode cX10_opens 1 = .ok (.getfield 116, 3) := dk_180 0 116 (dk_at dksX10_opens_0 1 rfl rfl)
theorem dX10_opens_4 : decode cX10_opens 4 = .ok (.bipush 8, 2) := dk_16 8 (dk_at dksX10_opens_0 4 rfl rfl)
theorem dX10_opens_6 : decode cX10_opens 6 = .ok (.if_icmp .ne 15, 3) := dk_160 0 15 (dk_at dksX10_opens_0 6 rfl rfl)
theorem dX10_opens_9 : decode cX10_opens 9 = .ok (.new 58, 3) := dk_187 0 58 (dk_at dksX10_opens_0 9 rfl rfl)
theorem dX10_opens_12 : decode cX10_opens 12 = .ok (.dup, 1) := dk_89 (dk_at dksX10_opens_0 12 rfl rfl)
theorem dX10_opens_13 : decode cX10_opens 13 = .ok (.aload_n 0, 1) := dk_42 (dk_at dksX10_opens_0 13 rfl rfl)
theorem dX10_opens_14 : decode cX10_opens 14 = .ok (.getfield 31, 3) := dk_180 0 31 (dk_at dksX10_opens_0 14 rfl rfl)
theorem dX10_opens_17 : decode cX10_opens 17 = .ok (.invokespecial 60, 3) := dk_183 0 60 (dk_at dksX10_opens_0 17 rfl rfl)
theorem dX10_opens_20 : decode cX10_opens 20 = .ok (.athrow, 1) := dk_191 (dk_at dksX10_opens_0 20 rfl rfl)
theorem dX10_opens_21 : decode cX10_opens 21 = .ok (.aload_n 0, 1) := dk_42 (dk_at dksX10_opens_0 21 rfl rfl)
theorem dX10_opens_22 : decode cX10_opens 22 = .ok (.dup, 1) := dk_89 (dk_at dksX10_opens_0 22 rfl rfl)
theorem dX10_opens_23 : decode cX10_opens 23 = .ok (.getfield 116, 3) := dk_180 0 116 (dk_at dksX10_opens_1 0 rfl rfl)
theorem dX10_opens_26 : decode cX10_opens 26 = .ok (.iconst 1, 1) := dk_4 (dk_at dksX10_opens_1 3 rfl rfl)
theorem dX10_opens_27 : decode cX10_opens 27 = .ok (.iadd, 1) := dk_96 (dk_at dksX10_opens_1 4 rfl rfl)
theorem dX10_opens_28 : decode cX10_opens 28 = .ok (.putfield 116, 3) := dk_181 0 116 (dk_at dksX10_opens_1 5 rfl rfl)
theorem dX10_opens_31 : decode cX10_opens 31 = .ok (.aload_n 0, 1) := dk_42 (dk_at dksX10_opens_1 8 rfl rfl)
theorem dX10_opens_32 : decode cX10_opens 32 = .ok (.invokevirtual 52, 3) := dk_182 0 52 (dk_at dksX10_opens_1 9 rfl rfl)
theorem dX10_opens_35 : decode cX10_opens 35 = .ok (.return_, 1) := dk_177 (dk_at dksX10_opens_1 12 rfl rfl)
abbrev cX10_need : ByteArray := prog_11_method_6_code
def yX10_need : MethodName := ⟨RX10, "need", "(Ljava/lang/String;)V"⟩
def dkwX10_need_0 : List UInt8 := [42, 43, 182, 0, 55, 154, 0, 15, 187, 0, 58, 89, 42, 180, 0, 31, 183, 0, 60, 191, 177]
abbrev dktX10_need_0 : List UInt8 := dkwX10_need_0 ++ []
theorem dksX10_need_0 : cX10_need.data.toList.drop 0 = dktX10_need_0 := by decide +kernel
theorem dX10_need_0 : decode cX10_need 0 = .ok (.aload_n 0, 1) := dk_42 (dk_at dksX10_need_0 0 rfl rfl)
theorem dX10_need_1 : decode cX10_need 1 = .ok (.aload_n 1, 1) := dk_43 (dk_at dksX10_need_0 1 rfl rfl)
theorem dX10_need_2 : decode cX10_need 2 = .ok (.invokevirtual 55, 3) := dk_182 0 55 (dk_at dksX10_need_0 2 rfl rfl)
theorem dX10_need_5 : decode cX10_need 5 = .ok (.ifCond .ne 15, 3) := dk_154 0 15 (dk_at dksX10_need_0 5 rfl rfl)
theorem dX10_need_8 : decode cX10_need 8 = .ok (.new 58, 3) := dk_187 0 58 (dk_at dksX10_need_0 8 rfl rfl)
theorem dX10_need_11 : decode cX10_need 11 = .ok (.dup, 1) := dk_89 (dk_at dksX10_need_0 11 rfl rfl)
theorem dX10_need_12 : decode cX10_need 12 = .ok (.aload_n 0, 1) := dk_42 (dk_at dksX10_need_0 12 rfl rfl)
theorem dX10_need_13 : decode cX10_need 13 = .ok (.getfield 31, 3) := dk_180 0 31 (dk_at dksX10_need_0 13 rfl rfl)
theorem dX10_need_16 : decode cX10_need 16 = .ok (.invokespecial 60, 3) := dk_183 0 60 (dk_at dksX10_need_0 16 rfl rfl)
theorem dX10_need_19 : decode cX10_need 19 = .ok (.athrow, 1) := dk_191 (dk_at dksX10_need_0 19 rfl rfl)
theorem dX10_need_20 : decode cX10_need 20 = .ok (.return_, 1) := dk_177 (dk_at dksX10_need_0 20 rfl rfl)
abbrev cX10_takes : ByteArray := prog_11_method_5_code
def yX10_takes : MethodName := ⟨RX10, "takes", "(Ljava/lang/String;)Z"⟩
def dkwX10_takes_0 : List UInt8 := [42, 43, 182, 0, 48, 61, 28, 153, 0, 7, 42, 182, 0, 52, 28, 172]
abbrev dktX10_takes_0 : List UInt8 := dkwX10_takes_0 ++ []
theorem dksX10_takes_0 : cX10_takes.data.toList.drop 0 = dktX10_takes_0 := by decide +kernel
theorem dX10_takes_0 : decode cX10_takes 0 = .ok (.aload_n 0, 1) := dk_42 (dk_at dksX10_takes_0 0 rfl rfl)
theorem dX10_takes_1 : decode cX10_takes 1 = .ok (.aload_n 1, 1) := dk_43 (dk_at dksX10_takes_0 1 rfl rfl)
theorem dX10_takes_2 : decode cX10_takes 2 = .ok (.invokevirtual 48, 3) := dk_182 0 48 (dk_at dksX10_takes_0 2 rfl rfl)
theorem dX10_takes_5 : decode cX10_takes 5 = .ok (.istore_n 2, 1) := dk_61 (dk_at dksX10_takes_0 5 rfl rfl)
theorem dX10_takes_6 : decode cX10_takes 6 = .ok (.iload_n 2, 1) := dk_28 (dk_at dksX10_takes_0 6 rfl rfl)
theorem dX10_takes_7 : decode cX10_takes 7 = .ok (.ifCond .eq 7, 3) := dk_153 0 7 (dk_at dksX10_takes_0 7 rfl rfl)
theorem dX10_takes_10 : decode cX10_takes 10 = .ok (.aload_n 0, 1) := dk_42 (dk_at dksX10_takes_0 10 rfl rfl)
theorem dX10_takes_11 : decode cX10_takes 11 = .ok (.invokevirtual 52, 3) := dk_182 0 52 (dk_at dksX10_takes_0 11 rfl rfl)
theorem dX10_takes_14 : decode cX10_takes 14 = .ok (.iload_n 2, 1) := dk_28 (dk_at dksX10_takes_0 14 rfl rfl)
theorem dX10_takes_15 : decode cX10_takes 15 = .ok (.ireturn, 1) := dk_172 (dk_at dksX10_takes_0 15 rfl rfl)
abbrev cX10_leaf : ByteArray := prog_11_method_17_code
def yX10_leaf : MethodName := ⟨RX10, "leaf", "()V"⟩
def dkwX10_leaf_1 : List UInt8 := [180, 0, 168, 4, 96, 181, 0, 168, 177]
abbrev dktX10_leaf_1 : List UInt8 := dkwX10_leaf_1 ++ []
def dkwX10_leaf_0 : List UInt8 := [42, 180, 0, 168, 16, 50, 160, 0, 15, 187, 0, 58, 89, 42, 180, 0, 31, 183, 0, 60, 191, 42, 89]
abbrev dktX10_leaf_0 : List UInt8 := dkwX10_leaf_0 ++ dktX10_leaf_1
theorem dksX10_leaf_0 : cX10_leaf.data.toList.drop 0 = dktX10_leaf_0 := by decide +kernel
theorem dksX10_leaf_1 : cX10_leaf.data.toList.drop 23 = dktX10_leaf_1 := dk_seg dksX10_leaf_0 23 rfl rfl
theorem dX10_leaf_0 : decode cX10_leaf 0 = .ok (.aload_n 0, 1) := dk_42 (dk_at dksX10_leaf_0 0 rfl rfl)
theorem dX10_leaf_1 : decode cX10_leaf 1 = .ok (.getfield 168, 3) := dk_180 0 168 (dk_at dksX10_leaf_0 1 rfl rfl)
theorem dX10_leaf_4 : decode cX10_leaf 4 = .ok (.bipush 50, 2) := dk_16 50 (dk_at dksX10_leaf_0 4 rfl rfl)
theorem dX10_leaf_6 : decode cX10_leaf 6 = .ok (.if_icmp .ne 15, 3) := dk_160 0 15 (dk_at dksX10_leaf_0 6 rfl rfl)
theorem dX10_leaf_9 : decode cX10_leaf 9 = .ok (.new 58, 3) := dk_187 0 58 (dk_at dksX10_leaf_0 9 rfl rfl)
theorem dX10_leaf_12 : decode cX10_leaf 12 = .ok (.dup, 1) := dk_89 (dk_at dksX10_leaf_0 12 rfl rfl)
theorem dX10_leaf_13 : decode cX10_leaf 13 = .ok (.aload_n 0, 1) := dk_42 (dk_at dksX10_leaf_0 13 rfl rfl)
theorem dX10_leaf_14 : decode cX10_leaf 14 = .ok (.getfield 31, 3) := dk_180 0 31 (dk_at dksX10_leaf_0 14 rfl rfl)
theorem dX10_leaf_17 : decode cX10_leaf 17 = .ok (.invokespecial 60, 3) := dk_183 0 60 (dk_at dksX10_leaf_0 17 rfl rfl)
theorem dX10_leaf_20 : decode cX10_leaf 20 = .ok (.athrow, 1) := dk_191 (dk_at dksX10_leaf_0 20 rfl rfl)
theorem dX10_leaf_21 : decode cX10_leaf 21 = .ok (.aload_n 0, 1) := dk_42 (dk_at dksX10_leaf_0 21 rfl rfl)
theorem dX10_leaf_22 : decode cX10_leaf 22 = .ok (.dup, 1) := dk_89 (dk_at dksX10_leaf_0 22 rfl rfl)
theorem dX10_leaf_23 : decode cX10_leaf 23 = .ok (.getfield 168, 3) := dk_180 0 168 (dk_at dksX10_leaf_1 0 rfl rfl)
theorem dX10_leaf_26 : decode cX10_leaf 26 = .ok (.iconst 1, 1) := dk_4 (dk_at dksX10_leaf_1 3 rfl rfl)
theorem dX10_leaf_27 : decode cX10_leaf 27 = .ok (.iadd, 1) := dk_96 (dk_at dksX10_leaf_1 4 rfl rfl)
theorem dX10_leaf_28 : decode cX10_leaf 28 = .ok (.putfield 168, 3) := dk_181 0 168 (dk_at dksX10_leaf_1 5 rfl rfl)
theorem dX10_leaf_31 : decode cX10_leaf 31 = .ok (.return_, 1) := dk_177 (dk_at dksX10_leaf_1 8 rfl rfl)
abbrev cX10_number : ByteArray := prog_11_method_7_code
def yX10_number : MethodName := ⟨RX10, "number", "(II)I"⟩
def dkwX10_number_4 : List UInt8 := [191, 42, 182, 0, 52, 29, 172]
abbrev dktX10_number_4 : List UInt8 := dkwX10_number_4 ++ []
def dkwX10_number_3 : List UInt8 := [167, 255, 223, 29, 27, 161, 0, 8, 29, 28, 164, 0, 15, 187, 0, 58, 89, 42, 180, 0, 31, 183, 0, 60]
abbrev dktX10_number_3 : List UInt8 := dkwX10_number_3 ++ dktX10_number_4
def dkwX10_number_2 : List UInt8 := [163, 0, 25, 16, 10, 29, 104, 42, 180, 0, 20, 21, 4, 51, 96, 16, 48, 100, 62, 132, 4, 1]
abbrev dktX10_number_2 : List UInt8 := dkwX10_number_2 ++ dktX10_number_3
def dkwX10_number_1 : List UInt8 := [183, 0, 60, 191, 3, 62, 42, 180, 0, 31, 54, 4, 21, 4, 42, 180, 0, 28, 162, 0, 30, 29, 28]
abbrev dktX10_number_1 : List UInt8 := dkwX10_number_1 ++ dktX10_number_2
def dkwX10_number_0 : List UInt8 := [42, 42, 180, 0, 31, 16, 48, 16, 57, 182, 0, 34, 154, 0, 15, 187, 0, 58, 89, 42, 180, 0, 31]
abbrev dktX10_number_0 : List UInt8 := dkwX10_number_0 ++ dktX10_number_1
theorem dksX10_number_0 : cX10_number.data.toList.drop 0 = dktX10_number_0 := by decide +kernel
theorem dksX10_number_1 : cX10_number.data.toList.drop 23 = dktX10_number_1 := dk_seg dksX10_number_0 23 rfl rfl
theorem dksX10_number_2 : cX10_number.data.toList.drop 46 = dktX10_number_2 := dk_seg dksX10_number_1 23 rfl rfl
theorem dksX10_number_3 : cX10_number.data.toList.drop 68 = dktX10_number_3 := dk_seg dksX10_number_2 22 rfl rfl
theorem dksX10_number_4 : cX10_number.data.toList.drop 92 = dktX10_number_4 := dk_seg dksX10_number_3 24 rfl rfl
theorem dX10_number_0 : decode cX10_number 0 = .ok (.aload_n 0, 1) := dk_42 (dk_at dksX10_number_0 0 rfl rfl)
theorem dX10_number_1 : decode cX10_number 1 = .ok (.aload_n 0, 1) := dk_42 (dk_at dksX10_number_0 1 rfl rfl)
theorem dX10_number_2 : decode cX10_number 2 = .ok (.getfield 31, 3) := dk_180 0 31 (dk_at dksX10_number_0 2 rfl rfl)
theorem dX10_number_5 : decode cX10_number 5 = .ok (.bipush 48, 2) := dk_16 48 (dk_at dksX10_number_0 5 rfl rfl)
theorem dX10_number_7 : decode cX10_number 7 = .ok (.bipush 57, 2) := dk_16 57 (dk_at dksX10_number_0 7 rfl rfl)
theorem dX10_number_9 : decode cX10_number 9 = .ok (.invokevirtual 34, 3) := dk_182 0 34 (dk_at dksX10_number_0 9 rfl rfl)
theorem dX10_number_12 : decode cX10_number 12 = .ok (.ifCond .ne 15, 3) := dk_154 0 15 (dk_at dksX10_number_0 12 rfl rfl)
theorem dX10_number_15 : decode cX10_number 15 = .ok (.new 58, 3) := dk_187 0 58 (dk_at dksX10_number_0 15 rfl rfl)
theorem dX10_number_18 : decode cX10_number 18 = .ok (.dup, 1) := dk_89 (dk_at dksX10_number_0 18 rfl rfl)
theorem dX10_number_19 : decode cX10_number 19 = .ok (.aload_n 0, 1) := dk_42 (dk_at dksX10_number_0 19 rfl rfl)
theorem dX10_number_20 : decode cX10_number 20 = .ok (.getfield 31, 3) := dk_180 0 31 (dk_at dksX10_number_0 20 rfl rfl)
theorem dX10_number_23 : decode cX10_number 23 = .ok (.invokespecial 60, 3) := dk_183 0 60 (dk_at dksX10_number_1 0 rfl rfl)
theorem dX10_number_26 : decode cX10_number 26 = .ok (.athrow, 1) := dk_191 (dk_at dksX10_number_1 3 rfl rfl)
theorem dX10_number_27 : decode cX10_number 27 = .ok (.iconst 0, 1) := dk_3 (dk_at dksX10_number_1 4 rfl rfl)
theorem dX10_number_28 : decode cX10_number 28 = .ok (.istore_n 3, 1) := dk_62 (dk_at dksX10_number_1 5 rfl rfl)
theorem dX10_number_29 : decode cX10_number 29 = .ok (.aload_n 0, 1) := dk_42 (dk_at dksX10_number_1 6 rfl rfl)
theorem dX10_number_30 : decode cX10_number 30 = .ok (.getfield 31, 3) := dk_180 0 31 (dk_at dksX10_number_1 7 rfl rfl)
theorem dX10_number_33 : decode cX10_number 33 = .ok (.istore 4, 2) := dk_54 4 (dk_at dksX10_number_1 10 rfl rfl)
theorem dX10_number_35 : decode cX10_number 35 = .ok (.iload 4, 2) := dk_21 4 (dk_at dksX10_number_1 12 rfl rfl)
theorem dX10_number_37 : decode cX10_number 37 = .ok (.aload_n 0, 1) := dk_42 (dk_at dksX10_number_1 14 rfl rfl)
theorem dX10_number_38 : decode cX10_number 38 = .ok (.getfield 28, 3) := dk_180 0 28 (dk_at dksX10_number_1 15 rfl rfl)
theorem dX10_number_41 : decode cX10_number 41 = .ok (.if_icmp .ge 30, 3) := dk_162 0 30 (dk_at dksX10_number_1 18 rfl rfl)
theorem dX10_number_44 : decode cX10_number 44 = .ok (.iload_n 3, 1) := dk_29 (dk_at dksX10_number_1 21 rfl rfl)
theorem dX10_number_45 : decode cX10_number 45 = .ok (.iload_n 2, 1) := dk_28 (dk_at dksX10_number_1 22 rfl rfl)
theorem dX10_number_46 : decode cX10_number 46 = .ok (.if_icmp .gt 25, 3) := dk_163 0 25 (dk_at dksX10_number_2 0 rfl rfl)
theorem dX10_number_49 : decode cX10_number 49 = .ok (.bipush 10, 2) := dk_16 10 (dk_at dksX10_number_2 3 rfl rfl)
theorem dX10_number_51 : decode cX10_number 51 = .ok (.iload_n 3, 1) := dk_29 (dk_at dksX10_number_2 5 rfl rfl)
theorem dX10_number_52 : decode cX10_number 52 = .ok (.imul, 1) := dk_104 (dk_at dksX10_number_2 6 rfl rfl)
theorem dX10_number_53 : decode cX10_number 53 = .ok (.aload_n 0, 1) := dk_42 (dk_at dksX10_number_2 7 rfl rfl)
theorem dX10_number_54 : decode cX10_number 54 = .ok (.getfield 20, 3) := dk_180 0 20 (dk_at dksX10_number_2 8 rfl rfl)
theorem dX10_number_57 : decode cX10_number 57 = .ok (.iload 4, 2) := dk_21 4 (dk_at dksX10_number_2 11 rfl rfl)
theorem dX10_number_59 : decode cX10_number 59 = .ok (.baload, 1) := dk_51 (dk_at dksX10_number_2 13 rfl rfl)
theorem dX10_number_60 : decode cX10_number 60 = .ok (.iadd, 1) := dk_96 (dk_at dksX10_number_2 14 rfl rfl)
theorem dX10_number_61 : decode cX10_number 61 = .ok (.bipush 48, 2) := dk_16 48 (dk_at dksX10_number_2 15 rfl rfl)
theorem dX10_number_63 : decode cX10_number 63 = .ok (.isub, 1) := dk_100 (dk_at dksX10_number_2 17 rfl rfl)
theorem dX10_number_64 : decode cX10_number 64 = .ok (.istore_n 3, 1) := dk_62 (dk_at dksX10_number_2 18 rfl rfl)
theorem dX10_number_65 : decode cX10_number 65 = .ok (.iinc 4 1, 3) := dk_132 4 1 (dk_at dksX10_number_2 19 rfl rfl)
theorem dX10_number_68 : decode cX10_number 68 = .ok (.goto (-33), 3) := dk_167 255 223 (dk_at dksX10_number_3 0 rfl rfl)
theorem dX10_number_71 : decode cX10_number 71 = .ok (.iload_n 3, 1) := dk_29 (dk_at dksX10_number_3 3 rfl rfl)
theorem dX10_number_72 : decode cX10_number 72 = .ok (.iload_n 1, 1) := dk_27 (dk_at dksX10_number_3 4 rfl rfl)
theorem dX10_number_73 : decode cX10_number 73 = .ok (.if_icmp .lt 8, 3) := dk_161 0 8 (dk_at dksX10_number_3 5 rfl rfl)
theorem dX10_number_76 : decode cX10_number 76 = .ok (.iload_n 3, 1) := dk_29 (dk_at dksX10_number_3 8 rfl rfl)
theorem dX10_number_77 : decode cX10_number 77 = .ok (.iload_n 2, 1) := dk_28 (dk_at dksX10_number_3 9 rfl rfl)
theorem dX10_number_78 : decode cX10_number 78 = .ok (.if_icmp .le 15, 3) := dk_164 0 15 (dk_at dksX10_number_3 10 rfl rfl)
theorem dX10_number_81 : decode cX10_number 81 = .ok (.new 58, 3) := dk_187 0 58 (dk_at dksX10_number_3 13 rfl rfl)
theorem dX10_number_84 : decode cX10_number 84 = .ok (.dup, 1) := dk_89 (dk_at dksX10_number_3 16 rfl rfl)
theorem dX10_number_85 : decode cX10_number 85 = .ok (.aload_n 0, 1) := dk_42 (dk_at dksX10_number_3 17 rfl rfl)
theorem dX10_number_86 : decode cX10_number 86 = .ok (.getfield 31, 3) := dk_180 0 31 (dk_at dksX10_number_3 18 rfl rfl)
theorem dX10_number_89 : decode cX10_number 89 = .ok (.invokespecial 60, 3) := dk_183 0 60 (dk_at dksX10_number_3 21 rfl rfl)
theorem dX10_number_92 : decode cX10_number 92 = .ok (.athrow, 1) := dk_191 (dk_at dksX10_number_4 0 rfl rfl)
theorem dX10_number_93 : decode cX10_number 93 = .ok (.aload_n 0, 1) := dk_42 (dk_at dksX10_number_4 1 rfl rfl)
theorem dX10_number_94 : decode cX10_number 94 = .ok (.invokevirtual 52, 3) := dk_182 0 52 (dk_at dksX10_number_4 2 rfl rfl)
theorem dX10_number_97 : decode cX10_number 97 = .ok (.iload_n 3, 1) := dk_29 (dk_at dksX10_number_4 5 rfl rfl)
theorem dX10_number_98 : decode cX10_number 98 = .ok (.ireturn, 1) := dk_172 (dk_at dksX10_number_4 6 rfl rfl)
abbrev cX10_value : ByteArray := prog_11_method_18_code
def yX10_value : MethodName := ⟨RX10, "value", "()I"⟩
def dkwX10_value_5 : List UInt8 := [172]
abbrev dktX10_value_5 : List UInt8 := dkwX10_value_5 ++ []
def dkwX10_value_4 : List UInt8 := [182, 0, 48, 153, 0, 6, 16, 8, 172, 42, 18, 189, 182, 0, 48, 153, 0, 8, 16, 9, 167, 0, 4, 2]
abbrev dktX10_value_4 : List UInt8 := dkwX10_value_4 ++ dktX10_value_5
def dkwX10_value_3 : List UInt8 := [182, 0, 48, 153, 0, 6, 16, 6, 172, 42, 18, 185, 182, 0, 48, 153, 0, 6, 16, 7, 172, 42, 18, 187]
abbrev dktX10_value_3 : List UInt8 := dkwX10_value_3 ++ dktX10_value_4
def dkwX10_value_2 : List UInt8 := [182, 0, 48, 153, 0, 5, 7, 172, 42, 18, 181, 182, 0, 48, 153, 0, 5, 8, 172, 42, 18, 183]
abbrev dktX10_value_2 : List UInt8 := dkwX10_value_2 ++ dktX10_value_3
def dkwX10_value_1 : List UInt8 := [18, 175, 182, 0, 48, 153, 0, 5, 5, 172, 42, 18, 177, 182, 0, 48, 153, 0, 5, 6, 172, 42, 18, 179]
abbrev dktX10_value_1 : List UInt8 := dkwX10_value_1 ++ dktX10_value_2
def dkwX10_value_0 : List UInt8 := [42, 18, 171, 182, 0, 48, 153, 0, 5, 3, 172, 42, 18, 173, 182, 0, 48, 153, 0, 5, 4, 172, 42]
abbrev dktX10_value_0 : List UInt8 := dkwX10_value_0 ++ dktX10_value_1
theorem dksX10_value_0 : cX10_value.data.toList.drop 0 = dktX10_value_0 := by decide +kernel
theorem dksX10_value_1 : cX10_value.data.toList.drop 23 = dktX10_value_1 := dk_seg dksX10_value_0 23 rfl rfl
theorem dksX10_value_2 : cX10_value.data.toList.drop 47 = dktX10_value_2 := dk_seg dksX10_value_1 24 rfl rfl
theorem dksX10_value_3 : cX10_value.data.toList.drop 69 = dktX10_value_3 := dk_seg dksX10_value_2 22 rfl rfl
theorem dksX10_value_4 : cX10_value.data.toList.drop 93 = dktX10_value_4 := dk_seg dksX10_value_3 24 rfl rfl
theorem dksX10_value_5 : cX10_value.data.toList.drop 117 = dktX10_value_5 := dk_seg dksX10_value_4 24 rfl rfl
theorem dX10_value_0 : decode cX10_value 0 = .ok (.aload_n 0, 1) := dk_42 (dk_at dksX10_value_0 0 rfl rfl)
theorem dX10_value_1 : decode cX10_value 1 = .ok (.ldc 171, 2) := dk_18 171 (dk_at dksX10_value_0 1 rfl rfl)
theorem dX10_value_3 : decode cX10_value 3 = .ok (.invokevirtual 48, 3) := dk_182 0 48 (dk_at dksX10_value_0 3 rfl rfl)
theorem dX10_value_6 : decode cX10_value 6 = .ok (.ifCond .eq 5, 3) := dk_153 0 5 (dk_at dksX10_value_0 6 rfl rfl)
theorem dX10_value_9 : decode cX10_value 9 = .ok (.iconst 0, 1) := dk_3 (dk_at dksX10_value_0 9 rfl rfl)
theorem dX10_value_10 : decode cX10_value 10 = .ok (.ireturn, 1) := dk_172 (dk_at dksX10_value_0 10 rfl rfl)
theorem dX10_value_11 : decode cX10_value 11 = .ok (.aload_n 0, 1) := dk_42 (dk_at dksX10_value_0 11 rfl rfl)
theorem dX10_value_12 : decode cX10_value 12 = .ok (.ldc 173, 2) := dk_18 173 (dk_at dksX10_value_0 12 rfl rfl)
theorem dX10_value_14 : decode cX10_value 14 = .ok (.invokevirtual 48, 3) := dk_182 0 48 (dk_at dksX10_value_0 14 rfl rfl)
theorem dX10_value_17 : decode cX10_value 17 = .ok (.ifCond .eq 5, 3) := dk_153 0 5 (dk_at dksX10_value_0 17 rfl rfl)
theorem dX10_value_20 : decode cX10_value 20 = .ok (.iconst 1, 1) := dk_4 (dk_at dksX10_value_0 20 rfl rfl)
theorem dX10_value_21 : decode cX10_value 21 = .ok (.ireturn, 1) := dk_172 (dk_at dksX10_value_0 21 rfl rfl)
theorem dX10_value_22 : decode cX10_value 22 = .ok (.aload_n 0, 1) := dk_42 (dk_at dksX10_value_0 22 rfl rfl)
theorem dX10_value_23 : decode cX10_value 23 = .ok (.ldc 175, 2) := dk_18 175 (dk_at dksX10_value_1 0 rfl rfl)
theorem dX10_value_25 : decode cX10_value 25 = .ok (.invokevirtual 48, 3) := dk_182 0 48 (dk_at dksX10_value_1 2 rfl rfl)
theorem dX10_value_28 : decode cX10_value 28 = .ok (.ifCond .eq 5, 3) := dk_153 0 5 (dk_at dksX10_value_1 5 rfl rfl)
theorem dX10_value_31 : decode cX10_value 31 = .ok (.iconst 2, 1) := dk_5 (dk_at dksX10_value_1 8 rfl rfl)
theorem dX10_value_32 : decode cX10_value 32 = .ok (.ireturn, 1) := dk_172 (dk_at dksX10_value_1 9 rfl rfl)
theorem dX10_value_33 : decode cX10_value 33 = .ok (.aload_n 0, 1) := dk_42 (dk_at dksX10_value_1 10 rfl rfl)
theorem dX10_value_34 : decode cX10_value 34 = .ok (.ldc 177, 2) := dk_18 177 (dk_at dksX10_value_1 11 rfl rfl)
theorem dX10_value_36 : decode cX10_value 36 = .ok (.invokevirtual 48, 3) := dk_182 0 48 (dk_at dksX10_value_1 13 rfl rfl)
theorem dX10_value_39 : decode cX10_value 39 = .ok (.ifCond .eq 5, 3) := dk_153 0 5 (dk_at dksX10_value_1 16 rfl rfl)
theorem dX10_value_42 : decode cX10_value 42 = .ok (.iconst 3, 1) := dk_6 (dk_at dksX10_value_1 19 rfl rfl)
theorem dX10_value_43 : decode cX10_value 43 = .ok (.ireturn, 1) := dk_172 (dk_at dksX10_value_1 20 rfl rfl)
theorem dX10_value_44 : decode cX10_value 44 = .ok (.aload_n 0, 1) := dk_42 (dk_at dksX10_value_1 21 rfl rfl)
theorem dX10_value_45 : decode cX10_value 45 = .ok (.ldc 179, 2) := dk_18 179 (dk_at dksX10_value_1 22 rfl rfl)
theorem dX10_value_47 : decode cX10_value 47 = .ok (.invokevirtual 48, 3) := dk_182 0 48 (dk_at dksX10_value_2 0 rfl rfl)
theorem dX10_value_50 : decode cX10_value 50 = .ok (.ifCond .eq 5, 3) := dk_153 0 5 (dk_at dksX10_value_2 3 rfl rfl)
theorem dX10_value_53 : decode cX10_value 53 = .ok (.iconst 4, 1) := dk_7 (dk_at dksX10_value_2 6 rfl rfl)
theorem dX10_value_54 : decode cX10_value 54 = .ok (.ireturn, 1) := dk_172 (dk_at dksX10_value_2 7 rfl rfl)
theorem dX10_value_55 : decode cX10_value 55 = .ok (.aload_n 0, 1) := dk_42 (dk_at dksX10_value_2 8 rfl rfl)
theorem dX10_value_56 : decode cX10_value 56 = .ok (.ldc 181, 2) := dk_18 181 (dk_at dksX10_value_2 9 rfl rfl)
theorem dX10_value_58 : decode cX10_value 58 = .ok (.invokevirtual 48, 3) := dk_182 0 48 (dk_at dksX10_value_2 11 rfl rfl)
theorem dX10_value_61 : decode cX10_value 61 = .ok (.ifCond .eq 5, 3) := dk_153 0 5 (dk_at dksX10_value_2 14 rfl rfl)
theorem dX10_value_64 : decode cX10_value 64 = .ok (.iconst 5, 1) := dk_8 (dk_at dksX10_value_2 17 rfl rfl)
theorem dX10_value_65 : decode cX10_value 65 = .ok (.ireturn, 1) := dk_172 (dk_at dksX10_value_2 18 rfl rfl)
theorem dX10_value_66 : decode cX10_value 66 = .ok (.aload_n 0, 1) := dk_42 (dk_at dksX10_value_2 19 rfl rfl)
theorem dX10_value_67 : decode cX10_value 67 = .ok (.ldc 183, 2) := dk_18 183 (dk_at dksX10_value_2 20 rfl rfl)
theorem dX10_value_69 : decode cX10_value 69 = .ok (.invokevirtual 48, 3) := dk_182 0 48 (dk_at dksX10_value_3 0 rfl rfl)
theorem dX10_value_72 : decode cX10_value 72 = .ok (.ifCond .eq 6, 3) := dk_153 0 6 (dk_at dksX10_value_3 3 rfl rfl)
theorem dX10_value_75 : decode cX10_value 75 = .ok (.bipush 6, 2) := dk_16 6 (dk_at dksX10_value_3 6 rfl rfl)
theorem dX10_value_77 : decode cX10_value 77 = .ok (.ireturn, 1) := dk_172 (dk_at dksX10_value_3 8 rfl rfl)
theorem dX10_value_78 : decode cX10_value 78 = .ok (.aload_n 0, 1) := dk_42 (dk_at dksX10_value_3 9 rfl rfl)
theorem dX10_value_79 : decode cX10_value 79 = .ok (.ldc 185, 2) := dk_18 185 (dk_at dksX10_value_3 10 rfl rfl)
theorem dX10_value_81 : decode cX10_value 81 = .ok (.invokevirtual 48, 3) := dk_182 0 48 (dk_at dksX10_value_3 12 rfl rfl)
theorem dX10_value_84 : decode cX10_value 84 = .ok (.ifCond .eq 6, 3) := dk_153 0 6 (dk_at dksX10_value_3 15 rfl rfl)
theorem dX10_value_87 : decode cX10_value 87 = .ok (.bipush 7, 2) := dk_16 7 (dk_at dksX10_value_3 18 rfl rfl)
theorem dX10_value_89 : decode cX10_value 89 = .ok (.ireturn, 1) := dk_172 (dk_at dksX10_value_3 20 rfl rfl)
theorem dX10_value_90 : decode cX10_value 90 = .ok (.aload_n 0, 1) := dk_42 (dk_at dksX10_value_3 21 rfl rfl)
theorem dX10_value_91 : decode cX10_value 91 = .ok (.ldc 187, 2) := dk_18 187 (dk_at dksX10_value_3 22 rfl rfl)
theorem dX10_value_93 : decode cX10_value 93 = .ok (.invokevirtual 48, 3) := dk_182 0 48 (dk_at dksX10_value_4 0 rfl rfl)
theorem dX10_value_96 : decode cX10_value 96 = .ok (.ifCond .eq 6, 3) := dk_153 0 6 (dk_at dksX10_value_4 3 rfl rfl)
theorem dX10_value_99 : decode cX10_value 99 = .ok (.bipush 8, 2) := dk_16 8 (dk_at dksX10_value_4 6 rfl rfl)
theorem dX10_value_101 : decode cX10_value 101 = .ok (.ireturn, 1) := dk_172 (dk_at dksX10_value_4 8 rfl rfl)
theorem dX10_value_102 : decode cX10_value 102 = .ok (.aload_n 0, 1) := dk_42 (dk_at dksX10_value_4 9 rfl rfl)
theorem dX10_value_103 : decode cX10_value 103 = .ok (.ldc 189, 2) := dk_18 189 (dk_at dksX10_value_4 10 rfl rfl)
theorem dX10_value_105 : decode cX10_value 105 = .ok (.invokevirtual 48, 3) := dk_182 0 48 (dk_at dksX10_value_4 12 rfl rfl)
theorem dX10_value_108 : decode cX10_value 108 = .ok (.ifCond .eq 8, 3) := dk_153 0 8 (dk_at dksX10_value_4 15 rfl rfl)
theorem dX10_value_111 : decode cX10_value 111 = .ok (.bipush 9, 2) := dk_16 9 (dk_at dksX10_value_4 18 rfl rfl)
theorem dX10_value_113 : decode cX10_value 113 = .ok (.goto 4, 3) := dk_167 0 4 (dk_at dksX10_value_4 20 rfl rfl)
theorem dX10_value_116 : decode cX10_value 116 = .ok (.iconst (-1), 1) := dk_2 (dk_at dksX10_value_4 23 rfl rfl)
theorem dX10_value_117 : decode cX10_value 117 = .ok (.ireturn, 1) := dk_172 (dk_at dksX10_value_5 0 rfl rfl)
abbrev cX10_test : ByteArray := prog_11_method_10_code
def yX10_test : MethodName := ⟨RX10, "test", "()LSnailPost$Test;"⟩
def dkwX10_test_2 : List UInt8 := [182, 0, 98, 182, 0, 94, 87, 167, 255, 235, 44, 176]
abbrev dktX10_test_2 : List UInt8 := dkwX10_test_2 ++ []
def dkwX10_test_1 : List UInt8 := [77, 44, 180, 0, 108, 43, 182, 0, 94, 87, 42, 18, 101, 182, 0, 55, 153, 0, 18, 44, 180, 0, 108, 42]
abbrev dktX10_test_1 : List UInt8 := dkwX10_test_1 ++ dktX10_test_2
def dkwX10_test_0 : List UInt8 := [42, 182, 0, 98, 76, 42, 18, 101, 182, 0, 48, 154, 0, 5, 43, 176, 187, 0, 103, 89, 3, 183, 0, 105]
abbrev dktX10_test_0 : List UInt8 := dkwX10_test_0 ++ dktX10_test_1
theorem dksX10_test_0 : cX10_test.data.toList.drop 0 = dktX10_test_0 := by decide +kernel
theorem dksX10_test_1 : cX10_test.data.toList.drop 24 = dktX10_test_1 := dk_seg dksX10_test_0 24 rfl rfl
theorem dksX10_test_2 : cX10_test.data.toList.drop 48 = dktX10_test_2 := dk_seg dksX10_test_1 24 rfl rfl
theorem dX10_test_0 : decode cX10_test 0 = .ok (.aload_n 0, 1) := dk_42 (dk_at dksX10_test_0 0 rfl rfl)
theorem dX10_test_1 : decode cX10_test 1 = .ok (.invokevirtual 98, 3) := dk_182 0 98 (dk_at dksX10_test_0 1 rfl rfl)
theorem dX10_test_4 : decode cX10_test 4 = .ok (.astore_n 1, 1) := dk_76 (dk_at dksX10_test_0 4 rfl rfl)
theorem dX10_test_5 : decode cX10_test 5 = .ok (.aload_n 0, 1) := dk_42 (dk_at dksX10_test_0 5 rfl rfl)
theorem dX10_test_6 : decode cX10_test 6 = .ok (.ldc 101, 2) := dk_18 101 (dk_at dksX10_test_0 6 rfl rfl)
theorem dX10_test_8 : decode cX10_test 8 = .ok (.invokevirtual 48, 3) := dk_182 0 48 (dk_at dksX10_test_0 8 rfl rfl)
theorem dX10_test_11 : decode cX10_test 11 = .ok (.ifCond .ne 5, 3) := dk_154 0 5 (dk_at dksX10_test_0 11 rfl rfl)
theorem dX10_test_14 : decode cX10_test 14 = .ok (.aload_n 1, 1) := dk_43 (dk_at dksX10_test_0 14 rfl rfl)
theorem dX10_test_15 : decode cX10_test 15 = .ok (.areturn, 1) := dk_176 (dk_at dksX10_test_0 15 rfl rfl)
theorem dX10_test_16 : decode cX10_test 16 = .ok (.new 103, 3) := dk_187 0 103 (dk_at dksX10_test_0 16 rfl rfl)
theorem dX10_test_19 : decode cX10_test 19 = .ok (.dup, 1) := dk_89 (dk_at dksX10_test_0 19 rfl rfl)
theorem dX10_test_20 : decode cX10_test 20 = .ok (.iconst 0, 1) := dk_3 (dk_at dksX10_test_0 20 rfl rfl)
theorem dX10_test_21 : decode cX10_test 21 = .ok (.invokespecial 105, 3) := dk_183 0 105 (dk_at dksX10_test_0 21 rfl rfl)
theorem dX10_test_24 : decode cX10_test 24 = .ok (.astore_n 2, 1) := dk_77 (dk_at dksX10_test_1 0 rfl rfl)
theorem dX10_test_25 : decode cX10_test 25 = .ok (.aload_n 2, 1) := dk_44 (dk_at dksX10_test_1 1 rfl rfl)
theorem dX10_test_26 : decode cX10_test 26 = .ok (.getfield 108, 3) := dk_180 0 108 (dk_at dksX10_test_1 2 rfl rfl)
theorem dX10_test_29 : decode cX10_test 29 = .ok (.aload_n 1, 1) := dk_43 (dk_at dksX10_test_1 5 rfl rfl)
theorem dX10_test_30 : decode cX10_test 30 = .ok (.invokevirtual 94, 3) := dk_182 0 94 (dk_at dksX10_test_1 6 rfl rfl)
theorem dX10_test_33 : decode cX10_test 33 = .ok (.pop, 1) := dk_87 (dk_at dksX10_test_1 9 rfl rfl)
theorem dX10_test_34 : decode cX10_test 34 = .ok (.aload_n 0, 1) := dk_42 (dk_at dksX10_test_1 10 rfl rfl)
theorem dX10_test_35 : decode cX10_test 35 = .ok (.ldc 101, 2) := dk_18 101 (dk_at dksX10_test_1 11 rfl rfl)
theorem dX10_test_37 : decode cX10_test 37 = .ok (.invokevirtual 55, 3) := dk_182 0 55 (dk_at dksX10_test_1 13 rfl rfl)
theorem dX10_test_40 : decode cX10_test 40 = .ok (.ifCond .eq 18, 3) := dk_153 0 18 (dk_at dksX10_test_1 16 rfl rfl)
theorem dX10_test_43 : decode cX10_test 43 = .ok (.aload_n 2, 1) := dk_44 (dk_at dksX10_test_1 19 rfl rfl)
theorem dX10_test_44 : decode cX10_test 44 = .ok (.getfield 108, 3) := dk_180 0 108 (dk_at dksX10_test_1 20 rfl rfl)
theorem dX10_test_47 : decode cX10_test 47 = .ok (.aload_n 0, 1) := dk_42 (dk_at dksX10_test_1 23 rfl rfl)
theorem dX10_test_48 : decode cX10_test 48 = .ok (.invokevirtual 98, 3) := dk_182 0 98 (dk_at dksX10_test_2 0 rfl rfl)
theorem dX10_test_51 : decode cX10_test 51 = .ok (.invokevirtual 94, 3) := dk_182 0 94 (dk_at dksX10_test_2 3 rfl rfl)
theorem dX10_test_54 : decode cX10_test 54 = .ok (.pop, 1) := dk_87 (dk_at dksX10_test_2 6 rfl rfl)
theorem dX10_test_55 : decode cX10_test 55 = .ok (.goto (-21), 3) := dk_167 255 235 (dk_at dksX10_test_2 7 rfl rfl)
theorem dX10_test_58 : decode cX10_test 58 = .ok (.aload_n 2, 1) := dk_44 (dk_at dksX10_test_2 10 rfl rfl)
theorem dX10_test_59 : decode cX10_test 59 = .ok (.areturn, 1) := dk_176 (dk_at dksX10_test_2 11 rfl rfl)
abbrev cX10_both : ByteArray := prog_11_method_11_code
def yX10_both : MethodName := ⟨RX10, "both", "()LSnailPost$Test;"⟩
def dkwX10_both_2 : List UInt8 := [182, 0, 111, 182, 0, 94, 87, 167, 255, 235, 44, 176]
abbrev dktX10_both_2 : List UInt8 := dkwX10_both_2 ++ []
def dkwX10_both_1 : List UInt8 := [77, 44, 180, 0, 108, 43, 182, 0, 94, 87, 42, 18, 114, 182, 0, 55, 153, 0, 18, 44, 180, 0, 108, 42]
abbrev dktX10_both_1 : List UInt8 := dkwX10_both_1 ++ dktX10_both_2
def dkwX10_both_0 : List UInt8 := [42, 182, 0, 111, 76, 42, 18, 114, 182, 0, 48, 154, 0, 5, 43, 176, 187, 0, 103, 89, 4, 183, 0, 105]
abbrev dktX10_both_0 : List UInt8 := dkwX10_both_0 ++ dktX10_both_1
theorem dksX10_both_0 : cX10_both.data.toList.drop 0 = dktX10_both_0 := by decide +kernel
theorem dksX10_both_1 : cX10_both.data.toList.drop 24 = dktX10_both_1 := dk_seg dksX10_both_0 24 rfl rfl
theorem dksX10_both_2 : cX10_both.data.toList.drop 48 = dktX10_both_2 := dk_seg dksX10_both_1 24 rfl rfl
theorem dX10_both_0 : decode cX10_both 0 = .ok (.aload_n 0, 1) := dk_42 (dk_at dksX10_both_0 0 rfl rfl)
theorem dX10_both_1 : decode cX10_both 1 = .ok (.invokevirtual 111, 3) := dk_182 0 111 (dk_at dksX10_both_0 1 rfl rfl)
theorem dX10_both_4 : decode cX10_both 4 = .ok (.astore_n 1, 1) := dk_76 (dk_at dksX10_both_0 4 rfl rfl)
theorem dX10_both_5 : decode cX10_both 5 = .ok (.aload_n 0, 1) := dk_42 (dk_at dksX10_both_0 5 rfl rfl)
theorem dX10_both_6 : decode cX10_both 6 = .ok (.ldc 114, 2) := dk_18 114 (dk_at dksX10_both_0 6 rfl rfl)
theorem dX10_both_8 : decode cX10_both 8 = .ok (.invokevirtual 48, 3) := dk_182 0 48 (dk_at dksX10_both_0 8 rfl rfl)
theorem dX10_both_11 : decode cX10_both 11 = .ok (.ifCond .ne 5, 3) := dk_154 0 5 (dk_at dksX10_both_0 11 rfl rfl)
theorem dX10_both_14 : decode cX10_both 14 = .ok (.aload_n 1, 1) := dk_43 (dk_at dksX10_both_0 14 rfl rfl)
theorem dX10_both_15 : decode cX10_both 15 = .ok (.areturn, 1) := dk_176 (dk_at dksX10_both_0 15 rfl rfl)
theorem dX10_both_16 : decode cX10_both 16 = .ok (.new 103, 3) := dk_187 0 103 (dk_at dksX10_both_0 16 rfl rfl)
theorem dX10_both_19 : decode cX10_both 19 = .ok (.dup, 1) := dk_89 (dk_at dksX10_both_0 19 rfl rfl)
theorem dX10_both_20 : decode cX10_both 20 = .ok (.iconst 1, 1) := dk_4 (dk_at dksX10_both_0 20 rfl rfl)
theorem dX10_both_21 : decode cX10_both 21 = .ok (.invokespecial 105, 3) := dk_183 0 105 (dk_at dksX10_both_0 21 rfl rfl)
theorem dX10_both_24 : decode cX10_both 24 = .ok (.astore_n 2, 1) := dk_77 (dk_at dksX10_both_1 0 rfl rfl)
theorem dX10_both_25 : decode cX10_both 25 = .ok (.aload_n 2, 1) := dk_44 (dk_at dksX10_both_1 1 rfl rfl)
theorem dX10_both_26 : decode cX10_both 26 = .ok (.getfield 108, 3) := dk_180 0 108 (dk_at dksX10_both_1 2 rfl rfl)
theorem dX10_both_29 : decode cX10_both 29 = .ok (.aload_n 1, 1) := dk_43 (dk_at dksX10_both_1 5 rfl rfl)
theorem dX10_both_30 : decode cX10_both 30 = .ok (.invokevirtual 94, 3) := dk_182 0 94 (dk_at dksX10_both_1 6 rfl rfl)
theorem dX10_both_33 : decode cX10_both 33 = .ok (.pop, 1) := dk_87 (dk_at dksX10_both_1 9 rfl rfl)
theorem dX10_both_34 : decode cX10_both 34 = .ok (.aload_n 0, 1) := dk_42 (dk_at dksX10_both_1 10 rfl rfl)
theorem dX10_both_35 : decode cX10_both 35 = .ok (.ldc 114, 2) := dk_18 114 (dk_at dksX10_both_1 11 rfl rfl)
theorem dX10_both_37 : decode cX10_both 37 = .ok (.invokevirtual 55, 3) := dk_182 0 55 (dk_at dksX10_both_1 13 rfl rfl)
theorem dX10_both_40 : decode cX10_both 40 = .ok (.ifCond .eq 18, 3) := dk_153 0 18 (dk_at dksX10_both_1 16 rfl rfl)
theorem dX10_both_43 : decode cX10_both 43 = .ok (.aload_n 2, 1) := dk_44 (dk_at dksX10_both_1 19 rfl rfl)
theorem dX10_both_44 : decode cX10_both 44 = .ok (.getfield 108, 3) := dk_180 0 108 (dk_at dksX10_both_1 20 rfl rfl)
theorem dX10_both_47 : decode cX10_both 47 = .ok (.aload_n 0, 1) := dk_42 (dk_at dksX10_both_1 23 rfl rfl)
theorem dX10_both_48 : decode cX10_both 48 = .ok (.invokevirtual 111, 3) := dk_182 0 111 (dk_at dksX10_both_2 0 rfl rfl)
theorem dX10_both_51 : decode cX10_both 51 = .ok (.invokevirtual 94, 3) := dk_182 0 94 (dk_at dksX10_both_2 3 rfl rfl)
theorem dX10_both_54 : decode cX10_both 54 = .ok (.pop, 1) := dk_87 (dk_at dksX10_both_2 6 rfl rfl)
theorem dX10_both_55 : decode cX10_both 55 = .ok (.goto (-21), 3) := dk_167 255 235 (dk_at dksX10_both_2 7 rfl rfl)
theorem dX10_both_58 : decode cX10_both 58 = .ok (.aload_n 2, 1) := dk_44 (dk_at dksX10_both_2 10 rfl rfl)
theorem dX10_both_59 : decode cX10_both 59 = .ok (.areturn, 1) := dk_176 (dk_at dksX10_both_2 11 rfl rfl)
abbrev cX10_plain : ByteArray := prog_11_method_13_code
def yX10_plain : MethodName := ⟨RX10, "plain", "()LSnailPost$Test;"⟩
def dkwX10_plain_1 : List UInt8 := [42, 182, 0, 121, 77, 27, 153, 0, 14, 187, 0, 124, 89, 44, 183, 0, 126, 167, 0, 4, 44, 176]
abbrev dktX10_plain_1 : List UInt8 := dkwX10_plain_1 ++ []
def dkwX10_plain_0 : List UInt8 := [3, 60, 42, 18, 119, 182, 0, 55, 153, 0, 16, 27, 154, 0, 7, 4, 167, 0, 4, 3, 60, 167, 255, 237]
abbrev dktX10_plain_0 : List UInt8 := dkwX10_plain_0 ++ dktX10_plain_1
theorem dksX10_plain_0 : cX10_plain.data.toList.drop 0 = dktX10_plain_0 := by decide +kernel
theorem dksX10_plain_1 : cX10_plain.data.toList.drop 24 = dktX10_plain_1 := dk_seg dksX10_plain_0 24 rfl rfl
theorem dX10_plain_0 : decode cX10_plain 0 = .ok (.iconst 0, 1) := dk_3 (dk_at dksX10_plain_0 0 rfl rfl)
theorem dX10_plain_1 : decode cX10_plain 1 = .ok (.istore_n 1, 1) := dk_60 (dk_at dksX10_plain_0 1 rfl rfl)
theorem dX10_plain_2 : decode cX10_plain 2 = .ok (.aload_n 0, 1) := dk_42 (dk_at dksX10_plain_0 2 rfl rfl)
theorem dX10_plain_3 : decode cX10_plain 3 = .ok (.ldc 119, 2) := dk_18 119 (dk_at dksX10_plain_0 3 rfl rfl)
theorem dX10_plain_5 : decode cX10_plain 5 = .ok (.invokevirtual 55, 3) := dk_182 0 55 (dk_at dksX10_plain_0 5 rfl rfl)
theorem dX10_plain_8 : decode cX10_plain 8 = .ok (.ifCond .eq 16, 3) := dk_153 0 16 (dk_at dksX10_plain_0 8 rfl rfl)
theorem dX10_plain_11 : decode cX10_plain 11 = .ok (.iload_n 1, 1) := dk_27 (dk_at dksX10_plain_0 11 rfl rfl)
theorem dX10_plain_12 : decode cX10_plain 12 = .ok (.ifCond .ne 7, 3) := dk_154 0 7 (dk_at dksX10_plain_0 12 rfl rfl)
theorem dX10_plain_15 : decode cX10_plain 15 = .ok (.iconst 1, 1) := dk_4 (dk_at dksX10_plain_0 15 rfl rfl)
theorem dX10_plain_16 : decode cX10_plain 16 = .ok (.goto 4, 3) := dk_167 0 4 (dk_at dksX10_plain_0 16 rfl rfl)
theorem dX10_plain_19 : decode cX10_plain 19 = .ok (.iconst 0, 1) := dk_3 (dk_at dksX10_plain_0 19 rfl rfl)
theorem dX10_plain_20 : decode cX10_plain 20 = .ok (.istore_n 1, 1) := dk_60 (dk_at dksX10_plain_0 20 rfl rfl)
theorem dX10_plain_21 : decode cX10_plain 21 = .ok (.goto (-19), 3) := dk_167 255 237 (dk_at dksX10_plain_0 21 rfl rfl)
theorem dX10_plain_24 : decode cX10_plain 24 = .ok (.aload_n 0, 1) := dk_42 (dk_at dksX10_plain_1 0 rfl rfl)
theorem dX10_plain_25 : decode cX10_plain 25 = .ok (.invokevirtual 121, 3) := dk_182 0 121 (dk_at dksX10_plain_1 1 rfl rfl)
theorem dX10_plain_28 : decode cX10_plain 28 = .ok (.astore_n 2, 1) := dk_77 (dk_at dksX10_plain_1 4 rfl rfl)
theorem dX10_plain_29 : decode cX10_plain 29 = .ok (.iload_n 1, 1) := dk_27 (dk_at dksX10_plain_1 5 rfl rfl)
theorem dX10_plain_30 : decode cX10_plain 30 = .ok (.ifCond .eq 14, 3) := dk_153 0 14 (dk_at dksX10_plain_1 6 rfl rfl)
theorem dX10_plain_33 : decode cX10_plain 33 = .ok (.new 124, 3) := dk_187 0 124 (dk_at dksX10_plain_1 9 rfl rfl)
theorem dX10_plain_36 : decode cX10_plain 36 = .ok (.dup, 1) := dk_89 (dk_at dksX10_plain_1 12 rfl rfl)
theorem dX10_plain_37 : decode cX10_plain 37 = .ok (.aload_n 2, 1) := dk_44 (dk_at dksX10_plain_1 13 rfl rfl)
theorem dX10_plain_38 : decode cX10_plain 38 = .ok (.invokespecial 126, 3) := dk_183 0 126 (dk_at dksX10_plain_1 14 rfl rfl)
theorem dX10_plain_41 : decode cX10_plain 41 = .ok (.goto 4, 3) := dk_167 0 4 (dk_at dksX10_plain_1 17 rfl rfl)
theorem dX10_plain_44 : decode cX10_plain 44 = .ok (.aload_n 2, 1) := dk_44 (dk_at dksX10_plain_1 20 rfl rfl)
theorem dX10_plain_45 : decode cX10_plain 45 = .ok (.areturn, 1) := dk_176 (dk_at dksX10_plain_1 21 rfl rfl)
abbrev cX10_positive : ByteArray := prog_11_method_14_code
def yX10_positive : MethodName := ⟨RX10, "positive", "()LSnailPost$Test;"⟩
def dkwX10_positive_4 : List UInt8 := [187, 0, 146, 89, 28, 43, 42, 182, 0, 77, 183, 0, 148, 176]
abbrev dktX10_positive_4 : List UInt8 := dkwX10_positive_4 ++ []
def dkwX10_positive_3 : List UInt8 := [89, 42, 180, 0, 31, 183, 0, 60, 191, 42, 180, 0, 20, 42, 180, 0, 31, 51, 146, 61, 42, 182, 0, 52]
abbrev dktX10_positive_3 : List UInt8 := dkwX10_positive_3 ++ dktX10_positive_4
def dkwX10_positive_2 : List UInt8 := [154, 0, 33, 42, 18, 142, 182, 0, 48, 154, 0, 24, 42, 18, 144, 182, 0, 48, 154, 0, 15, 187, 0, 58]
abbrev dktX10_positive_2 : List UInt8 := dkwX10_positive_2 ++ dktX10_positive_3
def dkwX10_positive_1 : List UInt8 := [42, 89, 180, 0, 116, 4, 100, 181, 0, 116, 43, 176, 42, 182, 0, 77, 76, 42, 18, 140, 182, 0, 48]
abbrev dktX10_positive_1 : List UInt8 := dkwX10_positive_1 ++ dktX10_positive_2
def dkwX10_positive_0 : List UInt8 := [42, 18, 129, 182, 0, 48, 153, 0, 30, 42, 182, 0, 131, 42, 182, 0, 86, 76, 42, 18, 134, 182, 0, 136]
abbrev dktX10_positive_0 : List UInt8 := dkwX10_positive_0 ++ dktX10_positive_1
theorem dksX10_positive_0 : cX10_positive.data.toList.drop 0 = dktX10_positive_0 := by decide +kernel
theorem dksX10_positive_1 : cX10_positive.data.toList.drop 24 = dktX10_positive_1 := dk_seg dksX10_positive_0 24 rfl rfl
theorem dksX10_positive_2 : cX10_positive.data.toList.drop 47 = dktX10_positive_2 := dk_seg dksX10_positive_1 23 rfl rfl
theorem dksX10_positive_3 : cX10_positive.data.toList.drop 71 = dktX10_positive_3 := dk_seg dksX10_positive_2 24 rfl rfl
theorem dksX10_positive_4 : cX10_positive.data.toList.drop 95 = dktX10_positive_4 := dk_seg dksX10_positive_3 24 rfl rfl
theorem dX10_positive_0 : decode cX10_positive 0 = .ok (.aload_n 0, 1) := dk_42 (dk_at dksX10_positive_0 0 rfl rfl)
theorem dX10_positive_1 : decode cX10_positive 1 = .ok (.ldc 129, 2) := dk_18 129 (dk_at dksX10_positive_0 1 rfl rfl)
theorem dX10_positive_3 : decode cX10_positive 3 = .ok (.invokevirtual 48, 3) := dk_182 0 48 (dk_at dksX10_positive_0 3 rfl rfl)
theorem dX10_positive_6 : decode cX10_positive 6 = .ok (.ifCond .eq 30, 3) := dk_153 0 30 (dk_at dksX10_positive_0 6 rfl rfl)
theorem dX10_positive_9 : decode cX10_positive 9 = .ok (.aload_n 0, 1) := dk_42 (dk_at dksX10_positive_0 9 rfl rfl)
theorem dX10_positive_10 : decode cX10_positive 10 = .ok (.invokevirtual 131, 3) := dk_182 0 131 (dk_at dksX10_positive_0 10 rfl rfl)
theorem dX10_positive_13 : decode cX10_positive 13 = .ok (.aload_n 0, 1) := dk_42 (dk_at dksX10_positive_0 13 rfl rfl)
theorem dX10_positive_14 : decode cX10_positive 14 = .ok (.invokevirtual 86, 3) := dk_182 0 86 (dk_at dksX10_positive_0 14 rfl rfl)
theorem dX10_positive_17 : decode cX10_positive 17 = .ok (.astore_n 1, 1) := dk_76 (dk_at dksX10_positive_0 17 rfl rfl)
theorem dX10_positive_18 : decode cX10_positive 18 = .ok (.aload_n 0, 1) := dk_42 (dk_at dksX10_positive_0 18 rfl rfl)
theorem dX10_positive_19 : decode cX10_positive 19 = .ok (.ldc 134, 2) := dk_18 134 (dk_at dksX10_positive_0 19 rfl rfl)
theorem dX10_positive_21 : decode cX10_positive 21 = .ok (.invokevirtual 136, 3) := dk_182 0 136 (dk_at dksX10_positive_0 21 rfl rfl)
theorem dX10_positive_24 : decode cX10_positive 24 = .ok (.aload_n 0, 1) := dk_42 (dk_at dksX10_positive_1 0 rfl rfl)
theorem dX10_positive_25 : decode cX10_positive 25 = .ok (.dup, 1) := dk_89 (dk_at dksX10_positive_1 1 rfl rfl)
theorem dX10_positive_26 : decode cX10_positive 26 = .ok (.getfield 116, 3) := dk_180 0 116 (dk_at dksX10_positive_1 2 rfl rfl)
theorem dX10_positive_29 : decode cX10_positive 29 = .ok (.iconst 1, 1) := dk_4 (dk_at dksX10_positive_1 5 rfl rfl)
theorem dX10_positive_30 : decode cX10_positive 30 = .ok (.isub, 1) := dk_100 (dk_at dksX10_positive_1 6 rfl rfl)
theorem dX10_positive_31 : decode cX10_positive 31 = .ok (.putfield 116, 3) := dk_181 0 116 (dk_at dksX10_positive_1 7 rfl rfl)
theorem dX10_positive_34 : decode cX10_positive 34 = .ok (.aload_n 1, 1) := dk_43 (dk_at dksX10_positive_1 10 rfl rfl)
theorem dX10_positive_35 : decode cX10_positive 35 = .ok (.areturn, 1) := dk_176 (dk_at dksX10_positive_1 11 rfl rfl)
theorem dX10_positive_36 : decode cX10_positive 36 = .ok (.aload_n 0, 1) := dk_42 (dk_at dksX10_positive_1 12 rfl rfl)
theorem dX10_positive_37 : decode cX10_positive 37 = .ok (.invokevirtual 77, 3) := dk_182 0 77 (dk_at dksX10_positive_1 13 rfl rfl)
theorem dX10_positive_40 : decode cX10_positive 40 = .ok (.astore_n 1, 1) := dk_76 (dk_at dksX10_positive_1 16 rfl rfl)
theorem dX10_positive_41 : decode cX10_positive 41 = .ok (.aload_n 0, 1) := dk_42 (dk_at dksX10_positive_1 17 rfl rfl)
theorem dX10_positive_42 : decode cX10_positive 42 = .ok (.ldc 140, 2) := dk_18 140 (dk_at dksX10_positive_1 18 rfl rfl)
theorem dX10_positive_44 : decode cX10_positive 44 = .ok (.invokevirtual 48, 3) := dk_182 0 48 (dk_at dksX10_positive_1 20 rfl rfl)
theorem dX10_positive_47 : decode cX10_positive 47 = .ok (.ifCond .ne 33, 3) := dk_154 0 33 (dk_at dksX10_positive_2 0 rfl rfl)
theorem dX10_positive_50 : decode cX10_positive 50 = .ok (.aload_n 0, 1) := dk_42 (dk_at dksX10_positive_2 3 rfl rfl)
theorem dX10_positive_51 : decode cX10_positive 51 = .ok (.ldc 142, 2) := dk_18 142 (dk_at dksX10_positive_2 4 rfl rfl)
theorem dX10_positive_53 : decode cX10_positive 53 = .ok (.invokevirtual 48, 3) := dk_182 0 48 (dk_at dksX10_positive_2 6 rfl rfl)
theorem dX10_positive_56 : decode cX10_positive 56 = .ok (.ifCond .ne 24, 3) := dk_154 0 24 (dk_at dksX10_positive_2 9 rfl rfl)
theorem dX10_positive_59 : decode cX10_positive 59 = .ok (.aload_n 0, 1) := dk_42 (dk_at dksX10_positive_2 12 rfl rfl)
theorem dX10_positive_60 : decode cX10_positive 60 = .ok (.ldc 144, 2) := dk_18 144 (dk_at dksX10_positive_2 13 rfl rfl)
theorem dX10_positive_62 : decode cX10_positive 62 = .ok (.invokevirtual 48, 3) := dk_182 0 48 (dk_at dksX10_positive_2 15 rfl rfl)
theorem dX10_positive_65 : decode cX10_positive 65 = .ok (.ifCond .ne 15, 3) := dk_154 0 15 (dk_at dksX10_positive_2 18 rfl rfl)
theorem dX10_positive_68 : decode cX10_positive 68 = .ok (.new 58, 3) := dk_187 0 58 (dk_at dksX10_positive_2 21 rfl rfl)
theorem dX10_positive_71 : decode cX10_positive 71 = .ok (.dup, 1) := dk_89 (dk_at dksX10_positive_3 0 rfl rfl)
theorem dX10_positive_72 : decode cX10_positive 72 = .ok (.aload_n 0, 1) := dk_42 (dk_at dksX10_positive_3 1 rfl rfl)
theorem dX10_positive_73 : decode cX10_positive 73 = .ok (.getfield 31, 3) := dk_180 0 31 (dk_at dksX10_positive_3 2 rfl rfl)
theorem dX10_positive_76 : decode cX10_positive 76 = .ok (.invokespecial 60, 3) := dk_183 0 60 (dk_at dksX10_positive_3 5 rfl rfl)
theorem dX10_positive_79 : decode cX10_positive 79 = .ok (.athrow, 1) := dk_191 (dk_at dksX10_positive_3 8 rfl rfl)
theorem dX10_positive_80 : decode cX10_positive 80 = .ok (.aload_n 0, 1) := dk_42 (dk_at dksX10_positive_3 9 rfl rfl)
theorem dX10_positive_81 : decode cX10_positive 81 = .ok (.getfield 20, 3) := dk_180 0 20 (dk_at dksX10_positive_3 10 rfl rfl)
theorem dX10_positive_84 : decode cX10_positive 84 = .ok (.aload_n 0, 1) := dk_42 (dk_at dksX10_positive_3 13 rfl rfl)
theorem dX10_positive_85 : decode cX10_positive 85 = .ok (.getfield 31, 3) := dk_180 0 31 (dk_at dksX10_positive_3 14 rfl rfl)
theorem dX10_positive_88 : decode cX10_positive 88 = .ok (.baload, 1) := dk_51 (dk_at dksX10_positive_3 17 rfl rfl)
theorem dX10_positive_89 : decode cX10_positive 89 = .ok (.i2c, 1) := dk_146 (dk_at dksX10_positive_3 18 rfl rfl)
theorem dX10_positive_90 : decode cX10_positive 90 = .ok (.istore_n 2, 1) := dk_61 (dk_at dksX10_positive_3 19 rfl rfl)
theorem dX10_positive_91 : decode cX10_positive 91 = .ok (.aload_n 0, 1) := dk_42 (dk_at dksX10_positive_3 20 rfl rfl)
theorem dX10_positive_92 : decode cX10_positive 92 = .ok (.invokevirtual 52, 3) := dk_182 0 52 (dk_at dksX10_positive_3 21 rfl rfl)
theorem dX10_positive_95 : decode cX10_positive 95 = .ok (.new 146, 3) := dk_187 0 146 (dk_at dksX10_positive_4 0 rfl rfl)
theorem dX10_positive_98 : decode cX10_positive 98 = .ok (.dup, 1) := dk_89 (dk_at dksX10_positive_4 3 rfl rfl)
theorem dX10_positive_99 : decode cX10_positive 99 = .ok (.iload_n 2, 1) := dk_28 (dk_at dksX10_positive_4 4 rfl rfl)
theorem dX10_positive_100 : decode cX10_positive 100 = .ok (.aload_n 1, 1) := dk_43 (dk_at dksX10_positive_4 5 rfl rfl)
theorem dX10_positive_101 : decode cX10_positive 101 = .ok (.aload_n 0, 1) := dk_42 (dk_at dksX10_positive_4 6 rfl rfl)
theorem dX10_positive_102 : decode cX10_positive 102 = .ok (.invokevirtual 77, 3) := dk_182 0 77 (dk_at dksX10_positive_4 7 rfl rfl)
theorem dX10_positive_105 : decode cX10_positive 105 = .ok (.invokespecial 148, 3) := dk_183 0 148 (dk_at dksX10_positive_4 10 rfl rfl)
theorem dX10_positive_108 : decode cX10_positive 108 = .ok (.areturn, 1) := dk_176 (dk_at dksX10_positive_4 13 rfl rfl)
theorem q118 : (Jvm.Cond.initialized "SnailPost$Reader") ∈ lw_all := lw_g (lw_at lw_m1 16 rfl) rfl
theorem q629 : (Jvm.Cond.selects "SnailPost$Reader" ({ cls := "java/lang/Object", name := "getClass", desc := "()Ljava/lang/Class;" } : Jvm.MethodName) ({ cls := "java/lang/Object", name := "getClass", desc := "()Ljava/lang/Class;" } : Jvm.MethodName)) ∈ lw_all := lw_g (lw_at lw_m3 47 rfl) rfl
theorem q771 : (Jvm.Cond.instantiable "SnailPost$Reader" (7 : Nat)) ∈ lw_all := lw_g (lw_at lw_m3 189 rfl) rfl
theorem q773 : (Jvm.Cond.instanceMethod ({ cls := "SnailPost$Reader", name := "<init>", desc := "([BI)V" } : Jvm.MethodName)) ∈ lw_all := lw_g (lw_at lw_m3 191 rfl) rfl
theorem q774 : (Jvm.Cond.code ({ cls := "SnailPost$Reader", name := "<init>", desc := "([BI)V" } : Jvm.MethodName) prog_11_method_1_code (3 : Nat) (Option.none : Option Jvm.ClassFile.FieldType)) ∈ lw_all := lw_g (lw_at lw_m3 192 rfl) rfl
theorem q775 : (Jvm.Cond.methodLink "SnailPost$Reader" (3 : Nat) ({ cls := "java/lang/Object", name := "<init>", desc := "()V" } : Jvm.MethodName)) ∈ lw_all := lw_g (lw_at lw_m3 193 rfl) rfl
theorem q776 : (Jvm.Cond.classLink "SnailPost$Reader" (9 : Nat) "java/util/ArrayList") ∈ lw_all := lw_g (lw_at lw_m3 194 rfl) rfl
theorem q777 : (Jvm.Cond.methodLink "SnailPost$Reader" (11 : Nat) ({ cls := "java/util/ArrayList", name := "<init>", desc := "(I)V" } : Jvm.MethodName)) ∈ lw_all := lw_g (lw_at lw_m3 195 rfl) rfl
theorem q778 : (Jvm.Cond.fieldLink "SnailPost$Reader" (20 : Nat) "SnailPost$Reader" "tape" "[B") ∈ lw_all := lw_g (lw_at lw_m3 196 rfl) rfl
theorem q779 : (Jvm.Cond.fieldLink "SnailPost$Reader" (24 : Nat) "SnailPost$Reader" "size" "I") ∈ lw_all := lw_g (lw_at lw_m3 197 rfl) rfl
theorem q780 : (Jvm.Cond.fieldLink "SnailPost$Reader" (14 : Nat) "SnailPost$Reader" "made" "Ljava/util/ArrayList;") ∈ lw_all := lw_g (lw_at lw_m3 198 rfl) rfl
theorem q782 : (Jvm.Cond.fieldLink "SnailPost$Reader" (31 : Nat) "SnailPost$Reader" "from" "I") ∈ lw_all := lw_g (lw_at lw_m3 200 rfl) rfl
theorem q783 : (Jvm.Cond.fieldLink "SnailPost$Reader" (28 : Nat) "SnailPost$Reader" "to" "I") ∈ lw_all := lw_g (lw_at lw_m3 201 rfl) rfl
theorem q784 : (Jvm.Cond.fieldLink "SnailPost$Reader" (168 : Nat) "SnailPost$Reader" "leaves" "I") ∈ lw_all := lw_g (lw_at lw_m3 202 rfl) rfl
theorem q785 : (Jvm.Cond.fieldLink "SnailPost$Reader" (116 : Nat) "SnailPost$Reader" "deep" "I") ∈ lw_all := lw_g (lw_at lw_m3 203 rfl) rfl
theorem q786 : (Jvm.Cond.laysFinal "SnailPost$Reader" "SnailPost$Reader" "tape" "[B") ∈ lw_all := lw_g (lw_at lw_m3 204 rfl) rfl
theorem q787 : (Jvm.Cond.soleField "SnailPost$Reader" "tape") ∈ lw_all := lw_g (lw_at lw_m3 205 rfl) rfl
theorem q788 : (Jvm.Cond.laysFinal "SnailPost$Reader" "SnailPost$Reader" "size" "I") ∈ lw_all := lw_g (lw_at lw_m3 206 rfl) rfl
theorem q789 : (Jvm.Cond.soleField "SnailPost$Reader" "size") ∈ lw_all := lw_g (lw_at lw_m3 207 rfl) rfl
theorem q790 : (Jvm.Cond.laysFinal "SnailPost$Reader" "SnailPost$Reader" "made" "Ljava/util/ArrayList;") ∈ lw_all := lw_g (lw_at lw_m3 208 rfl) rfl
theorem q791 : (Jvm.Cond.soleField "SnailPost$Reader" "made") ∈ lw_all := lw_g (lw_at lw_m3 209 rfl) rfl
theorem q792 : (Jvm.Cond.lays "SnailPost$Reader" "SnailPost$Reader" "from" "I") ∈ lw_all := lw_g (lw_at lw_m3 210 rfl) rfl
theorem q793 : (Jvm.Cond.soleField "SnailPost$Reader" "from") ∈ lw_all := lw_g (lw_at lw_m3 211 rfl) rfl
theorem q794 : (Jvm.Cond.lays "SnailPost$Reader" "SnailPost$Reader" "to" "I") ∈ lw_all := lw_g (lw_at lw_m3 212 rfl) rfl
theorem q795 : (Jvm.Cond.soleField "SnailPost$Reader" "to") ∈ lw_all := lw_g (lw_at lw_m3 213 rfl) rfl
theorem q796 : (Jvm.Cond.lays "SnailPost$Reader" "SnailPost$Reader" "leaves" "I") ∈ lw_all := lw_g (lw_at lw_m3 214 rfl) rfl
theorem q797 : (Jvm.Cond.soleField "SnailPost$Reader" "leaves") ∈ lw_all := lw_g (lw_at lw_m3 215 rfl) rfl
theorem q798 : (Jvm.Cond.lays "SnailPost$Reader" "SnailPost$Reader" "deep" "I") ∈ lw_all := lw_g (lw_at lw_m3 216 rfl) rfl
theorem q799 : (Jvm.Cond.soleField "SnailPost$Reader" "deep") ∈ lw_all := lw_g (lw_at lw_m3 217 rfl) rfl
theorem q800 : (Jvm.Cond.superclass "SnailPost$Reader" "java/lang/Object") ∈ lw_all := lw_g (lw_at lw_m3 218 rfl) rfl
theorem q802 : (Jvm.Cond.instanceMethod ({ cls := "SnailPost$Reader", name := "read", desc := "()V" } : Jvm.MethodName)) ∈ lw_all := lw_g (lw_at lw_m3 220 rfl) rfl
theorem q803 : (Jvm.Cond.selects "SnailPost$Reader" ({ cls := "SnailPost$Reader", name := "read", desc := "()V" } : Jvm.MethodName) ({ cls := "SnailPost$Reader", name := "read", desc := "()V" } : Jvm.MethodName)) ∈ lw_all := lw_g (lw_at lw_m3 221 rfl) rfl
theorem q804 : (Jvm.Cond.code ({ cls := "SnailPost$Reader", name := "read", desc := "()V" } : Jvm.MethodName) prog_11_method_8_code (1 : Nat) (Option.none : Option Jvm.ClassFile.FieldType)) ∈ lw_all := lw_g (lw_at lw_m3 222 rfl) rfl
theorem q805 : (Jvm.Cond.methodLink "SnailPost$Reader" (52 : Nat) ({ cls := "SnailPost$Reader", name := "next", desc := "()V" } : Jvm.MethodName)) ∈ lw_all := lw_g (lw_at lw_m3 223 rfl) rfl
theorem q806 : (Jvm.Cond.privateMethod ({ cls := "SnailPost$Reader", name := "next", desc := "()V" } : Jvm.MethodName)) ∈ lw_tbl := lw_at lw_m3 224 rfl
theorem q807 : (Jvm.Cond.instanceMethod ({ cls := "SnailPost$Reader", name := "next", desc := "()V" } : Jvm.MethodName)) ∈ lw_all := lw_g (lw_at lw_m3 225 rfl) rfl
theorem q808 : (Jvm.Cond.code ({ cls := "SnailPost$Reader", name := "next", desc := "()V" } : Jvm.MethodName) prog_11_method_3_code (1 : Nat) (Option.none : Option Jvm.ClassFile.FieldType)) ∈ lw_all := lw_g (lw_at lw_m3 226 rfl) rfl
theorem q809 : (Jvm.Cond.methodLink "SnailPost$Reader" (34 : Nat) ({ cls := "SnailPost$Reader", name := "isIn", desc := "(III)Z" } : Jvm.MethodName)) ∈ lw_all := lw_g (lw_at lw_m3 227 rfl) rfl
theorem q810 : (Jvm.Cond.privateMethod ({ cls := "SnailPost$Reader", name := "isIn", desc := "(III)Z" } : Jvm.MethodName)) ∈ lw_tbl := lw_at lw_m3 228 rfl
theorem q811 : (Jvm.Cond.instanceMethod ({ cls := "SnailPost$Reader", name := "isIn", desc := "(III)Z" } : Jvm.MethodName)) ∈ lw_all := lw_g (lw_at lw_m3 229 rfl) rfl
theorem q812 : (Jvm.Cond.code ({ cls := "SnailPost$Reader", name := "isIn", desc := "(III)Z" } : Jvm.MethodName) prog_11_method_2_code (4 : Nat) (Option.some Jvm.ClassFile.FieldType.boolean)) ∈ lw_all := lw_g (lw_at lw_m3 230 rfl) rfl
theorem q813 : (Jvm.Cond.methodLink "SnailPost$Reader" (61 : Nat) ({ cls := "SnailPost$Reader", name := "clause", desc := "()V" } : Jvm.MethodName)) ∈ lw_all := lw_g (lw_at lw_m3 231 rfl) rfl
theorem q814 : (Jvm.Cond.privateMethod ({ cls := "SnailPost$Reader", name := "clause", desc := "()V" } : Jvm.MethodName)) ∈ lw_tbl := lw_at lw_m3 232 rfl
theorem q815 : (Jvm.Cond.instanceMethod ({ cls := "SnailPost$Reader", name := "clause", desc := "()V" } : Jvm.MethodName)) ∈ lw_all := lw_g (lw_at lw_m3 233 rfl) rfl
theorem q816 : (Jvm.Cond.code ({ cls := "SnailPost$Reader", name := "clause", desc := "()V" } : Jvm.MethodName) prog_11_method_9_code (3 : Nat) (Option.none : Option Jvm.ClassFile.FieldType)) ∈ lw_all := lw_g (lw_at lw_m3 234 rfl) rfl
theorem q817 : (Jvm.Cond.stringRef "SnailPost$Reader" (66 : Nat) "lures") ∈ lw_tbl := lw_at lw_m3 235 rfl
theorem q818 : (Jvm.Cond.methodLink "SnailPost$Reader" (48 : Nat) ({ cls := "SnailPost$Reader", name := "is", desc := "(Ljava/lang/String;)Z" } : Jvm.MethodName)) ∈ lw_all := lw_g (lw_at lw_m3 236 rfl) rfl
theorem q819 : (Jvm.Cond.privateMethod ({ cls := "SnailPost$Reader", name := "is", desc := "(Ljava/lang/String;)Z" } : Jvm.MethodName)) ∈ lw_tbl := lw_at lw_m3 237 rfl
theorem q820 : (Jvm.Cond.instanceMethod ({ cls := "SnailPost$Reader", name := "is", desc := "(Ljava/lang/String;)Z" } : Jvm.MethodName)) ∈ lw_all := lw_g (lw_at lw_m3 238 rfl) rfl
theorem q821 : (Jvm.Cond.code ({ cls := "SnailPost$Reader", name := "is", desc := "(Ljava/lang/String;)Z" } : Jvm.MethodName) prog_11_method_4_code (3 : Nat) (Option.some Jvm.ClassFile.FieldType.boolean)) ∈ lw_all := lw_g (lw_at lw_m3 239 rfl) rfl
theorem q822 : (Jvm.Cond.methodLink "SnailPost$Reader" (38 : Nat) ({ cls := "java/lang/String", name := "length", desc := "()I" } : Jvm.MethodName)) ∈ lw_all := lw_g (lw_at lw_m4 0 rfl) rfl
theorem q832 : (Jvm.Cond.methodLink "SnailPost$Reader" (44 : Nat) ({ cls := "java/lang/String", name := "charAt", desc := "(I)C" } : Jvm.MethodName)) ∈ lw_all := lw_g (lw_at lw_m4 10 rfl) rfl
theorem q870 : (Jvm.Cond.stringRef "SnailPost$Reader" (68 : Nat) "eats") ∈ lw_tbl := lw_at lw_m4 48 rfl
theorem q871 : (Jvm.Cond.stringRef "SnailPost$Reader" (70 : Nat) "halts") ∈ lw_tbl := lw_at lw_m4 49 rfl
theorem q872 : (Jvm.Cond.methodLink "SnailPost$Reader" (72 : Nat) ({ cls := "java/util/ArrayList", name := "size", desc := "()I" } : Jvm.MethodName)) ∈ lw_all := lw_g (lw_at lw_m4 50 rfl) rfl
theorem q873 : (Jvm.Cond.classLink "SnailPost$Reader" (58 : Nat) "SnailPost$Fault") ∈ lw_all := lw_g (lw_at lw_m4 51 rfl) rfl
theorem q882 : (Jvm.Cond.methodLink "SnailPost$Reader" (60 : Nat) ({ cls := "SnailPost$Fault", name := "<init>", desc := "(I)V" } : Jvm.MethodName)) ∈ lw_all := lw_g (lw_at lw_m4 60 rfl) rfl
theorem q892 : (Jvm.Cond.classLink "SnailPost$Reader" (74 : Nat) "SnailPost$Clause") ∈ lw_all := lw_g (lw_at lw_m4 70 rfl) rfl
theorem q894 : (Jvm.Cond.methodLink "SnailPost$Reader" (76 : Nat) ({ cls := "SnailPost$Clause", name := "<init>", desc := "(I)V" } : Jvm.MethodName)) ∈ lw_all := lw_g (lw_at lw_m4 72 rfl) rfl
theorem q901 : (Jvm.Cond.fieldLinkNest "SnailPost$Reader" (81 : Nat) "SnailPost$Clause" "sum" "LSnailPost$Sum;" "SnailPost") ∈ lw_tbl := lw_at lw_m4 79 rfl
theorem q903 : (Jvm.Cond.fieldLinkNest "SnailPost$Reader" (90 : Nat) "SnailPost$Clause" "when" "LSnailPost$Test;" "SnailPost") ∈ lw_tbl := lw_at lw_m4 81 rfl
theorem q911 : (Jvm.Cond.methodLink "SnailPost$Reader" (77 : Nat) ({ cls := "SnailPost$Reader", name := "sum", desc := "()LSnailPost$Sum;" } : Jvm.MethodName)) ∈ lw_all := lw_g (lw_at lw_m4 89 rfl) rfl
theorem q912 : (Jvm.Cond.privateMethod ({ cls := "SnailPost$Reader", name := "sum", desc := "()LSnailPost$Sum;" } : Jvm.MethodName)) ∈ lw_tbl := lw_at lw_m4 90 rfl
theorem q913 : (Jvm.Cond.instanceMethod ({ cls := "SnailPost$Reader", name := "sum", desc := "()LSnailPost$Sum;" } : Jvm.MethodName)) ∈ lw_all := lw_g (lw_at lw_m4 91 rfl) rfl
theorem q914 : (Jvm.Cond.code ({ cls := "SnailPost$Reader", name := "sum", desc := "()LSnailPost$Sum;" } : Jvm.MethodName) prog_11_method_15_code (3 : Nat) (Option.some (Jvm.ClassFile.FieldType.object "SnailPost$Sum"))) ∈ lw_all := lw_g (lw_at lw_m4 92 rfl) rfl
theorem q915 : (Jvm.Cond.methodLink "SnailPost$Reader" (151 : Nat) ({ cls := "SnailPost$Reader", name := "term", desc := "()LSnailPost$Sum;" } : Jvm.MethodName)) ∈ lw_all := lw_g (lw_at lw_m4 93 rfl) rfl
theorem q916 : (Jvm.Cond.privateMethod ({ cls := "SnailPost$Reader", name := "term", desc := "()LSnailPost$Sum;" } : Jvm.MethodName)) ∈ lw_tbl := lw_at lw_m4 94 rfl
theorem q917 : (Jvm.Cond.instanceMethod ({ cls := "SnailPost$Reader", name := "term", desc := "()LSnailPost$Sum;" } : Jvm.MethodName)) ∈ lw_all := lw_g (lw_at lw_m4 95 rfl) rfl
theorem q918 : (Jvm.Cond.code ({ cls := "SnailPost$Reader", name := "term", desc := "()LSnailPost$Sum;" } : Jvm.MethodName) prog_11_method_16_code (3 : Nat) (Option.some (Jvm.ClassFile.FieldType.object "SnailPost$Sum"))) ∈ lw_all := lw_g (lw_at lw_m4 96 rfl) rfl
theorem q919 : (Jvm.Cond.methodLink "SnailPost$Reader" (161 : Nat) ({ cls := "SnailPost$Reader", name := "part", desc := "()LSnailPost$Sum;" } : Jvm.MethodName)) ∈ lw_all := lw_g (lw_at lw_m4 97 rfl) rfl
theorem q920 : (Jvm.Cond.privateMethod ({ cls := "SnailPost$Reader", name := "part", desc := "()LSnailPost$Sum;" } : Jvm.MethodName)) ∈ lw_tbl := lw_at lw_m4 98 rfl
theorem q921 : (Jvm.Cond.instanceMethod ({ cls := "SnailPost$Reader", name := "part", desc := "()LSnailPost$Sum;" } : Jvm.MethodName)) ∈ lw_all := lw_g (lw_at lw_m4 99 rfl) rfl
theorem q922 : (Jvm.Cond.code ({ cls := "SnailPost$Reader", name := "part", desc := "()LSnailPost$Sum;" } : Jvm.MethodName) prog_11_method_19_code (2 : Nat) (Option.some (Jvm.ClassFile.FieldType.object "SnailPost$Sum"))) ∈ lw_all := lw_g (lw_at lw_m4 100 rfl) rfl
theorem q923 : (Jvm.Cond.stringRef "SnailPost$Reader" (191 : Nat) "[") ∈ lw_tbl := lw_at lw_m4 101 rfl
theorem q924 : (Jvm.Cond.methodLink "SnailPost$Reader" (131 : Nat) ({ cls := "SnailPost$Reader", name := "opens", desc := "()V" } : Jvm.MethodName)) ∈ lw_all := lw_g (lw_at lw_m4 102 rfl) rfl
theorem q925 : (Jvm.Cond.privateMethod ({ cls := "SnailPost$Reader", name := "opens", desc := "()V" } : Jvm.MethodName)) ∈ lw_tbl := lw_at lw_m4 103 rfl
theorem q926 : (Jvm.Cond.instanceMethod ({ cls := "SnailPost$Reader", name := "opens", desc := "()V" } : Jvm.MethodName)) ∈ lw_all := lw_g (lw_at lw_m4 104 rfl) rfl
theorem q927 : (Jvm.Cond.code ({ cls := "SnailPost$Reader", name := "opens", desc := "()V" } : Jvm.MethodName) prog_11_method_12_code (1 : Nat) (Option.none : Option Jvm.ClassFile.FieldType)) ∈ lw_all := lw_g (lw_at lw_m4 105 rfl) rfl
theorem q928 : (Jvm.Cond.stringRef "SnailPost$Reader" (193 : Nat) "]") ∈ lw_tbl := lw_at lw_m4 106 rfl
theorem q929 : (Jvm.Cond.methodLink "SnailPost$Reader" (136 : Nat) ({ cls := "SnailPost$Reader", name := "need", desc := "(Ljava/lang/String;)V" } : Jvm.MethodName)) ∈ lw_all := lw_g (lw_at lw_m4 107 rfl) rfl
theorem q930 : (Jvm.Cond.privateMethod ({ cls := "SnailPost$Reader", name := "need", desc := "(Ljava/lang/String;)V" } : Jvm.MethodName)) ∈ lw_tbl := lw_at lw_m4 108 rfl
theorem q931 : (Jvm.Cond.instanceMethod ({ cls := "SnailPost$Reader", name := "need", desc := "(Ljava/lang/String;)V" } : Jvm.MethodName)) ∈ lw_all := lw_g (lw_at lw_m4 109 rfl) rfl
theorem q932 : (Jvm.Cond.code ({ cls := "SnailPost$Reader", name := "need", desc := "(Ljava/lang/String;)V" } : Jvm.MethodName) prog_11_method_6_code (2 : Nat) (Option.none : Option Jvm.ClassFile.FieldType)) ∈ lw_all := lw_g (lw_at lw_m4 110 rfl) rfl
theorem q933 : (Jvm.Cond.methodLink "SnailPost$Reader" (55 : Nat) ({ cls := "SnailPost$Reader", name := "takes", desc := "(Ljava/lang/String;)Z" } : Jvm.MethodName)) ∈ lw_all := lw_g (lw_at lw_m4 111 rfl) rfl
theorem q934 : (Jvm.Cond.privateMethod ({ cls := "SnailPost$Reader", name := "takes", desc := "(Ljava/lang/String;)Z" } : Jvm.MethodName)) ∈ lw_tbl := lw_at lw_m4 112 rfl
theorem q935 : (Jvm.Cond.instanceMethod ({ cls := "SnailPost$Reader", name := "takes", desc := "(Ljava/lang/String;)Z" } : Jvm.MethodName)) ∈ lw_all := lw_g (lw_at lw_m4 113 rfl) rfl
theorem q936 : (Jvm.Cond.code ({ cls := "SnailPost$Reader", name := "takes", desc := "(Ljava/lang/String;)Z" } : Jvm.MethodName) prog_11_method_5_code (3 : Nat) (Option.some Jvm.ClassFile.FieldType.boolean)) ∈ lw_all := lw_g (lw_at lw_m4 114 rfl) rfl
theorem q937 : (Jvm.Cond.methodLink "SnailPost$Reader" (195 : Nat) ({ cls := "SnailPost$Reader", name := "leaf", desc := "()V" } : Jvm.MethodName)) ∈ lw_all := lw_g (lw_at lw_m4 115 rfl) rfl
theorem q938 : (Jvm.Cond.privateMethod ({ cls := "SnailPost$Reader", name := "leaf", desc := "()V" } : Jvm.MethodName)) ∈ lw_tbl := lw_at lw_m4 116 rfl
theorem q939 : (Jvm.Cond.instanceMethod ({ cls := "SnailPost$Reader", name := "leaf", desc := "()V" } : Jvm.MethodName)) ∈ lw_all := lw_g (lw_at lw_m4 117 rfl) rfl
theorem q940 : (Jvm.Cond.code ({ cls := "SnailPost$Reader", name := "leaf", desc := "()V" } : Jvm.MethodName) prog_11_method_17_code (1 : Nat) (Option.none : Option Jvm.ClassFile.FieldType)) ∈ lw_all := lw_g (lw_at lw_m4 118 rfl) rfl
theorem q941 : (Jvm.Cond.classLink "SnailPost$Reader" (198 : Nat) "SnailPost$Number") ∈ lw_all := lw_g (lw_at lw_m4 119 rfl) rfl
theorem q943 : (Jvm.Cond.methodLink "SnailPost$Reader" (200 : Nat) ({ cls := "SnailPost$Reader", name := "number", desc := "(II)I" } : Jvm.MethodName)) ∈ lw_all := lw_g (lw_at lw_m4 121 rfl) rfl
theorem q944 : (Jvm.Cond.privateMethod ({ cls := "SnailPost$Reader", name := "number", desc := "(II)I" } : Jvm.MethodName)) ∈ lw_tbl := lw_at lw_m4 122 rfl
theorem q945 : (Jvm.Cond.instanceMethod ({ cls := "SnailPost$Reader", name := "number", desc := "(II)I" } : Jvm.MethodName)) ∈ lw_all := lw_g (lw_at lw_m4 123 rfl) rfl
theorem q946 : (Jvm.Cond.code ({ cls := "SnailPost$Reader", name := "number", desc := "(II)I" } : Jvm.MethodName) prog_11_method_7_code (5 : Nat) (Option.some Jvm.ClassFile.FieldType.int)) ∈ lw_all := lw_g (lw_at lw_m4 124 rfl) rfl
theorem q947 : (Jvm.Cond.methodLink "SnailPost$Reader" (204 : Nat) ({ cls := "SnailPost$Number", name := "<init>", desc := "(I)V" } : Jvm.MethodName)) ∈ lw_all := lw_g (lw_at lw_m4 125 rfl) rfl
theorem q958 : (Jvm.Cond.methodLink "SnailPost$Reader" (205 : Nat) ({ cls := "SnailPost$Reader", name := "value", desc := "()I" } : Jvm.MethodName)) ∈ lw_all := lw_g (lw_at lw_m4 136 rfl) rfl
theorem q959 : (Jvm.Cond.privateMethod ({ cls := "SnailPost$Reader", name := "value", desc := "()I" } : Jvm.MethodName)) ∈ lw_tbl := lw_at lw_m4 137 rfl
theorem q960 : (Jvm.Cond.instanceMethod ({ cls := "SnailPost$Reader", name := "value", desc := "()I" } : Jvm.MethodName)) ∈ lw_all := lw_g (lw_at lw_m4 138 rfl) rfl
theorem q961 : (Jvm.Cond.code ({ cls := "SnailPost$Reader", name := "value", desc := "()I" } : Jvm.MethodName) prog_11_method_18_code (1 : Nat) (Option.some Jvm.ClassFile.FieldType.int)) ∈ lw_all := lw_g (lw_at lw_m4 139 rfl) rfl
theorem q962 : (Jvm.Cond.stringRef "SnailPost$Reader" (171 : Nat) "snail") ∈ lw_tbl := lw_at lw_m4 140 rfl
theorem q963 : (Jvm.Cond.stringRef "SnailPost$Reader" (173 : Nat) "kind") ∈ lw_tbl := lw_at lw_m4 141 rfl
theorem q964 : (Jvm.Cond.stringRef "SnailPost$Reader" (175 : Nat) "damp") ∈ lw_tbl := lw_at lw_m4 142 rfl
theorem q965 : (Jvm.Cond.stringRef "SnailPost$Reader" (177 : Nat) "light") ∈ lw_tbl := lw_at lw_m4 143 rfl
theorem q966 : (Jvm.Cond.stringRef "SnailPost$Reader" (179 : Nat) "trail") ∈ lw_tbl := lw_at lw_m4 144 rfl
theorem q967 : (Jvm.Cond.stringRef "SnailPost$Reader" (181 : Nat) "own") ∈ lw_tbl := lw_at lw_m4 145 rfl
theorem q968 : (Jvm.Cond.stringRef "SnailPost$Reader" (183 : Nat) "here") ∈ lw_tbl := lw_at lw_m4 146 rfl
theorem q969 : (Jvm.Cond.stringRef "SnailPost$Reader" (185 : Nat) "hour") ∈ lw_tbl := lw_at lw_m4 147 rfl
theorem q970 : (Jvm.Cond.stringRef "SnailPost$Reader" (187 : Nat) "x") ∈ lw_tbl := lw_at lw_m4 148 rfl
theorem q971 : (Jvm.Cond.stringRef "SnailPost$Reader" (189 : Nat) "y") ∈ lw_tbl := lw_at lw_m4 149 rfl
theorem q972 : (Jvm.Cond.classLink "SnailPost$Reader" (208 : Nat) "SnailPost$Value") ∈ lw_all := lw_g (lw_at lw_m4 150 rfl) rfl
theorem q974 : (Jvm.Cond.methodLink "SnailPost$Reader" (210 : Nat) ({ cls := "SnailPost$Value", name := "<init>", desc := "(I)V" } : Jvm.MethodName)) ∈ lw_all := lw_g (lw_at lw_m4 152 rfl) rfl
theorem q982 : (Jvm.Cond.stringRef "SnailPost$Reader" (164 : Nat) "*") ∈ lw_tbl := lw_at lw_m4 160 rfl
theorem q983 : (Jvm.Cond.stringRef "SnailPost$Reader" (166 : Nat) "/") ∈ lw_tbl := lw_at lw_m4 161 rfl
theorem q984 : (Jvm.Cond.classLink "SnailPost$Reader" (158 : Nat) "SnailPost$Two") ∈ lw_all := lw_g (lw_at lw_m4 162 rfl) rfl
theorem q986 : (Jvm.Cond.methodLink "SnailPost$Reader" (160 : Nat) ({ cls := "SnailPost$Two", name := "<init>", desc := "(CLSnailPost$Sum;LSnailPost$Sum;)V" } : Jvm.MethodName)) ∈ lw_all := lw_g (lw_at lw_m4 164 rfl) rfl
theorem q1000 : (Jvm.Cond.stringRef "SnailPost$Reader" (154 : Nat) "+") ∈ lw_tbl := lw_at lw_m4 178 rfl
theorem q1001 : (Jvm.Cond.stringRef "SnailPost$Reader" (156 : Nat) "-") ∈ lw_tbl := lw_at lw_m4 179 rfl
theorem q1002 : (Jvm.Cond.stringRef "SnailPost$Reader" (84 : Nat) "if") ∈ lw_tbl := lw_at lw_m4 180 rfl
theorem q1003 : (Jvm.Cond.methodLink "SnailPost$Reader" (86 : Nat) ({ cls := "SnailPost$Reader", name := "test", desc := "()LSnailPost$Test;" } : Jvm.MethodName)) ∈ lw_all := lw_g (lw_at lw_m4 181 rfl) rfl
theorem q1004 : (Jvm.Cond.privateMethod ({ cls := "SnailPost$Reader", name := "test", desc := "()LSnailPost$Test;" } : Jvm.MethodName)) ∈ lw_tbl := lw_at lw_m4 182 rfl
theorem q1005 : (Jvm.Cond.instanceMethod ({ cls := "SnailPost$Reader", name := "test", desc := "()LSnailPost$Test;" } : Jvm.MethodName)) ∈ lw_all := lw_g (lw_at lw_m4 183 rfl) rfl
theorem q1006 : (Jvm.Cond.code ({ cls := "SnailPost$Reader", name := "test", desc := "()LSnailPost$Test;" } : Jvm.MethodName) prog_11_method_10_code (3 : Nat) (Option.some (Jvm.ClassFile.FieldType.object "SnailPost$Test"))) ∈ lw_all := lw_g (lw_at lw_m4 184 rfl) rfl
theorem q1007 : (Jvm.Cond.methodLink "SnailPost$Reader" (98 : Nat) ({ cls := "SnailPost$Reader", name := "both", desc := "()LSnailPost$Test;" } : Jvm.MethodName)) ∈ lw_all := lw_g (lw_at lw_m4 185 rfl) rfl
theorem q1008 : (Jvm.Cond.privateMethod ({ cls := "SnailPost$Reader", name := "both", desc := "()LSnailPost$Test;" } : Jvm.MethodName)) ∈ lw_tbl := lw_at lw_m4 186 rfl
theorem q1009 : (Jvm.Cond.instanceMethod ({ cls := "SnailPost$Reader", name := "both", desc := "()LSnailPost$Test;" } : Jvm.MethodName)) ∈ lw_all := lw_g (lw_at lw_m4 187 rfl) rfl
theorem q1010 : (Jvm.Cond.code ({ cls := "SnailPost$Reader", name := "both", desc := "()LSnailPost$Test;" } : Jvm.MethodName) prog_11_method_11_code (3 : Nat) (Option.some (Jvm.ClassFile.FieldType.object "SnailPost$Test"))) ∈ lw_all := lw_g (lw_at lw_m4 188 rfl) rfl
theorem q1011 : (Jvm.Cond.methodLink "SnailPost$Reader" (111 : Nat) ({ cls := "SnailPost$Reader", name := "plain", desc := "()LSnailPost$Test;" } : Jvm.MethodName)) ∈ lw_all := lw_g (lw_at lw_m4 189 rfl) rfl
theorem q1012 : (Jvm.Cond.privateMethod ({ cls := "SnailPost$Reader", name := "plain", desc := "()LSnailPost$Test;" } : Jvm.MethodName)) ∈ lw_tbl := lw_at lw_m4 190 rfl
theorem q1013 : (Jvm.Cond.instanceMethod ({ cls := "SnailPost$Reader", name := "plain", desc := "()LSnailPost$Test;" } : Jvm.MethodName)) ∈ lw_all := lw_g (lw_at lw_m4 191 rfl) rfl
theorem q1014 : (Jvm.Cond.code ({ cls := "SnailPost$Reader", name := "plain", desc := "()LSnailPost$Test;" } : Jvm.MethodName) prog_11_method_13_code (3 : Nat) (Option.some (Jvm.ClassFile.FieldType.object "SnailPost$Test"))) ∈ lw_all := lw_g (lw_at lw_m4 192 rfl) rfl
theorem q1015 : (Jvm.Cond.stringRef "SnailPost$Reader" (119 : Nat) "not") ∈ lw_tbl := lw_at lw_m4 193 rfl
theorem q1016 : (Jvm.Cond.methodLink "SnailPost$Reader" (121 : Nat) ({ cls := "SnailPost$Reader", name := "positive", desc := "()LSnailPost$Test;" } : Jvm.MethodName)) ∈ lw_all := lw_g (lw_at lw_m4 194 rfl) rfl
theorem q1017 : (Jvm.Cond.privateMethod ({ cls := "SnailPost$Reader", name := "positive", desc := "()LSnailPost$Test;" } : Jvm.MethodName)) ∈ lw_tbl := lw_at lw_m4 195 rfl
theorem q1018 : (Jvm.Cond.instanceMethod ({ cls := "SnailPost$Reader", name := "positive", desc := "()LSnailPost$Test;" } : Jvm.MethodName)) ∈ lw_all := lw_g (lw_at lw_m4 196 rfl) rfl
theorem q1019 : (Jvm.Cond.code ({ cls := "SnailPost$Reader", name := "positive", desc := "()LSnailPost$Test;" } : Jvm.MethodName) prog_11_method_14_code (3 : Nat) (Option.some (Jvm.ClassFile.FieldType.object "SnailPost$Test"))) ∈ lw_all := lw_g (lw_at lw_m4 197 rfl) rfl
theorem q1020 : (Jvm.Cond.stringRef "SnailPost$Reader" (129 : Nat) "(") ∈ lw_tbl := lw_at lw_m4 198 rfl
theorem q1021 : (Jvm.Cond.stringRef "SnailPost$Reader" (134 : Nat) ")") ∈ lw_tbl := lw_at lw_m4 199 rfl
theorem q1022 : (Jvm.Cond.stringRef "SnailPost$Reader" (140 : Nat) "<") ∈ lw_tbl := lw_at lw_m4 200 rfl
theorem q1023 : (Jvm.Cond.stringRef "SnailPost$Reader" (142 : Nat) ">") ∈ lw_tbl := lw_at lw_m4 201 rfl
theorem q1024 : (Jvm.Cond.stringRef "SnailPost$Reader" (144 : Nat) "=") ∈ lw_tbl := lw_at lw_m4 202 rfl
theorem q1025 : (Jvm.Cond.classLink "SnailPost$Reader" (146 : Nat) "SnailPost$Compare") ∈ lw_all := lw_g (lw_at lw_m4 203 rfl) rfl
theorem q1027 : (Jvm.Cond.methodLink "SnailPost$Reader" (148 : Nat) ({ cls := "SnailPost$Compare", name := "<init>", desc := "(CLSnailPost$Sum;LSnailPost$Sum;)V" } : Jvm.MethodName)) ∈ lw_all := lw_g (lw_at lw_m4 205 rfl) rfl
theorem q1044 : (Jvm.Cond.classLink "SnailPost$Reader" (124 : Nat) "SnailPost$Not") ∈ lw_all := lw_g (lw_at lw_m4 222 rfl) rfl
theorem q1046 : (Jvm.Cond.methodLink "SnailPost$Reader" (126 : Nat) ({ cls := "SnailPost$Not", name := "<init>", desc := "(LSnailPost$Test;)V" } : Jvm.MethodName)) ∈ lw_all := lw_g (lw_at lw_m4 224 rfl) rfl
theorem q1054 : (Jvm.Cond.stringRef "SnailPost$Reader" (114 : Nat) "and") ∈ lw_tbl := lw_at lw_m4 232 rfl
theorem q1055 : (Jvm.Cond.classLink "SnailPost$Reader" (103 : Nat) "SnailPost$Several") ∈ lw_all := lw_g (lw_at lw_m4 233 rfl) rfl
theorem q1057 : (Jvm.Cond.methodLink "SnailPost$Reader" (105 : Nat) ({ cls := "SnailPost$Several", name := "<init>", desc := "(Z)V" } : Jvm.MethodName)) ∈ lw_all := lw_g (lw_at lw_m4 235 rfl) rfl
theorem q1065 : (Jvm.Cond.fieldLinkNest "SnailPost$Reader" (108 : Nat) "SnailPost$Several" "of" "Ljava/util/ArrayList;" "SnailPost") ∈ lw_tbl := lw_at lw_m5 3 rfl
theorem q1071 : (Jvm.Cond.methodLink "SnailPost$Reader" (94 : Nat) ({ cls := "java/util/ArrayList", name := "add", desc := "(Ljava/lang/Object;)Z" } : Jvm.MethodName)) ∈ lw_all := lw_g (lw_at lw_m5 9 rfl) rfl
theorem q1083 : (Jvm.Cond.stringRef "SnailPost$Reader" (101 : Nat) "or") ∈ lw_tbl := lw_at lw_m5 21 rfl
theorem q1084 : (Jvm.Cond.stringRef "SnailPost$Reader" (64 : Nat) ";") ∈ lw_tbl := lw_at lw_m5 22 rfl
theorem q2085 : (Jvm.Cond.castable "SnailPost$Reader" "java/lang/Object") ∈ lw_tbl := lw_at lw_m9 63 rfl
theorem in_X10 : ∀ w ∈ wsX100, w ∈ lw_all := lw_in wsX100 [786, 788, 790, 792, 794, 796, 798] (by decide +kernel) (by decide +kernel)
/-! SnailPost$Fault -/
set_option maxRecDepth 100000
def RX11 : String := "SnailPost$Fault"
def TX11 : u_T := fun k => match k with
  | 0 => ("java/lang/Throwable", "cause", "Ljava/lang/Throwable;", false)
  | 1 => ("java/lang/Throwable", "stackTrace", "[Ljava/lang/StackTraceElement;", false)
  | 2 => ("java/lang/Throwable", "suppressedExceptions", "Ljava/util/List;", false)
  | 3 => ("java/lang/Throwable", "detailMessage", "Ljava/lang/String;", false)
  | 4 => ("java/lang/Throwable", "backtrace", "Ljava/lang/Object;", false)
  | 5 => ("java/lang/Throwable", "depth", "I", false)
  | _ => ("SnailPost$Fault", "place", "I", true)
def tyX11 : Nat → FieldType := fun k => match k with
  | 0 => .object "java/lang/Throwable"
  | 1 => .array (.object "java/lang/StackTraceElement")
  | 2 => .object "java/util/List"
  | 3 => .object "java/lang/String"
  | 4 => .object "java/lang/Object"
  | 5 => .int
  | _ => .int
abbrev wsX110 : List Cond := u_ws RX11 TX11 7
theorem nmX11 : ∀ a, a < 7 → ∀ b, b < 7 → a ≠ b → (TX11 a).2.1 ≠ (TX11 b).2.1 := by decide +kernel
theorem tyX11_ok : ∀ k, k < 7 → parseFieldDescriptor (TX11 k).2.2.1 = some (tyX11 k) := by decide +kernel
abbrev cX11_init : ByteArray := prog_5_method_1_code
def yX11_init : MethodName := ⟨RX11, "<init>", "(I)V"⟩
def dkwX11_init_0 : List UInt8 := [42, 1, 1, 3, 3, 183, 0, 1, 42, 27, 181, 0, 7, 177]
abbrev dktX11_init_0 : List UInt8 := dkwX11_init_0 ++ []
theorem dksX11_init_0 : cX11_init.data.toList.drop 0 = dktX11_init_0 := by decide +kernel
theorem dX11_init_0 : decode cX11_init 0 = .ok (.aload_n 0, 1) := dk_42 (dk_at dksX11_init_0 0 rfl rfl)
theorem dX11_init_1 : decode cX11_init 1 = .ok (.aconst_null, 1) := dk_1 (dk_at dksX11_init_0 1 rfl rfl)
theorem dX11_init_2 : decode cX11_init 2 = .ok (.aconst_null, 1) := dk_1 (dk_at dksX11_init_0 2 rfl rfl)
theorem dX11_init_3 : decode cX11_init 3 = .ok (.iconst 0, 1) := dk_3 (dk_at dksX11_init_0 3 rfl rfl)
theorem dX11_init_4 : decode cX11_init 4 = .ok (.iconst 0, 1) := dk_3 (dk_at dksX11_init_0 4 rfl rfl)
theorem dX11_init_5 : decode cX11_init 5 = .ok (.invokespecial 1, 3) := dk_183 0 1 (dk_at dksX11_init_0 5 rfl rfl)
theorem dX11_init_8 : decode cX11_init 8 = .ok (.aload_n 0, 1) := dk_42 (dk_at dksX11_init_0 8 rfl rfl)
theorem dX11_init_9 : decode cX11_init 9 = .ok (.iload_n 1, 1) := dk_27 (dk_at dksX11_init_0 9 rfl rfl)
theorem dX11_init_10 : decode cX11_init 10 = .ok (.putfield 7, 3) := dk_181 0 7 (dk_at dksX11_init_0 10 rfl rfl)
theorem dX11_init_13 : decode cX11_init 13 = .ok (.return_, 1) := dk_177 (dk_at dksX11_init_0 13 rfl rfl)
theorem q123 : (Jvm.Cond.initialized "SnailPost$Fault") ∈ lw_all := lw_g (lw_at lw_m1 21 rfl) rfl
theorem q283 : (Jvm.Cond.selects "SnailPost$Fault" ({ cls := "java/lang/Throwable", name := "fillInStackTrace", desc := "()Ljava/lang/Throwable;" } : Jvm.MethodName) ({ cls := "java/lang/Throwable", name := "fillInStackTrace", desc := "()Ljava/lang/Throwable;" } : Jvm.MethodName)) ∈ lw_all := lw_g (lw_at lw_m1 181 rfl) rfl
theorem q623 : (Jvm.Cond.selects "SnailPost$Fault" ({ cls := "java/lang/Object", name := "getClass", desc := "()Ljava/lang/Class;" } : Jvm.MethodName) ({ cls := "java/lang/Object", name := "getClass", desc := "()Ljava/lang/Class;" } : Jvm.MethodName)) ∈ lw_all := lw_g (lw_at lw_m3 41 rfl) rfl
theorem q874 : (Jvm.Cond.instantiable "SnailPost$Fault" (7 : Nat)) ∈ lw_all := lw_g (lw_at lw_m4 52 rfl) rfl
theorem q875 : (Jvm.Cond.castable "SnailPost$Fault" "SnailPost$Fault") ∈ lw_tbl := lw_at lw_m4 53 rfl
theorem q876 : (Jvm.Cond.selects "SnailPost$Fault" ({ cls := "java/lang/Throwable", name := "fillInStackTrace", desc := "(I)Ljava/lang/Throwable;" } : Jvm.MethodName) ({ cls := "java/lang/Throwable", name := "fillInStackTrace", desc := "(I)Ljava/lang/Throwable;" } : Jvm.MethodName)) ∈ lw_all := lw_g (lw_at lw_m4 54 rfl) rfl
theorem q877 : (Jvm.Cond.lays "SnailPost$Fault" "java/lang/Throwable" "cause" "Ljava/lang/Throwable;") ∈ lw_all := lw_g (lw_at lw_m4 55 rfl) rfl
theorem q878 : (Jvm.Cond.lays "SnailPost$Fault" "java/lang/Throwable" "stackTrace" "[Ljava/lang/StackTraceElement;") ∈ lw_all := lw_g (lw_at lw_m4 56 rfl) rfl
theorem q879 : (Jvm.Cond.lays "SnailPost$Fault" "java/lang/Throwable" "suppressedExceptions" "Ljava/util/List;") ∈ lw_all := lw_g (lw_at lw_m4 57 rfl) rfl
theorem q880 : (Jvm.Cond.lays "SnailPost$Fault" "java/lang/Throwable" "detailMessage" "Ljava/lang/String;") ∈ lw_all := lw_g (lw_at lw_m4 58 rfl) rfl
theorem q881 : (Jvm.Cond.lays "SnailPost$Fault" "java/lang/Throwable" "backtrace" "Ljava/lang/Object;") ∈ lw_all := lw_g (lw_at lw_m4 59 rfl) rfl
theorem q883 : (Jvm.Cond.instanceMethod ({ cls := "SnailPost$Fault", name := "<init>", desc := "(I)V" } : Jvm.MethodName)) ∈ lw_all := lw_g (lw_at lw_m4 61 rfl) rfl
theorem q884 : (Jvm.Cond.code ({ cls := "SnailPost$Fault", name := "<init>", desc := "(I)V" } : Jvm.MethodName) prog_5_method_1_code (2 : Nat) (Option.none : Option Jvm.ClassFile.FieldType)) ∈ lw_all := lw_g (lw_at lw_m4 62 rfl) rfl
theorem q885 : (Jvm.Cond.methodLink "SnailPost$Fault" (1 : Nat) ({ cls := "java/lang/Exception", name := "<init>", desc := "(Ljava/lang/String;Ljava/lang/Throwable;ZZ)V" } : Jvm.MethodName)) ∈ lw_all := lw_g (lw_at lw_m4 63 rfl) rfl
theorem q886 : (Jvm.Cond.fieldLink "SnailPost$Fault" (7 : Nat) "SnailPost$Fault" "place" "I") ∈ lw_all := lw_g (lw_at lw_m4 64 rfl) rfl
theorem q888 : (Jvm.Cond.laysFinal "SnailPost$Fault" "SnailPost$Fault" "place" "I") ∈ lw_all := lw_g (lw_at lw_m4 66 rfl) rfl
theorem q889 : (Jvm.Cond.soleField "SnailPost$Fault" "place") ∈ lw_all := lw_g (lw_at lw_m4 67 rfl) rfl
theorem q890 : (Jvm.Cond.lays "SnailPost$Fault" "java/lang/Throwable" "depth" "I") ∈ lw_all := lw_g (lw_at lw_m4 68 rfl) rfl
theorem q891 : (Jvm.Cond.superclass "SnailPost$Fault" "java/lang/Exception") ∈ lw_all := lw_g (lw_at lw_m4 69 rfl) rfl
theorem q2086 : (Jvm.Cond.castable "SnailPost$Fault" "java/lang/Object") ∈ lw_tbl := lw_at lw_m9 64 rfl
theorem in_X11 : ∀ w ∈ wsX110, w ∈ lw_all := lw_in wsX110 [877, 878, 879, 880, 881, 890, 888] (by decide +kernel) (by decide +kernel)
/-! SnailPost$Clause -/
set_option maxRecDepth 100000
def RX12 : String := "SnailPost$Clause"
def TX12 : u_T := fun k => match k with
  | 0 => ("SnailPost$Clause", "head", "I", true)
  | 1 => ("SnailPost$Clause", "sum", "LSnailPost$Sum;", false)
  | _ => ("SnailPost$Clause", "when", "LSnailPost$Test;", false)
def tyX12 : Nat → FieldType := fun k => match k with
  | 0 => .int
  | 1 => .object "SnailPost$Sum"
  | _ => .object "SnailPost$Test"
abbrev wsX120 : List Cond := u_ws RX12 TX12 3
theorem nmX12 : ∀ a, a < 3 → ∀ b, b < 3 → a ≠ b → (TX12 a).2.1 ≠ (TX12 b).2.1 := by decide +kernel
theorem tyX12_ok : ∀ k, k < 3 → parseFieldDescriptor (TX12 k).2.2.1 = some (tyX12 k) := by decide +kernel
abbrev cX12_init : ByteArray := prog_3_method_1_code
def yX12_init : MethodName := ⟨RX12, "<init>", "(I)V"⟩
def dkwX12_init_0 : List UInt8 := [42, 183, 0, 3, 42, 27, 181, 0, 9, 177]
abbrev dktX12_init_0 : List UInt8 := dkwX12_init_0 ++ []
theorem dksX12_init_0 : cX12_init.data.toList.drop 0 = dktX12_init_0 := by decide +kernel
theorem dX12_init_0 : decode cX12_init 0 = .ok (.aload_n 0, 1) := dk_42 (dk_at dksX12_init_0 0 rfl rfl)
theorem dX12_init_1 : decode cX12_init 1 = .ok (.invokespecial 3, 3) := dk_183 0 3 (dk_at dksX12_init_0 1 rfl rfl)
theorem dX12_init_4 : decode cX12_init 4 = .ok (.aload_n 0, 1) := dk_42 (dk_at dksX12_init_0 4 rfl rfl)
theorem dX12_init_5 : decode cX12_init 5 = .ok (.iload_n 1, 1) := dk_27 (dk_at dksX12_init_0 5 rfl rfl)
theorem dX12_init_6 : decode cX12_init 6 = .ok (.putfield 9, 3) := dk_181 0 9 (dk_at dksX12_init_0 6 rfl rfl)
theorem dX12_init_9 : decode cX12_init 9 = .ok (.return_, 1) := dk_177 (dk_at dksX12_init_0 9 rfl rfl)
abbrev cX12_tells : ByteArray := prog_3_method_2_code
def yX12_tells : MethodName := ⟨RX12, "tells", "(LSnailPost$Setting;)J"⟩
def dkwX12_tells_1 : List UInt8 := [180, 0, 27, 199, 0, 7, 10, 167, 0, 11, 42, 180, 0, 27, 43, 182, 0, 31, 173, 77, 20, 0, 25, 173]
abbrev dktX12_tells_1 : List UInt8 := dkwX12_tells_1 ++ []
def dkwX12_tells_0 : List UInt8 := [42, 180, 0, 15, 198, 0, 18, 42, 180, 0, 15, 43, 182, 0, 19, 154, 0, 7, 20, 0, 25, 173, 42]
abbrev dktX12_tells_0 : List UInt8 := dkwX12_tells_0 ++ dktX12_tells_1
theorem dksX12_tells_0 : cX12_tells.data.toList.drop 0 = dktX12_tells_0 := by decide +kernel
theorem dksX12_tells_1 : cX12_tells.data.toList.drop 23 = dktX12_tells_1 := dk_seg dksX12_tells_0 23 rfl rfl
theorem dX12_tells_0 : decode cX12_tells 0 = .ok (.aload_n 0, 1) := dk_42 (dk_at dksX12_tells_0 0 rfl rfl)
theorem dX12_tells_1 : decode cX12_tells 1 = .ok (.getfield 15, 3) := dk_180 0 15 (dk_at dksX12_tells_0 1 rfl rfl)
theorem dX12_tells_4 : decode cX12_tells 4 = .ok (.ifnull 18, 3) := dk_198 0 18 (dk_at dksX12_tells_0 4 rfl rfl)
theorem dX12_tells_7 : decode cX12_tells 7 = .ok (.aload_n 0, 1) := dk_42 (dk_at dksX12_tells_0 7 rfl rfl)
theorem dX12_tells_8 : decode cX12_tells 8 = .ok (.getfield 15, 3) := dk_180 0 15 (dk_at dksX12_tells_0 8 rfl rfl)
theorem dX12_tells_11 : decode cX12_tells 11 = .ok (.aload_n 1, 1) := dk_43 (dk_at dksX12_tells_0 11 rfl rfl)
theorem dX12_tells_12 : decode cX12_tells 12 = .ok (.invokevirtual 19, 3) := dk_182 0 19 (dk_at dksX12_tells_0 12 rfl rfl)
theorem dX12_tells_15 : decode cX12_tells 15 = .ok (.ifCond .ne 7, 3) := dk_154 0 7 (dk_at dksX12_tells_0 15 rfl rfl)
theorem dX12_tells_18 : decode cX12_tells 18 = .ok (.ldc2_w 25, 3) := dk_20 0 25 (dk_at dksX12_tells_0 18 rfl rfl)
theorem dX12_tells_21 : decode cX12_tells 21 = .ok (.lreturn, 1) := dk_173 (dk_at dksX12_tells_0 21 rfl rfl)
theorem dX12_tells_22 : decode cX12_tells 22 = .ok (.aload_n 0, 1) := dk_42 (dk_at dksX12_tells_0 22 rfl rfl)
theorem dX12_tells_23 : decode cX12_tells 23 = .ok (.getfield 27, 3) := dk_180 0 27 (dk_at dksX12_tells_1 0 rfl rfl)
theorem dX12_tells_26 : decode cX12_tells 26 = .ok (.ifnonnull 7, 3) := dk_199 0 7 (dk_at dksX12_tells_1 3 rfl rfl)
theorem dX12_tells_29 : decode cX12_tells 29 = .ok (.lconst 1, 1) := dk_10 (dk_at dksX12_tells_1 6 rfl rfl)
theorem dX12_tells_30 : decode cX12_tells 30 = .ok (.goto 11, 3) := dk_167 0 11 (dk_at dksX12_tells_1 7 rfl rfl)
theorem dX12_tells_33 : decode cX12_tells 33 = .ok (.aload_n 0, 1) := dk_42 (dk_at dksX12_tells_1 10 rfl rfl)
theorem dX12_tells_34 : decode cX12_tells 34 = .ok (.getfield 27, 3) := dk_180 0 27 (dk_at dksX12_tells_1 11 rfl rfl)
theorem dX12_tells_37 : decode cX12_tells 37 = .ok (.aload_n 1, 1) := dk_43 (dk_at dksX12_tells_1 14 rfl rfl)
theorem dX12_tells_38 : decode cX12_tells 38 = .ok (.invokevirtual 31, 3) := dk_182 0 31 (dk_at dksX12_tells_1 15 rfl rfl)
theorem dX12_tells_41 : decode cX12_tells 41 = .ok (.lreturn, 1) := dk_173 (dk_at dksX12_tells_1 18 rfl rfl)
theorem dX12_tells_42 : decode cX12_tells 42 = .ok (.astore_n 2, 1) := dk_77 (dk_at dksX12_tells_1 19 rfl rfl)
theorem dX12_tells_43 : decode cX12_tells 43 = .ok (.ldc2_w 25, 3) := dk_20 0 25 (dk_at dksX12_tells_1 20 rfl rfl)
theorem dX12_tells_46 : decode cX12_tells 46 = .ok (.lreturn, 1) := dk_173 (dk_at dksX12_tells_1 23 rfl rfl)
theorem q124 : (Jvm.Cond.initialized "SnailPost$Clause") ∈ lw_all := lw_g (lw_at lw_m1 22 rfl) rfl
theorem q621 : (Jvm.Cond.selects "SnailPost$Clause" ({ cls := "java/lang/Object", name := "getClass", desc := "()Ljava/lang/Class;" } : Jvm.MethodName) ({ cls := "java/lang/Object", name := "getClass", desc := "()Ljava/lang/Class;" } : Jvm.MethodName)) ∈ lw_all := lw_g (lw_at lw_m3 39 rfl) rfl
theorem q893 : (Jvm.Cond.instantiable "SnailPost$Clause" (3 : Nat)) ∈ lw_all := lw_g (lw_at lw_m4 71 rfl) rfl
theorem q895 : (Jvm.Cond.instanceMethod ({ cls := "SnailPost$Clause", name := "<init>", desc := "(I)V" } : Jvm.MethodName)) ∈ lw_all := lw_g (lw_at lw_m4 73 rfl) rfl
theorem q896 : (Jvm.Cond.code ({ cls := "SnailPost$Clause", name := "<init>", desc := "(I)V" } : Jvm.MethodName) prog_3_method_1_code (2 : Nat) (Option.none : Option Jvm.ClassFile.FieldType)) ∈ lw_all := lw_g (lw_at lw_m4 74 rfl) rfl
theorem q897 : (Jvm.Cond.methodLink "SnailPost$Clause" (3 : Nat) ({ cls := "java/lang/Object", name := "<init>", desc := "()V" } : Jvm.MethodName)) ∈ lw_all := lw_g (lw_at lw_m4 75 rfl) rfl
theorem q898 : (Jvm.Cond.fieldLink "SnailPost$Clause" (9 : Nat) "SnailPost$Clause" "head" "I") ∈ lw_all := lw_g (lw_at lw_m4 76 rfl) rfl
theorem q900 : (Jvm.Cond.fieldLink "SnailPost$Clause" (27 : Nat) "SnailPost$Clause" "sum" "LSnailPost$Sum;") ∈ lw_all := lw_g (lw_at lw_m4 78 rfl) rfl
theorem q902 : (Jvm.Cond.fieldLink "SnailPost$Clause" (15 : Nat) "SnailPost$Clause" "when" "LSnailPost$Test;") ∈ lw_all := lw_g (lw_at lw_m4 80 rfl) rfl
theorem q904 : (Jvm.Cond.laysFinal "SnailPost$Clause" "SnailPost$Clause" "head" "I") ∈ lw_all := lw_g (lw_at lw_m4 82 rfl) rfl
theorem q905 : (Jvm.Cond.soleField "SnailPost$Clause" "head") ∈ lw_all := lw_g (lw_at lw_m4 83 rfl) rfl
theorem q906 : (Jvm.Cond.lays "SnailPost$Clause" "SnailPost$Clause" "sum" "LSnailPost$Sum;") ∈ lw_all := lw_g (lw_at lw_m4 84 rfl) rfl
theorem q907 : (Jvm.Cond.soleField "SnailPost$Clause" "sum") ∈ lw_all := lw_g (lw_at lw_m4 85 rfl) rfl
theorem q908 : (Jvm.Cond.lays "SnailPost$Clause" "SnailPost$Clause" "when" "LSnailPost$Test;") ∈ lw_all := lw_g (lw_at lw_m4 86 rfl) rfl
theorem q909 : (Jvm.Cond.soleField "SnailPost$Clause" "when") ∈ lw_all := lw_g (lw_at lw_m4 87 rfl) rfl
theorem q910 : (Jvm.Cond.superclass "SnailPost$Clause" "java/lang/Object") ∈ lw_all := lw_g (lw_at lw_m4 88 rfl) rfl
theorem q1171 : (Jvm.Cond.instanceMethod ({ cls := "SnailPost$Clause", name := "tells", desc := "(LSnailPost$Setting;)J" } : Jvm.MethodName)) ∈ lw_all := lw_g (lw_at lw_m5 109 rfl) rfl
theorem q1172 : (Jvm.Cond.selects "SnailPost$Clause" ({ cls := "SnailPost$Clause", name := "tells", desc := "(LSnailPost$Setting;)J" } : Jvm.MethodName) ({ cls := "SnailPost$Clause", name := "tells", desc := "(LSnailPost$Setting;)J" } : Jvm.MethodName)) ∈ lw_all := lw_g (lw_at lw_m5 110 rfl) rfl
theorem q1173 : (Jvm.Cond.codeWith ({ cls := "SnailPost$Clause", name := "tells", desc := "(LSnailPost$Setting;)J" } : Jvm.MethodName) prog_3_method_2_code (3 : Nat) (Option.some Jvm.ClassFile.FieldType.long) [((0 : Nat), (21 : Nat), (42 : Nat), (37 : Nat)), ((22 : Nat), (41 : Nat), (42 : Nat), (37 : Nat))]) ∈ lw_all := lw_g (lw_at lw_m5 111 rfl) rfl
theorem q1174 : (Jvm.Cond.classLink "SnailPost$Clause" (37 : Nat) "SnailPost$Broken") ∈ lw_all := lw_g (lw_at lw_m5 112 rfl) rfl
theorem q1175 : (Jvm.Cond.methodLink "SnailPost$Clause" (19 : Nat) ({ cls := "SnailPost$Test", name := "is", desc := "(LSnailPost$Setting;)Z" } : Jvm.MethodName)) ∈ lw_all := lw_g (lw_at lw_m5 113 rfl) rfl
theorem q1207 : (Jvm.Cond.constantLong "SnailPost$Clause" (25 : Nat) (-4000000000 : Int64)) ∈ lw_all := lw_g (lw_at lw_m5 145 rfl) rfl
theorem q1208 : (Jvm.Cond.methodLink "SnailPost$Clause" (31 : Nat) ({ cls := "SnailPost$Sum", name := "of", desc := "(LSnailPost$Setting;)J" } : Jvm.MethodName)) ∈ lw_all := lw_g (lw_at lw_m5 146 rfl) rfl
theorem q2087 : (Jvm.Cond.castable "SnailPost$Clause" "java/lang/Object") ∈ lw_tbl := lw_at lw_m9 65 rfl
theorem in_X12 : ∀ w ∈ wsX120, w ∈ lw_all := lw_in wsX120 [904, 906, 908] (by decide +kernel) (by decide +kernel)
/-! SnailPost$Sum -/
set_option maxRecDepth 100000
def RX13 : String := "SnailPost$Sum"
abbrev cX13_init : ByteArray := prog_17_method_1_code
def yX13_init : MethodName := ⟨RX13, "<init>", "()V"⟩
theorem dX13_init_0 : decode cX13_init 0 = .ok (.aload_n 0, 1) := by decide +kernel
theorem dX13_init_1 : decode cX13_init 1 = .ok (.invokespecial 1, 3) := by decide +kernel
theorem dX13_init_4 : decode cX13_init 4 = .ok (.return_, 1) := by decide +kernel
theorem q125 : (Jvm.Cond.initialized "SnailPost$Sum") ∈ lw_all := lw_g (lw_at lw_m1 23 rfl) rfl
theorem q951 : (Jvm.Cond.instanceMethod ({ cls := "SnailPost$Sum", name := "<init>", desc := "()V" } : Jvm.MethodName)) ∈ lw_all := lw_g (lw_at lw_m4 129 rfl) rfl
theorem q952 : (Jvm.Cond.code ({ cls := "SnailPost$Sum", name := "<init>", desc := "()V" } : Jvm.MethodName) prog_17_method_1_code (1 : Nat) (Option.none : Option Jvm.ClassFile.FieldType)) ∈ lw_all := lw_g (lw_at lw_m4 130 rfl) rfl
theorem q953 : (Jvm.Cond.methodLink "SnailPost$Sum" (1 : Nat) ({ cls := "java/lang/Object", name := "<init>", desc := "()V" } : Jvm.MethodName)) ∈ lw_all := lw_g (lw_at lw_m4 131 rfl) rfl
theorem q1182 : (Jvm.Cond.declares ({ cls := "SnailPost$Sum", name := "of", desc := "(LSnailPost$Setting;)J" } : Jvm.MethodName)) ∈ lw_tbl := lw_at lw_m5 120 rfl
theorem q1183 : (Jvm.Cond.sameMethod "SnailPost$Sum" "SnailPost$Sum" "of" "(LSnailPost$Setting;)J") ∈ lw_all := lw_g (lw_at lw_m5 121 rfl) rfl
/-! SnailPost$Number -/
set_option maxRecDepth 100000
def RX14 : String := "SnailPost$Number"
def TX14 : u_T := fun k => match k with
  | _ => ("SnailPost$Number", "number", "I", true)
def tyX14 : Nat → FieldType := fun k => match k with
  | _ => .int
abbrev wsX140 : List Cond := u_ws RX14 TX14 1
theorem nmX14 : ∀ a, a < 1 → ∀ b, b < 1 → a ≠ b → (TX14 a).2.1 ≠ (TX14 b).2.1 := by decide +kernel
theorem tyX14_ok : ∀ k, k < 1 → parseFieldDescriptor (TX14 k).2.2.1 = some (tyX14 k) := by decide +kernel
abbrev cX14_init : ByteArray := prog_9_method_1_code
def yX14_init : MethodName := ⟨RX14, "<init>", "(I)V"⟩
def dkwX14_init_0 : List UInt8 := [42, 183, 0, 1, 42, 27, 181, 0, 7, 177]
abbrev dktX14_init_0 : List UInt8 := dkwX14_init_0 ++ []
theorem dksX14_init_0 : cX14_init.data.toList.drop 0 = dktX14_init_0 := by decide +kernel
theorem dX14_init_0 : decode cX14_init 0 = .ok (.aload_n 0, 1) := dk_42 (dk_at dksX14_init_0 0 rfl rfl)
theorem dX14_init_1 : decode cX14_init 1 = .ok (.invokespecial 1, 3) := dk_183 0 1 (dk_at dksX14_init_0 1 rfl rfl)
theorem dX14_init_4 : decode cX14_init 4 = .ok (.aload_n 0, 1) := dk_42 (dk_at dksX14_init_0 4 rfl rfl)
theorem dX14_init_5 : decode cX14_init 5 = .ok (.iload_n 1, 1) := dk_27 (dk_at dksX14_init_0 5 rfl rfl)
theorem dX14_init_6 : decode cX14_init 6 = .ok (.putfield 7, 3) := dk_181 0 7 (dk_at dksX14_init_0 6 rfl rfl)
theorem dX14_init_9 : decode cX14_init 9 = .ok (.return_, 1) := dk_177 (dk_at dksX14_init_0 9 rfl rfl)
abbrev cX14_of : ByteArray := prog_9_method_2_code
def yX14_of : MethodName := ⟨RX14, "of", "(LSnailPost$Setting;)J"⟩
def dkwX14_of_0 : List UInt8 := [42, 180, 0, 7, 133, 173]
abbrev dktX14_of_0 : List UInt8 := dkwX14_of_0 ++ []
theorem dksX14_of_0 : cX14_of.data.toList.drop 0 = dktX14_of_0 := by decide +kernel
theorem dX14_of_0 : decode cX14_of 0 = .ok (.aload_n 0, 1) := dk_42 (dk_at dksX14_of_0 0 rfl rfl)
theorem dX14_of_1 : decode cX14_of 1 = .ok (.getfield 7, 3) := dk_180 0 7 (dk_at dksX14_of_0 1 rfl rfl)
theorem dX14_of_4 : decode cX14_of 4 = .ok (.i2l, 1) := dk_133 (dk_at dksX14_of_0 4 rfl rfl)
theorem dX14_of_5 : decode cX14_of 5 = .ok (.lreturn, 1) := dk_173 (dk_at dksX14_of_0 5 rfl rfl)
theorem q126 : (Jvm.Cond.initialized "SnailPost$Number") ∈ lw_all := lw_g (lw_at lw_m1 24 rfl) rfl
theorem q627 : (Jvm.Cond.selects "SnailPost$Number" ({ cls := "java/lang/Object", name := "getClass", desc := "()Ljava/lang/Class;" } : Jvm.MethodName) ({ cls := "java/lang/Object", name := "getClass", desc := "()Ljava/lang/Class;" } : Jvm.MethodName)) ∈ lw_all := lw_g (lw_at lw_m3 45 rfl) rfl
theorem q942 : (Jvm.Cond.instantiable "SnailPost$Number" (1 : Nat)) ∈ lw_all := lw_g (lw_at lw_m4 120 rfl) rfl
theorem q948 : (Jvm.Cond.instanceMethod ({ cls := "SnailPost$Number", name := "<init>", desc := "(I)V" } : Jvm.MethodName)) ∈ lw_all := lw_g (lw_at lw_m4 126 rfl) rfl
theorem q949 : (Jvm.Cond.code ({ cls := "SnailPost$Number", name := "<init>", desc := "(I)V" } : Jvm.MethodName) prog_9_method_1_code (2 : Nat) (Option.none : Option Jvm.ClassFile.FieldType)) ∈ lw_all := lw_g (lw_at lw_m4 127 rfl) rfl
theorem q950 : (Jvm.Cond.methodLinkNest "SnailPost$Number" (1 : Nat) ({ cls := "SnailPost$Sum", name := "<init>", desc := "()V" } : Jvm.MethodName) "SnailPost") ∈ lw_tbl := lw_at lw_m4 128 rfl
theorem q954 : (Jvm.Cond.fieldLink "SnailPost$Number" (7 : Nat) "SnailPost$Number" "number" "I") ∈ lw_all := lw_g (lw_at lw_m4 132 rfl) rfl
theorem q955 : (Jvm.Cond.laysFinal "SnailPost$Number" "SnailPost$Number" "number" "I") ∈ lw_all := lw_g (lw_at lw_m4 133 rfl) rfl
theorem q956 : (Jvm.Cond.soleField "SnailPost$Number" "number") ∈ lw_all := lw_g (lw_at lw_m4 134 rfl) rfl
theorem q957 : (Jvm.Cond.superclass "SnailPost$Number" "SnailPost$Sum") ∈ lw_all := lw_g (lw_at lw_m4 135 rfl) rfl
theorem q1184 : (Jvm.Cond.selects "SnailPost$Number" ({ cls := "SnailPost$Sum", name := "of", desc := "(LSnailPost$Setting;)J" } : Jvm.MethodName) ({ cls := "SnailPost$Number", name := "of", desc := "(LSnailPost$Setting;)J" } : Jvm.MethodName)) ∈ lw_all := lw_g (lw_at lw_m5 122 rfl) rfl
theorem q1185 : (Jvm.Cond.instanceMethod ({ cls := "SnailPost$Number", name := "of", desc := "(LSnailPost$Setting;)J" } : Jvm.MethodName)) ∈ lw_all := lw_g (lw_at lw_m5 123 rfl) rfl
theorem q1186 : (Jvm.Cond.code ({ cls := "SnailPost$Number", name := "of", desc := "(LSnailPost$Setting;)J" } : Jvm.MethodName) prog_9_method_2_code (2 : Nat) (Option.some Jvm.ClassFile.FieldType.long)) ∈ lw_all := lw_g (lw_at lw_m5 124 rfl) rfl
theorem q2088 : (Jvm.Cond.castable "SnailPost$Number" "java/lang/Object") ∈ lw_tbl := lw_at lw_m9 66 rfl
theorem in_X14 : ∀ w ∈ wsX140, w ∈ lw_all := lw_in wsX140 [955] (by decide +kernel) (by decide +kernel)
/-! SnailPost$Value -/
set_option maxRecDepth 100000
def RX15 : String := "SnailPost$Value"
def TX15 : u_T := fun k => match k with
  | _ => ("SnailPost$Value", "which", "I", true)
def tyX15 : Nat → FieldType := fun k => match k with
  | _ => .int
abbrev wsX150 : List Cond := u_ws RX15 TX15 1
theorem nmX15 : ∀ a, a < 1 → ∀ b, b < 1 → a ≠ b → (TX15 a).2.1 ≠ (TX15 b).2.1 := by decide +kernel
theorem tyX15_ok : ∀ k, k < 1 → parseFieldDescriptor (TX15 k).2.2.1 = some (tyX15 k) := by decide +kernel
abbrev cX15_init : ByteArray := prog_20_method_1_code
def yX15_init : MethodName := ⟨RX15, "<init>", "(I)V"⟩
def dkwX15_init_0 : List UInt8 := [42, 183, 0, 1, 42, 27, 181, 0, 7, 177]
abbrev dktX15_init_0 : List UInt8 := dkwX15_init_0 ++ []
theorem dksX15_init_0 : cX15_init.data.toList.drop 0 = dktX15_init_0 := by decide +kernel
theorem dX15_init_0 : decode cX15_init 0 = .ok (.aload_n 0, 1) := dk_42 (dk_at dksX15_init_0 0 rfl rfl)
theorem dX15_init_1 : decode cX15_init 1 = .ok (.invokespecial 1, 3) := dk_183 0 1 (dk_at dksX15_init_0 1 rfl rfl)
theorem dX15_init_4 : decode cX15_init 4 = .ok (.aload_n 0, 1) := dk_42 (dk_at dksX15_init_0 4 rfl rfl)
theorem dX15_init_5 : decode cX15_init 5 = .ok (.iload_n 1, 1) := dk_27 (dk_at dksX15_init_0 5 rfl rfl)
theorem dX15_init_6 : decode cX15_init 6 = .ok (.putfield 7, 3) := dk_181 0 7 (dk_at dksX15_init_0 6 rfl rfl)
theorem dX15_init_9 : decode cX15_init 9 = .ok (.return_, 1) := dk_177 (dk_at dksX15_init_0 9 rfl rfl)
abbrev cX15_of : ByteArray := prog_20_method_2_code
def yX15_of : MethodName := ⟨RX15, "of", "(LSnailPost$Setting;)J"⟩
def dkwX15_of_0 : List UInt8 := [43, 180, 0, 13, 42, 180, 0, 7, 47, 173]
abbrev dktX15_of_0 : List UInt8 := dkwX15_of_0 ++ []
theorem dksX15_of_0 : cX15_of.data.toList.drop 0 = dktX15_of_0 := by decide +kernel
theorem dX15_of_0 : decode cX15_of 0 = .ok (.aload_n 1, 1) := dk_43 (dk_at dksX15_of_0 0 rfl rfl)
theorem dX15_of_1 : decode cX15_of 1 = .ok (.getfield 13, 3) := dk_180 0 13 (dk_at dksX15_of_0 1 rfl rfl)
theorem dX15_of_4 : decode cX15_of 4 = .ok (.aload_n 0, 1) := dk_42 (dk_at dksX15_of_0 4 rfl rfl)
theorem dX15_of_5 : decode cX15_of 5 = .ok (.getfield 7, 3) := dk_180 0 7 (dk_at dksX15_of_0 5 rfl rfl)
theorem dX15_of_8 : decode cX15_of 8 = .ok (.laload, 1) := dk_47 (dk_at dksX15_of_0 8 rfl rfl)
theorem dX15_of_9 : decode cX15_of 9 = .ok (.lreturn, 1) := dk_173 (dk_at dksX15_of_0 9 rfl rfl)
theorem q127 : (Jvm.Cond.initialized "SnailPost$Value") ∈ lw_all := lw_g (lw_at lw_m1 25 rfl) rfl
theorem q316 : (Jvm.Cond.fieldLinkNest "SnailPost$Value" (13 : Nat) "SnailPost$Setting" "values" "[J" "SnailPost") ∈ lw_tbl := lw_at lw_m1 214 rfl
theorem q636 : (Jvm.Cond.selects "SnailPost$Value" ({ cls := "java/lang/Object", name := "getClass", desc := "()Ljava/lang/Class;" } : Jvm.MethodName) ({ cls := "java/lang/Object", name := "getClass", desc := "()Ljava/lang/Class;" } : Jvm.MethodName)) ∈ lw_all := lw_g (lw_at lw_m3 54 rfl) rfl
theorem q973 : (Jvm.Cond.instantiable "SnailPost$Value" (1 : Nat)) ∈ lw_all := lw_g (lw_at lw_m4 151 rfl) rfl
theorem q975 : (Jvm.Cond.instanceMethod ({ cls := "SnailPost$Value", name := "<init>", desc := "(I)V" } : Jvm.MethodName)) ∈ lw_all := lw_g (lw_at lw_m4 153 rfl) rfl
theorem q976 : (Jvm.Cond.code ({ cls := "SnailPost$Value", name := "<init>", desc := "(I)V" } : Jvm.MethodName) prog_20_method_1_code (2 : Nat) (Option.none : Option Jvm.ClassFile.FieldType)) ∈ lw_all := lw_g (lw_at lw_m4 154 rfl) rfl
theorem q977 : (Jvm.Cond.methodLinkNest "SnailPost$Value" (1 : Nat) ({ cls := "SnailPost$Sum", name := "<init>", desc := "()V" } : Jvm.MethodName) "SnailPost") ∈ lw_tbl := lw_at lw_m4 155 rfl
theorem q978 : (Jvm.Cond.fieldLink "SnailPost$Value" (7 : Nat) "SnailPost$Value" "which" "I") ∈ lw_all := lw_g (lw_at lw_m4 156 rfl) rfl
theorem q979 : (Jvm.Cond.laysFinal "SnailPost$Value" "SnailPost$Value" "which" "I") ∈ lw_all := lw_g (lw_at lw_m4 157 rfl) rfl
theorem q980 : (Jvm.Cond.soleField "SnailPost$Value" "which") ∈ lw_all := lw_g (lw_at lw_m4 158 rfl) rfl
theorem q981 : (Jvm.Cond.superclass "SnailPost$Value" "SnailPost$Sum") ∈ lw_all := lw_g (lw_at lw_m4 159 rfl) rfl
theorem q1191 : (Jvm.Cond.instanceMethod ({ cls := "SnailPost$Value", name := "of", desc := "(LSnailPost$Setting;)J" } : Jvm.MethodName)) ∈ lw_all := lw_g (lw_at lw_m5 129 rfl) rfl
theorem q1192 : (Jvm.Cond.code ({ cls := "SnailPost$Value", name := "of", desc := "(LSnailPost$Setting;)J" } : Jvm.MethodName) prog_20_method_2_code (2 : Nat) (Option.some Jvm.ClassFile.FieldType.long)) ∈ lw_all := lw_g (lw_at lw_m5 130 rfl) rfl
theorem q1195 : (Jvm.Cond.selects "SnailPost$Value" ({ cls := "SnailPost$Sum", name := "of", desc := "(LSnailPost$Setting;)J" } : Jvm.MethodName) ({ cls := "SnailPost$Value", name := "of", desc := "(LSnailPost$Setting;)J" } : Jvm.MethodName)) ∈ lw_all := lw_g (lw_at lw_m5 133 rfl) rfl
theorem q2089 : (Jvm.Cond.castable "SnailPost$Value" "java/lang/Object") ∈ lw_tbl := lw_at lw_m9 67 rfl
theorem in_X15 : ∀ w ∈ wsX150, w ∈ lw_all := lw_in wsX150 [979] (by decide +kernel) (by decide +kernel)
/-! SnailPost$Two -/
set_option maxRecDepth 100000
def RX16 : String := "SnailPost$Two"
def TX16 : u_T := fun k => match k with
  | 0 => ("SnailPost$Two", "sign", "C", true)
  | 1 => ("SnailPost$Two", "left", "LSnailPost$Sum;", true)
  | _ => ("SnailPost$Two", "right", "LSnailPost$Sum;", true)
def tyX16 : Nat → FieldType := fun k => match k with
  | 0 => .char
  | 1 => .object "SnailPost$Sum"
  | _ => .object "SnailPost$Sum"
abbrev wsX160 : List Cond := u_ws RX16 TX16 3
theorem nmX16 : ∀ a, a < 3 → ∀ b, b < 3 → a ≠ b → (TX16 a).2.1 ≠ (TX16 b).2.1 := by decide +kernel
theorem tyX16_ok : ∀ k, k < 3 → parseFieldDescriptor (TX16 k).2.2.1 = some (tyX16 k) := by decide +kernel
abbrev cX16_init : ByteArray := prog_19_method_1_code
def yX16_init : MethodName := ⟨RX16, "<init>", "(CLSnailPost$Sum;LSnailPost$Sum;)V"⟩
def dkwX16_init_0 : List UInt8 := [42, 183, 0, 3, 42, 27, 181, 0, 9, 42, 44, 181, 0, 15, 42, 45, 181, 0, 19, 177]
abbrev dktX16_init_0 : List UInt8 := dkwX16_init_0 ++ []
theorem dksX16_init_0 : cX16_init.data.toList.drop 0 = dktX16_init_0 := by decide +kernel
theorem dX16_init_0 : decode cX16_init 0 = .ok (.aload_n 0, 1) := dk_42 (dk_at dksX16_init_0 0 rfl rfl)
theorem dX16_init_1 : decode cX16_init 1 = .ok (.invokespecial 3, 3) := dk_183 0 3 (dk_at dksX16_init_0 1 rfl rfl)
theorem dX16_init_4 : decode cX16_init 4 = .ok (.aload_n 0, 1) := dk_42 (dk_at dksX16_init_0 4 rfl rfl)
theorem dX16_init_5 : decode cX16_init 5 = .ok (.iload_n 1, 1) := dk_27 (dk_at dksX16_init_0 5 rfl rfl)
theorem dX16_init_6 : decode cX16_init 6 = .ok (.putfield 9, 3) := dk_181 0 9 (dk_at dksX16_init_0 6 rfl rfl)
theorem dX16_init_9 : decode cX16_init 9 = .ok (.aload_n 0, 1) := dk_42 (dk_at dksX16_init_0 9 rfl rfl)
theorem dX16_init_10 : decode cX16_init 10 = .ok (.aload_n 2, 1) := dk_44 (dk_at dksX16_init_0 10 rfl rfl)
theorem dX16_init_11 : decode cX16_init 11 = .ok (.putfield 15, 3) := dk_181 0 15 (dk_at dksX16_init_0 11 rfl rfl)
theorem dX16_init_14 : decode cX16_init 14 = .ok (.aload_n 0, 1) := dk_42 (dk_at dksX16_init_0 14 rfl rfl)
theorem dX16_init_15 : decode cX16_init 15 = .ok (.aload_n 3, 1) := dk_45 (dk_at dksX16_init_0 15 rfl rfl)
theorem dX16_init_16 : decode cX16_init 16 = .ok (.putfield 19, 3) := dk_181 0 19 (dk_at dksX16_init_0 16 rfl rfl)
theorem dX16_init_19 : decode cX16_init 19 = .ok (.return_, 1) := dk_177 (dk_at dksX16_init_0 19 rfl rfl)
abbrev cX16_of : ByteArray := prog_19_method_2_code
def yX16_of : MethodName := ⟨RX16, "of", "(LSnailPost$Setting;)J"⟩
def dkwX16_of_5 : List UInt8 := [191, 22, 6, 173]
abbrev dktX16_of_5 : List UInt8 := dkwX16_of_5 ++ []
def dkwX16_of_4 : List UInt8 := [55, 6, 22, 6, 20, 0, 32, 148, 157, 0, 12, 22, 6, 20, 0, 34, 148, 156, 0, 8, 43, 180, 0, 26]
abbrev dktX16_of_4 : List UInt8 := dkwX16_of_4 ++ dktX16_of_5
def dkwX16_of_3 : List UInt8 := [167, 0, 23, 42, 180, 0, 9, 16, 42, 160, 0, 10, 32, 22, 4, 105, 167, 0, 7, 32, 22, 4, 109]
abbrev dktX16_of_3 : List UInt8 := dkwX16_of_3 ++ dktX16_of_4
def dkwX16_of_2 : List UInt8 := [160, 0, 10, 32, 22, 4, 97, 167, 0, 39, 42, 180, 0, 9, 16, 45, 160, 0, 10, 32, 22, 4, 101]
abbrev dktX16_of_2 : List UInt8 := dkwX16_of_2 ++ dktX16_of_3
def dkwX16_of_1 : List UInt8 := [16, 47, 160, 0, 15, 22, 4, 9, 148, 154, 0, 8, 43, 180, 0, 26, 191, 42, 180, 0, 9, 16, 43]
abbrev dktX16_of_1 : List UInt8 := dkwX16_of_1 ++ dktX16_of_2
def dkwX16_of_0 : List UInt8 := [42, 180, 0, 15, 43, 182, 0, 22, 65, 42, 180, 0, 19, 43, 182, 0, 22, 55, 4, 42, 180, 0, 9]
abbrev dktX16_of_0 : List UInt8 := dkwX16_of_0 ++ dktX16_of_1
theorem dksX16_of_0 : cX16_of.data.toList.drop 0 = dktX16_of_0 := by decide +kernel
theorem dksX16_of_1 : cX16_of.data.toList.drop 23 = dktX16_of_1 := dk_seg dksX16_of_0 23 rfl rfl
theorem dksX16_of_2 : cX16_of.data.toList.drop 46 = dktX16_of_2 := dk_seg dksX16_of_1 23 rfl rfl
theorem dksX16_of_3 : cX16_of.data.toList.drop 69 = dktX16_of_3 := dk_seg dksX16_of_2 23 rfl rfl
theorem dksX16_of_4 : cX16_of.data.toList.drop 92 = dktX16_of_4 := dk_seg dksX16_of_3 23 rfl rfl
theorem dksX16_of_5 : cX16_of.data.toList.drop 116 = dktX16_of_5 := dk_seg dksX16_of_4 24 rfl rfl
theorem dX16_of_0 : decode cX16_of 0 = .ok (.aload_n 0, 1) := dk_42 (dk_at dksX16_of_0 0 rfl rfl)
theorem dX16_of_1 : decode cX16_of 1 = .ok (.getfield 15, 3) := dk_180 0 15 (dk_at dksX16_of_0 1 rfl rfl)
theorem dX16_of_4 : decode cX16_of 4 = .ok (.aload_n 1, 1) := dk_43 (dk_at dksX16_of_0 4 rfl rfl)
theorem dX16_of_5 : decode cX16_of 5 = .ok (.invokevirtual 22, 3) := dk_182 0 22 (dk_at dksX16_of_0 5 rfl rfl)
theorem dX16_of_8 : decode cX16_of 8 = .ok (.lstore_n 2, 1) := dk_65 (dk_at dksX16_of_0 8 rfl rfl)
theorem dX16_of_9 : decode cX16_of 9 = .ok (.aload_n 0, 1) := dk_42 (dk_at dksX16_of_0 9 rfl rfl)
theorem dX16_of_10 : decode cX16_of 10 = .ok (.getfield 19, 3) := dk_180 0 19 (dk_at dksX16_of_0 10 rfl rfl)
theorem dX16_of_13 : decode cX16_of 13 = .ok (.aload_n 1, 1) := dk_43 (dk_at dksX16_of_0 13 rfl rfl)
theorem dX16_of_14 : decode cX16_of 14 = .ok (.invokevirtual 22, 3) := dk_182 0 22 (dk_at dksX16_of_0 14 rfl rfl)
theorem dX16_of_17 : decode cX16_of 17 = .ok (.lstore 4, 2) := dk_55 4 (dk_at dksX16_of_0 17 rfl rfl)
theorem dX16_of_19 : decode cX16_of 19 = .ok (.aload_n 0, 1) := dk_42 (dk_at dksX16_of_0 19 rfl rfl)
theorem dX16_of_20 : decode cX16_of 20 = .ok (.getfield 9, 3) := dk_180 0 9 (dk_at dksX16_of_0 20 rfl rfl)
theorem dX16_of_23 : decode cX16_of 23 = .ok (.bipush 47, 2) := dk_16 47 (dk_at dksX16_of_1 0 rfl rfl)
theorem dX16_of_25 : decode cX16_of 25 = .ok (.if_icmp .ne 15, 3) := dk_160 0 15 (dk_at dksX16_of_1 2 rfl rfl)
theorem dX16_of_28 : decode cX16_of 28 = .ok (.lload 4, 2) := dk_22 4 (dk_at dksX16_of_1 5 rfl rfl)
theorem dX16_of_30 : decode cX16_of 30 = .ok (.lconst 0, 1) := dk_9 (dk_at dksX16_of_1 7 rfl rfl)
theorem dX16_of_31 : decode cX16_of 31 = .ok (.lcmp, 1) := dk_148 (dk_at dksX16_of_1 8 rfl rfl)
theorem dX16_of_32 : decode cX16_of 32 = .ok (.ifCond .ne 8, 3) := dk_154 0 8 (dk_at dksX16_of_1 9 rfl rfl)
theorem dX16_of_35 : decode cX16_of 35 = .ok (.aload_n 1, 1) := dk_43 (dk_at dksX16_of_1 12 rfl rfl)
theorem dX16_of_36 : decode cX16_of 36 = .ok (.getfield 26, 3) := dk_180 0 26 (dk_at dksX16_of_1 13 rfl rfl)
theorem dX16_of_39 : decode cX16_of 39 = .ok (.athrow, 1) := dk_191 (dk_at dksX16_of_1 16 rfl rfl)
theorem dX16_of_40 : decode cX16_of 40 = .ok (.aload_n 0, 1) := dk_42 (dk_at dksX16_of_1 17 rfl rfl)
theorem dX16_of_41 : decode cX16_of 41 = .ok (.getfield 9, 3) := dk_180 0 9 (dk_at dksX16_of_1 18 rfl rfl)
theorem dX16_of_44 : decode cX16_of 44 = .ok (.bipush 43, 2) := dk_16 43 (dk_at dksX16_of_1 21 rfl rfl)
theorem dX16_of_46 : decode cX16_of 46 = .ok (.if_icmp .ne 10, 3) := dk_160 0 10 (dk_at dksX16_of_2 0 rfl rfl)
theorem dX16_of_49 : decode cX16_of 49 = .ok (.lload_n 2, 1) := dk_32 (dk_at dksX16_of_2 3 rfl rfl)
theorem dX16_of_50 : decode cX16_of 50 = .ok (.lload 4, 2) := dk_22 4 (dk_at dksX16_of_2 4 rfl rfl)
theorem dX16_of_52 : decode cX16_of 52 = .ok (.ladd, 1) := dk_97 (dk_at dksX16_of_2 6 rfl rfl)
theorem dX16_of_53 : decode cX16_of 53 = .ok (.goto 39, 3) := dk_167 0 39 (dk_at dksX16_of_2 7 rfl rfl)
theorem dX16_of_56 : decode cX16_of 56 = .ok (.aload_n 0, 1) := dk_42 (dk_at dksX16_of_2 10 rfl rfl)
theorem dX16_of_57 : decode cX16_of 57 = .ok (.getfield 9, 3) := dk_180 0 9 (dk_at dksX16_of_2 11 rfl rfl)
theorem dX16_of_60 : decode cX16_of 60 = .ok (.bipush 45, 2) := dk_16 45 (dk_at dksX16_of_2 14 rfl rfl)
theorem dX16_of_62 : decode cX16_of 62 = .ok (.if_icmp .ne 10, 3) := dk_160 0 10 (dk_at dksX16_of_2 16 rfl rfl)
theorem dX16_of_65 : decode cX16_of 65 = .ok (.lload_n 2, 1) := dk_32 (dk_at dksX16_of_2 19 rfl rfl)
theorem dX16_of_66 : decode cX16_of 66 = .ok (.lload 4, 2) := dk_22 4 (dk_at dksX16_of_2 20 rfl rfl)
theorem dX16_of_68 : decode cX16_of 68 = .ok (.lsub, 1) := dk_101 (dk_at dksX16_of_2 22 rfl rfl)
theorem dX16_of_69 : decode cX16_of 69 = .ok (.goto 23, 3) := dk_167 0 23 (dk_at dksX16_of_3 0 rfl rfl)
theorem dX16_of_72 : decode cX16_of 72 = .ok (.aload_n 0, 1) := dk_42 (dk_at dksX16_of_3 3 rfl rfl)
theorem dX16_of_73 : decode cX16_of 73 = .ok (.getfield 9, 3) := dk_180 0 9 (dk_at dksX16_of_3 4 rfl rfl)
theorem dX16_of_76 : decode cX16_of 76 = .ok (.bipush 42, 2) := dk_16 42 (dk_at dksX16_of_3 7 rfl rfl)
theorem dX16_of_78 : decode cX16_of 78 = .ok (.if_icmp .ne 10, 3) := dk_160 0 10 (dk_at dksX16_of_3 9 rfl rfl)
theorem dX16_of_81 : decode cX16_of 81 = .ok (.lload_n 2, 1) := dk_32 (dk_at dksX16_of_3 12 rfl rfl)
theorem dX16_of_82 : decode cX16_of 82 = .ok (.lload 4, 2) := dk_22 4 (dk_at dksX16_of_3 13 rfl rfl)
theorem dX16_of_84 : decode cX16_of 84 = .ok (.lmul, 1) := dk_105 (dk_at dksX16_of_3 15 rfl rfl)
theorem dX16_of_85 : decode cX16_of 85 = .ok (.goto 7, 3) := dk_167 0 7 (dk_at dksX16_of_3 16 rfl rfl)
theorem dX16_of_88 : decode cX16_of 88 = .ok (.lload_n 2, 1) := dk_32 (dk_at dksX16_of_3 19 rfl rfl)
theorem dX16_of_89 : decode cX16_of 89 = .ok (.lload 4, 2) := dk_22 4 (dk_at dksX16_of_3 20 rfl rfl)
theorem dX16_of_91 : decode cX16_of 91 = .ok (.ldiv, 1) := dk_109 (dk_at dksX16_of_3 22 rfl rfl)
theorem dX16_of_92 : decode cX16_of 92 = .ok (.lstore 6, 2) := dk_55 6 (dk_at dksX16_of_4 0 rfl rfl)
theorem dX16_of_94 : decode cX16_of 94 = .ok (.lload 6, 2) := dk_22 6 (dk_at dksX16_of_4 2 rfl rfl)
theorem dX16_of_96 : decode cX16_of 96 = .ok (.ldc2_w 32, 3) := dk_20 0 32 (dk_at dksX16_of_4 4 rfl rfl)
theorem dX16_of_99 : decode cX16_of 99 = .ok (.lcmp, 1) := dk_148 (dk_at dksX16_of_4 7 rfl rfl)
theorem dX16_of_100 : decode cX16_of 100 = .ok (.ifCond .gt 12, 3) := dk_157 0 12 (dk_at dksX16_of_4 8 rfl rfl)
theorem dX16_of_103 : decode cX16_of 103 = .ok (.lload 6, 2) := dk_22 6 (dk_at dksX16_of_4 11 rfl rfl)
theorem dX16_of_105 : decode cX16_of 105 = .ok (.ldc2_w 34, 3) := dk_20 0 34 (dk_at dksX16_of_4 13 rfl rfl)
theorem dX16_of_108 : decode cX16_of 108 = .ok (.lcmp, 1) := dk_148 (dk_at dksX16_of_4 16 rfl rfl)
theorem dX16_of_109 : decode cX16_of 109 = .ok (.ifCond .ge 8, 3) := dk_156 0 8 (dk_at dksX16_of_4 17 rfl rfl)
theorem dX16_of_112 : decode cX16_of 112 = .ok (.aload_n 1, 1) := dk_43 (dk_at dksX16_of_4 20 rfl rfl)
theorem dX16_of_113 : decode cX16_of 113 = .ok (.getfield 26, 3) := dk_180 0 26 (dk_at dksX16_of_4 21 rfl rfl)
theorem dX16_of_116 : decode cX16_of 116 = .ok (.athrow, 1) := dk_191 (dk_at dksX16_of_5 0 rfl rfl)
theorem dX16_of_117 : decode cX16_of 117 = .ok (.lload 6, 2) := dk_22 6 (dk_at dksX16_of_5 1 rfl rfl)
theorem dX16_of_119 : decode cX16_of 119 = .ok (.lreturn, 1) := dk_173 (dk_at dksX16_of_5 3 rfl rfl)
theorem q128 : (Jvm.Cond.initialized "SnailPost$Two") ∈ lw_all := lw_g (lw_at lw_m1 26 rfl) rfl
theorem q314 : (Jvm.Cond.fieldLinkNest "SnailPost$Two" (26 : Nat) "SnailPost$Setting" "broken" "LSnailPost$Broken;" "SnailPost") ∈ lw_tbl := lw_at lw_m1 212 rfl
theorem q635 : (Jvm.Cond.selects "SnailPost$Two" ({ cls := "java/lang/Object", name := "getClass", desc := "()Ljava/lang/Class;" } : Jvm.MethodName) ({ cls := "java/lang/Object", name := "getClass", desc := "()Ljava/lang/Class;" } : Jvm.MethodName)) ∈ lw_all := lw_g (lw_at lw_m3 53 rfl) rfl
theorem q985 : (Jvm.Cond.instantiable "SnailPost$Two" (3 : Nat)) ∈ lw_all := lw_g (lw_at lw_m4 163 rfl) rfl
theorem q987 : (Jvm.Cond.instanceMethod ({ cls := "SnailPost$Two", name := "<init>", desc := "(CLSnailPost$Sum;LSnailPost$Sum;)V" } : Jvm.MethodName)) ∈ lw_all := lw_g (lw_at lw_m4 165 rfl) rfl
theorem q988 : (Jvm.Cond.code ({ cls := "SnailPost$Two", name := "<init>", desc := "(CLSnailPost$Sum;LSnailPost$Sum;)V" } : Jvm.MethodName) prog_19_method_1_code (4 : Nat) (Option.none : Option Jvm.ClassFile.FieldType)) ∈ lw_all := lw_g (lw_at lw_m4 166 rfl) rfl
theorem q989 : (Jvm.Cond.methodLinkNest "SnailPost$Two" (3 : Nat) ({ cls := "SnailPost$Sum", name := "<init>", desc := "()V" } : Jvm.MethodName) "SnailPost") ∈ lw_tbl := lw_at lw_m4 167 rfl
theorem q990 : (Jvm.Cond.fieldLink "SnailPost$Two" (9 : Nat) "SnailPost$Two" "sign" "C") ∈ lw_all := lw_g (lw_at lw_m4 168 rfl) rfl
theorem q991 : (Jvm.Cond.fieldLink "SnailPost$Two" (15 : Nat) "SnailPost$Two" "left" "LSnailPost$Sum;") ∈ lw_all := lw_g (lw_at lw_m4 169 rfl) rfl
theorem q992 : (Jvm.Cond.fieldLink "SnailPost$Two" (19 : Nat) "SnailPost$Two" "right" "LSnailPost$Sum;") ∈ lw_all := lw_g (lw_at lw_m4 170 rfl) rfl
theorem q993 : (Jvm.Cond.laysFinal "SnailPost$Two" "SnailPost$Two" "sign" "C") ∈ lw_all := lw_g (lw_at lw_m4 171 rfl) rfl
theorem q994 : (Jvm.Cond.soleField "SnailPost$Two" "sign") ∈ lw_all := lw_g (lw_at lw_m4 172 rfl) rfl
theorem q995 : (Jvm.Cond.laysFinal "SnailPost$Two" "SnailPost$Two" "left" "LSnailPost$Sum;") ∈ lw_all := lw_g (lw_at lw_m4 173 rfl) rfl
theorem q996 : (Jvm.Cond.soleField "SnailPost$Two" "left") ∈ lw_all := lw_g (lw_at lw_m4 174 rfl) rfl
theorem q997 : (Jvm.Cond.laysFinal "SnailPost$Two" "SnailPost$Two" "right" "LSnailPost$Sum;") ∈ lw_all := lw_g (lw_at lw_m4 175 rfl) rfl
theorem q998 : (Jvm.Cond.soleField "SnailPost$Two" "right") ∈ lw_all := lw_g (lw_at lw_m4 176 rfl) rfl
theorem q999 : (Jvm.Cond.superclass "SnailPost$Two" "SnailPost$Sum") ∈ lw_all := lw_g (lw_at lw_m4 177 rfl) rfl
theorem q1187 : (Jvm.Cond.selects "SnailPost$Two" ({ cls := "SnailPost$Sum", name := "of", desc := "(LSnailPost$Setting;)J" } : Jvm.MethodName) ({ cls := "SnailPost$Two", name := "of", desc := "(LSnailPost$Setting;)J" } : Jvm.MethodName)) ∈ lw_all := lw_g (lw_at lw_m5 125 rfl) rfl
theorem q1188 : (Jvm.Cond.instanceMethod ({ cls := "SnailPost$Two", name := "of", desc := "(LSnailPost$Setting;)J" } : Jvm.MethodName)) ∈ lw_all := lw_g (lw_at lw_m5 126 rfl) rfl
theorem q1189 : (Jvm.Cond.code ({ cls := "SnailPost$Two", name := "of", desc := "(LSnailPost$Setting;)J" } : Jvm.MethodName) prog_19_method_2_code (8 : Nat) (Option.some Jvm.ClassFile.FieldType.long)) ∈ lw_all := lw_g (lw_at lw_m5 127 rfl) rfl
theorem q1190 : (Jvm.Cond.methodLink "SnailPost$Two" (22 : Nat) ({ cls := "SnailPost$Sum", name := "of", desc := "(LSnailPost$Setting;)J" } : Jvm.MethodName)) ∈ lw_all := lw_g (lw_at lw_m5 128 rfl) rfl
theorem q1193 : (Jvm.Cond.constantLong "SnailPost$Two" (32 : Nat) (1000000000 : Int64)) ∈ lw_all := lw_g (lw_at lw_m5 131 rfl) rfl
theorem q1194 : (Jvm.Cond.constantLong "SnailPost$Two" (34 : Nat) (-1000000000 : Int64)) ∈ lw_all := lw_g (lw_at lw_m5 132 rfl) rfl
theorem q2090 : (Jvm.Cond.castable "SnailPost$Two" "java/lang/Object") ∈ lw_tbl := lw_at lw_m9 68 rfl
theorem in_X16 : ∀ w ∈ wsX160, w ∈ lw_all := lw_in wsX160 [993, 995, 997] (by decide +kernel) (by decide +kernel)
/-! SnailPost$Test -/
set_option maxRecDepth 100000
def RX17 : String := "SnailPost$Test"
abbrev cX17_init : ByteArray := prog_18_method_1_code
def yX17_init : MethodName := ⟨RX17, "<init>", "()V"⟩
theorem dX17_init_0 : decode cX17_init 0 = .ok (.aload_n 0, 1) := by decide +kernel
theorem dX17_init_1 : decode cX17_init 1 = .ok (.invokespecial 1, 3) := by decide +kernel
theorem dX17_init_4 : decode cX17_init 4 = .ok (.return_, 1) := by decide +kernel
theorem q129 : (Jvm.Cond.initialized "SnailPost$Test") ∈ lw_all := lw_g (lw_at lw_m1 27 rfl) rfl
theorem q1031 : (Jvm.Cond.instanceMethod ({ cls := "SnailPost$Test", name := "<init>", desc := "()V" } : Jvm.MethodName)) ∈ lw_all := lw_g (lw_at lw_m4 209 rfl) rfl
theorem q1032 : (Jvm.Cond.code ({ cls := "SnailPost$Test", name := "<init>", desc := "()V" } : Jvm.MethodName) prog_18_method_1_code (1 : Nat) (Option.none : Option Jvm.ClassFile.FieldType)) ∈ lw_all := lw_g (lw_at lw_m4 210 rfl) rfl
theorem q1033 : (Jvm.Cond.methodLink "SnailPost$Test" (1 : Nat) ({ cls := "java/lang/Object", name := "<init>", desc := "()V" } : Jvm.MethodName)) ∈ lw_all := lw_g (lw_at lw_m4 211 rfl) rfl
theorem q1176 : (Jvm.Cond.declares ({ cls := "SnailPost$Test", name := "is", desc := "(LSnailPost$Setting;)Z" } : Jvm.MethodName)) ∈ lw_tbl := lw_at lw_m5 114 rfl
theorem q1177 : (Jvm.Cond.sameMethod "SnailPost$Test" "SnailPost$Test" "is" "(LSnailPost$Setting;)Z") ∈ lw_all := lw_g (lw_at lw_m5 115 rfl) rfl
/-! SnailPost$Compare -/
set_option maxRecDepth 100000
def RX18 : String := "SnailPost$Compare"
def TX18 : u_T := fun k => match k with
  | 0 => ("SnailPost$Compare", "sign", "C", true)
  | 1 => ("SnailPost$Compare", "left", "LSnailPost$Sum;", true)
  | _ => ("SnailPost$Compare", "right", "LSnailPost$Sum;", true)
def tyX18 : Nat → FieldType := fun k => match k with
  | 0 => .char
  | 1 => .object "SnailPost$Sum"
  | _ => .object "SnailPost$Sum"
abbrev wsX180 : List Cond := u_ws RX18 TX18 3
theorem nmX18 : ∀ a, a < 3 → ∀ b, b < 3 → a ≠ b → (TX18 a).2.1 ≠ (TX18 b).2.1 := by decide +kernel
theorem tyX18_ok : ∀ k, k < 3 → parseFieldDescriptor (TX18 k).2.2.1 = some (tyX18 k) := by decide +kernel
abbrev cX18_init : ByteArray := prog_4_method_1_code
def yX18_init : MethodName := ⟨RX18, "<init>", "(CLSnailPost$Sum;LSnailPost$Sum;)V"⟩
def dkwX18_init_0 : List UInt8 := [42, 183, 0, 1, 42, 27, 181, 0, 7, 42, 44, 181, 0, 13, 42, 45, 181, 0, 17, 177]
abbrev dktX18_init_0 : List UInt8 := dkwX18_init_0 ++ []
theorem dksX18_init_0 : cX18_init.data.toList.drop 0 = dktX18_init_0 := by decide +kernel
theorem dX18_init_0 : decode cX18_init 0 = .ok (.aload_n 0, 1) := dk_42 (dk_at dksX18_init_0 0 rfl rfl)
theorem dX18_init_1 : decode cX18_init 1 = .ok (.invokespecial 1, 3) := dk_183 0 1 (dk_at dksX18_init_0 1 rfl rfl)
theorem dX18_init_4 : decode cX18_init 4 = .ok (.aload_n 0, 1) := dk_42 (dk_at dksX18_init_0 4 rfl rfl)
theorem dX18_init_5 : decode cX18_init 5 = .ok (.iload_n 1, 1) := dk_27 (dk_at dksX18_init_0 5 rfl rfl)
theorem dX18_init_6 : decode cX18_init 6 = .ok (.putfield 7, 3) := dk_181 0 7 (dk_at dksX18_init_0 6 rfl rfl)
theorem dX18_init_9 : decode cX18_init 9 = .ok (.aload_n 0, 1) := dk_42 (dk_at dksX18_init_0 9 rfl rfl)
theorem dX18_init_10 : decode cX18_init 10 = .ok (.aload_n 2, 1) := dk_44 (dk_at dksX18_init_0 10 rfl rfl)
theorem dX18_init_11 : decode cX18_init 11 = .ok (.putfield 13, 3) := dk_181 0 13 (dk_at dksX18_init_0 11 rfl rfl)
theorem dX18_init_14 : decode cX18_init 14 = .ok (.aload_n 0, 1) := dk_42 (dk_at dksX18_init_0 14 rfl rfl)
theorem dX18_init_15 : decode cX18_init 15 = .ok (.aload_n 3, 1) := dk_45 (dk_at dksX18_init_0 15 rfl rfl)
theorem dX18_init_16 : decode cX18_init 16 = .ok (.putfield 17, 3) := dk_181 0 17 (dk_at dksX18_init_0 16 rfl rfl)
theorem dX18_init_19 : decode cX18_init 19 = .ok (.return_, 1) := dk_177 (dk_at dksX18_init_0 19 rfl rfl)
abbrev cX18_is : ByteArray := prog_4_method_2_code
def yX18_is : MethodName := ⟨RX18, "is", "(LSnailPost$Setting;)Z"⟩
def dkwX18_is_3 : List UInt8 := [154, 0, 7, 4, 167, 0, 4, 3, 172]
abbrev dktX18_is_3 : List UInt8 := dkwX18_is_3 ++ []
def dkwX18_is_2 : List UInt8 := [16, 62, 160, 0, 18, 32, 22, 4, 148, 158, 0, 7, 4, 167, 0, 19, 3, 167, 0, 15, 32, 22, 4, 148]
abbrev dktX18_is_2 : List UInt8 := dkwX18_is_2 ++ dktX18_is_3
def dkwX18_is_1 : List UInt8 := [16, 60, 160, 0, 18, 32, 22, 4, 148, 156, 0, 7, 4, 167, 0, 43, 3, 167, 0, 39, 42, 180, 0, 7]
abbrev dktX18_is_1 : List UInt8 := dkwX18_is_1 ++ dktX18_is_2
def dkwX18_is_0 : List UInt8 := [42, 180, 0, 13, 43, 182, 0, 20, 65, 42, 180, 0, 17, 43, 182, 0, 20, 55, 4, 42, 180, 0, 7]
abbrev dktX18_is_0 : List UInt8 := dkwX18_is_0 ++ dktX18_is_1
theorem dksX18_is_0 : cX18_is.data.toList.drop 0 = dktX18_is_0 := by decide +kernel
theorem dksX18_is_1 : cX18_is.data.toList.drop 23 = dktX18_is_1 := dk_seg dksX18_is_0 23 rfl rfl
theorem dksX18_is_2 : cX18_is.data.toList.drop 47 = dktX18_is_2 := dk_seg dksX18_is_1 24 rfl rfl
theorem dksX18_is_3 : cX18_is.data.toList.drop 71 = dktX18_is_3 := dk_seg dksX18_is_2 24 rfl rfl
theorem dX18_is_0 : decode cX18_is 0 = .ok (.aload_n 0, 1) := dk_42 (dk_at dksX18_is_0 0 rfl rfl)
theorem dX18_is_1 : decode cX18_is 1 = .ok (.getfield 13, 3) := dk_180 0 13 (dk_at dksX18_is_0 1 rfl rfl)
theorem dX18_is_4 : decode cX18_is 4 = .ok (.aload_n 1, 1) := dk_43 (dk_at dksX18_is_0 4 rfl rfl)
theorem dX18_is_5 : decode cX18_is 5 = .ok (.invokevirtual 20, 3) := dk_182 0 20 (dk_at dksX18_is_0 5 rfl rfl)
theorem dX18_is_8 : decode cX18_is 8 = .ok (.lstore_n 2, 1) := dk_65 (dk_at dksX18_is_0 8 rfl rfl)
theorem dX18_is_9 : decode cX18_is 9 = .ok (.aload_n 0, 1) := dk_42 (dk_at dksX18_is_0 9 rfl rfl)
theorem dX18_is_10 : decode cX18_is 10 = .ok (.getfield 17, 3) := dk_180 0 17 (dk_at dksX18_is_0 10 rfl rfl)
theorem dX18_is_13 : decode cX18_is 13 = .ok (.aload_n 1, 1) := dk_43 (dk_at dksX18_is_0 13 rfl rfl)
theorem dX18_is_14 : decode cX18_is 14 = .ok (.invokevirtual 20, 3) := dk_182 0 20 (dk_at dksX18_is_0 14 rfl rfl)
theorem dX18_is_17 : decode cX18_is 17 = .ok (.lstore 4, 2) := dk_55 4 (dk_at dksX18_is_0 17 rfl rfl)
theorem dX18_is_19 : decode cX18_is 19 = .ok (.aload_n 0, 1) := dk_42 (dk_at dksX18_is_0 19 rfl rfl)
theorem dX18_is_20 : decode cX18_is 20 = .ok (.getfield 7, 3) := dk_180 0 7 (dk_at dksX18_is_0 20 rfl rfl)
theorem dX18_is_23 : decode cX18_is 23 = .ok (.bipush 60, 2) := dk_16 60 (dk_at dksX18_is_1 0 rfl rfl)
theorem dX18_is_25 : decode cX18_is 25 = .ok (.if_icmp .ne 18, 3) := dk_160 0 18 (dk_at dksX18_is_1 2 rfl rfl)
theorem dX18_is_28 : decode cX18_is 28 = .ok (.lload_n 2, 1) := dk_32 (dk_at dksX18_is_1 5 rfl rfl)
theorem dX18_is_29 : decode cX18_is 29 = .ok (.lload 4, 2) := dk_22 4 (dk_at dksX18_is_1 6 rfl rfl)
theorem dX18_is_31 : decode cX18_is 31 = .ok (.lcmp, 1) := dk_148 (dk_at dksX18_is_1 8 rfl rfl)
theorem dX18_is_32 : decode cX18_is 32 = .ok (.ifCond .ge 7, 3) := dk_156 0 7 (dk_at dksX18_is_1 9 rfl rfl)
theorem dX18_is_35 : decode cX18_is 35 = .ok (.iconst 1, 1) := dk_4 (dk_at dksX18_is_1 12 rfl rfl)
theorem dX18_is_36 : decode cX18_is 36 = .ok (.goto 43, 3) := dk_167 0 43 (dk_at dksX18_is_1 13 rfl rfl)
theorem dX18_is_39 : decode cX18_is 39 = .ok (.iconst 0, 1) := dk_3 (dk_at dksX18_is_1 16 rfl rfl)
theorem dX18_is_40 : decode cX18_is 40 = .ok (.goto 39, 3) := dk_167 0 39 (dk_at dksX18_is_1 17 rfl rfl)
theorem dX18_is_43 : decode cX18_is 43 = .ok (.aload_n 0, 1) := dk_42 (dk_at dksX18_is_1 20 rfl rfl)
theorem dX18_is_44 : decode cX18_is 44 = .ok (.getfield 7, 3) := dk_180 0 7 (dk_at dksX18_is_1 21 rfl rfl)
theorem dX18_is_47 : decode cX18_is 47 = .ok (.bipush 62, 2) := dk_16 62 (dk_at dksX18_is_2 0 rfl rfl)
theorem dX18_is_49 : decode cX18_is 49 = .ok (.if_icmp .ne 18, 3) := dk_160 0 18 (dk_at dksX18_is_2 2 rfl rfl)
theorem dX18_is_52 : decode cX18_is 52 = .ok (.lload_n 2, 1) := dk_32 (dk_at dksX18_is_2 5 rfl rfl)
theorem dX18_is_53 : decode cX18_is 53 = .ok (.lload 4, 2) := dk_22 4 (dk_at dksX18_is_2 6 rfl rfl)
theorem dX18_is_55 : decode cX18_is 55 = .ok (.lcmp, 1) := dk_148 (dk_at dksX18_is_2 8 rfl rfl)
theorem dX18_is_56 : decode cX18_is 56 = .ok (.ifCond .le 7, 3) := dk_158 0 7 (dk_at dksX18_is_2 9 rfl rfl)
theorem dX18_is_59 : decode cX18_is 59 = .ok (.iconst 1, 1) := dk_4 (dk_at dksX18_is_2 12 rfl rfl)
theorem dX18_is_60 : decode cX18_is 60 = .ok (.goto 19, 3) := dk_167 0 19 (dk_at dksX18_is_2 13 rfl rfl)
theorem dX18_is_63 : decode cX18_is 63 = .ok (.iconst 0, 1) := dk_3 (dk_at dksX18_is_2 16 rfl rfl)
theorem dX18_is_64 : decode cX18_is 64 = .ok (.goto 15, 3) := dk_167 0 15 (dk_at dksX18_is_2 17 rfl rfl)
theorem dX18_is_67 : decode cX18_is 67 = .ok (.lload_n 2, 1) := dk_32 (dk_at dksX18_is_2 20 rfl rfl)
theorem dX18_is_68 : decode cX18_is 68 = .ok (.lload 4, 2) := dk_22 4 (dk_at dksX18_is_2 21 rfl rfl)
theorem dX18_is_70 : decode cX18_is 70 = .ok (.lcmp, 1) := dk_148 (dk_at dksX18_is_2 23 rfl rfl)
theorem dX18_is_71 : decode cX18_is 71 = .ok (.ifCond .ne 7, 3) := dk_154 0 7 (dk_at dksX18_is_3 0 rfl rfl)
theorem dX18_is_74 : decode cX18_is 74 = .ok (.iconst 1, 1) := dk_4 (dk_at dksX18_is_3 3 rfl rfl)
theorem dX18_is_75 : decode cX18_is 75 = .ok (.goto 4, 3) := dk_167 0 4 (dk_at dksX18_is_3 4 rfl rfl)
theorem dX18_is_78 : decode cX18_is 78 = .ok (.iconst 0, 1) := dk_3 (dk_at dksX18_is_3 7 rfl rfl)
theorem dX18_is_79 : decode cX18_is 79 = .ok (.ireturn, 1) := dk_172 (dk_at dksX18_is_3 8 rfl rfl)
theorem q130 : (Jvm.Cond.initialized "SnailPost$Compare") ∈ lw_all := lw_g (lw_at lw_m1 28 rfl) rfl
theorem q622 : (Jvm.Cond.selects "SnailPost$Compare" ({ cls := "java/lang/Object", name := "getClass", desc := "()Ljava/lang/Class;" } : Jvm.MethodName) ({ cls := "java/lang/Object", name := "getClass", desc := "()Ljava/lang/Class;" } : Jvm.MethodName)) ∈ lw_all := lw_g (lw_at lw_m3 40 rfl) rfl
theorem q1026 : (Jvm.Cond.instantiable "SnailPost$Compare" (3 : Nat)) ∈ lw_all := lw_g (lw_at lw_m4 204 rfl) rfl
theorem q1028 : (Jvm.Cond.instanceMethod ({ cls := "SnailPost$Compare", name := "<init>", desc := "(CLSnailPost$Sum;LSnailPost$Sum;)V" } : Jvm.MethodName)) ∈ lw_all := lw_g (lw_at lw_m4 206 rfl) rfl
theorem q1029 : (Jvm.Cond.code ({ cls := "SnailPost$Compare", name := "<init>", desc := "(CLSnailPost$Sum;LSnailPost$Sum;)V" } : Jvm.MethodName) prog_4_method_1_code (4 : Nat) (Option.none : Option Jvm.ClassFile.FieldType)) ∈ lw_all := lw_g (lw_at lw_m4 207 rfl) rfl
theorem q1030 : (Jvm.Cond.methodLinkNest "SnailPost$Compare" (1 : Nat) ({ cls := "SnailPost$Test", name := "<init>", desc := "()V" } : Jvm.MethodName) "SnailPost") ∈ lw_tbl := lw_at lw_m4 208 rfl
theorem q1034 : (Jvm.Cond.fieldLink "SnailPost$Compare" (7 : Nat) "SnailPost$Compare" "sign" "C") ∈ lw_all := lw_g (lw_at lw_m4 212 rfl) rfl
theorem q1035 : (Jvm.Cond.fieldLink "SnailPost$Compare" (13 : Nat) "SnailPost$Compare" "left" "LSnailPost$Sum;") ∈ lw_all := lw_g (lw_at lw_m4 213 rfl) rfl
theorem q1036 : (Jvm.Cond.fieldLink "SnailPost$Compare" (17 : Nat) "SnailPost$Compare" "right" "LSnailPost$Sum;") ∈ lw_all := lw_g (lw_at lw_m4 214 rfl) rfl
theorem q1037 : (Jvm.Cond.laysFinal "SnailPost$Compare" "SnailPost$Compare" "sign" "C") ∈ lw_all := lw_g (lw_at lw_m4 215 rfl) rfl
theorem q1038 : (Jvm.Cond.soleField "SnailPost$Compare" "sign") ∈ lw_all := lw_g (lw_at lw_m4 216 rfl) rfl
theorem q1039 : (Jvm.Cond.laysFinal "SnailPost$Compare" "SnailPost$Compare" "left" "LSnailPost$Sum;") ∈ lw_all := lw_g (lw_at lw_m4 217 rfl) rfl
theorem q1040 : (Jvm.Cond.soleField "SnailPost$Compare" "left") ∈ lw_all := lw_g (lw_at lw_m4 218 rfl) rfl
theorem q1041 : (Jvm.Cond.laysFinal "SnailPost$Compare" "SnailPost$Compare" "right" "LSnailPost$Sum;") ∈ lw_all := lw_g (lw_at lw_m4 219 rfl) rfl
theorem q1042 : (Jvm.Cond.soleField "SnailPost$Compare" "right") ∈ lw_all := lw_g (lw_at lw_m4 220 rfl) rfl
theorem q1043 : (Jvm.Cond.superclass "SnailPost$Compare" "SnailPost$Test") ∈ lw_all := lw_g (lw_at lw_m4 221 rfl) rfl
theorem q1178 : (Jvm.Cond.selects "SnailPost$Compare" ({ cls := "SnailPost$Test", name := "is", desc := "(LSnailPost$Setting;)Z" } : Jvm.MethodName) ({ cls := "SnailPost$Compare", name := "is", desc := "(LSnailPost$Setting;)Z" } : Jvm.MethodName)) ∈ lw_all := lw_g (lw_at lw_m5 116 rfl) rfl
theorem q1179 : (Jvm.Cond.instanceMethod ({ cls := "SnailPost$Compare", name := "is", desc := "(LSnailPost$Setting;)Z" } : Jvm.MethodName)) ∈ lw_all := lw_g (lw_at lw_m5 117 rfl) rfl
theorem q1180 : (Jvm.Cond.code ({ cls := "SnailPost$Compare", name := "is", desc := "(LSnailPost$Setting;)Z" } : Jvm.MethodName) prog_4_method_2_code (6 : Nat) (Option.some Jvm.ClassFile.FieldType.boolean)) ∈ lw_all := lw_g (lw_at lw_m5 118 rfl) rfl
theorem q1181 : (Jvm.Cond.methodLink "SnailPost$Compare" (20 : Nat) ({ cls := "SnailPost$Sum", name := "of", desc := "(LSnailPost$Setting;)J" } : Jvm.MethodName)) ∈ lw_all := lw_g (lw_at lw_m5 119 rfl) rfl
theorem q2071 : (Jvm.Cond.castable "SnailPost$Compare" "SnailPost$Test") ∈ lw_tbl := lw_at lw_m9 49 rfl
theorem q2091 : (Jvm.Cond.castable "SnailPost$Compare" "java/lang/Object") ∈ lw_tbl := lw_at lw_m9 69 rfl
theorem in_X18 : ∀ w ∈ wsX180, w ∈ lw_all := lw_in wsX180 [1037, 1039, 1041] (by decide +kernel) (by decide +kernel)
/-! SnailPost$Not -/
set_option maxRecDepth 100000
def RX19 : String := "SnailPost$Not"
def TX19 : u_T := fun k => match k with
  | _ => ("SnailPost$Not", "of", "LSnailPost$Test;", true)
def tyX19 : Nat → FieldType := fun k => match k with
  | _ => .object "SnailPost$Test"
abbrev wsX190 : List Cond := u_ws RX19 TX19 1
theorem nmX19 : ∀ a, a < 1 → ∀ b, b < 1 → a ≠ b → (TX19 a).2.1 ≠ (TX19 b).2.1 := by decide +kernel
theorem tyX19_ok : ∀ k, k < 1 → parseFieldDescriptor (TX19 k).2.2.1 = some (tyX19 k) := by decide +kernel
abbrev cX19_init : ByteArray := prog_8_method_1_code
def yX19_init : MethodName := ⟨RX19, "<init>", "(LSnailPost$Test;)V"⟩
def dkwX19_init_0 : List UInt8 := [42, 183, 0, 1, 42, 43, 181, 0, 7, 177]
abbrev dktX19_init_0 : List UInt8 := dkwX19_init_0 ++ []
theorem dksX19_init_0 : cX19_init.data.toList.drop 0 = dktX19_init_0 := by decide +kernel
theorem dX19_init_0 : decode cX19_init 0 = .ok (.aload_n 0, 1) := dk_42 (dk_at dksX19_init_0 0 rfl rfl)
theorem dX19_init_1 : decode cX19_init 1 = .ok (.invokespecial 1, 3) := dk_183 0 1 (dk_at dksX19_init_0 1 rfl rfl)
theorem dX19_init_4 : decode cX19_init 4 = .ok (.aload_n 0, 1) := dk_42 (dk_at dksX19_init_0 4 rfl rfl)
theorem dX19_init_5 : decode cX19_init 5 = .ok (.aload_n 1, 1) := dk_43 (dk_at dksX19_init_0 5 rfl rfl)
theorem dX19_init_6 : decode cX19_init 6 = .ok (.putfield 7, 3) := dk_181 0 7 (dk_at dksX19_init_0 6 rfl rfl)
theorem dX19_init_9 : decode cX19_init 9 = .ok (.return_, 1) := dk_177 (dk_at dksX19_init_0 9 rfl rfl)
abbrev cX19_is : ByteArray := prog_8_method_2_code
def yX19_is : MethodName := ⟨RX19, "is", "(LSnailPost$Setting;)Z"⟩
def dkwX19_is_0 : List UInt8 := [42, 180, 0, 7, 43, 182, 0, 13, 154, 0, 7, 4, 167, 0, 4, 3, 172]
abbrev dktX19_is_0 : List UInt8 := dkwX19_is_0 ++ []
theorem dksX19_is_0 : cX19_is.data.toList.drop 0 = dktX19_is_0 := by decide +kernel
theorem dX19_is_0 : decode cX19_is 0 = .ok (.aload_n 0, 1) := dk_42 (dk_at dksX19_is_0 0 rfl rfl)
theorem dX19_is_1 : decode cX19_is 1 = .ok (.getfield 7, 3) := dk_180 0 7 (dk_at dksX19_is_0 1 rfl rfl)
theorem dX19_is_4 : decode cX19_is 4 = .ok (.aload_n 1, 1) := dk_43 (dk_at dksX19_is_0 4 rfl rfl)
theorem dX19_is_5 : decode cX19_is 5 = .ok (.invokevirtual 13, 3) := dk_182 0 13 (dk_at dksX19_is_0 5 rfl rfl)
theorem dX19_is_8 : decode cX19_is 8 = .ok (.ifCond .ne 7, 3) := dk_154 0 7 (dk_at dksX19_is_0 8 rfl rfl)
theorem dX19_is_11 : decode cX19_is 11 = .ok (.iconst 1, 1) := dk_4 (dk_at dksX19_is_0 11 rfl rfl)
theorem dX19_is_12 : decode cX19_is 12 = .ok (.goto 4, 3) := dk_167 0 4 (dk_at dksX19_is_0 12 rfl rfl)
theorem dX19_is_15 : decode cX19_is 15 = .ok (.iconst 0, 1) := dk_3 (dk_at dksX19_is_0 15 rfl rfl)
theorem dX19_is_16 : decode cX19_is 16 = .ok (.ireturn, 1) := dk_172 (dk_at dksX19_is_0 16 rfl rfl)
theorem q131 : (Jvm.Cond.initialized "SnailPost$Not") ∈ lw_all := lw_g (lw_at lw_m1 29 rfl) rfl
theorem q626 : (Jvm.Cond.selects "SnailPost$Not" ({ cls := "java/lang/Object", name := "getClass", desc := "()Ljava/lang/Class;" } : Jvm.MethodName) ({ cls := "java/lang/Object", name := "getClass", desc := "()Ljava/lang/Class;" } : Jvm.MethodName)) ∈ lw_all := lw_g (lw_at lw_m3 44 rfl) rfl
theorem q1045 : (Jvm.Cond.instantiable "SnailPost$Not" (1 : Nat)) ∈ lw_all := lw_g (lw_at lw_m4 223 rfl) rfl
theorem q1047 : (Jvm.Cond.instanceMethod ({ cls := "SnailPost$Not", name := "<init>", desc := "(LSnailPost$Test;)V" } : Jvm.MethodName)) ∈ lw_all := lw_g (lw_at lw_m4 225 rfl) rfl
theorem q1048 : (Jvm.Cond.code ({ cls := "SnailPost$Not", name := "<init>", desc := "(LSnailPost$Test;)V" } : Jvm.MethodName) prog_8_method_1_code (2 : Nat) (Option.none : Option Jvm.ClassFile.FieldType)) ∈ lw_all := lw_g (lw_at lw_m4 226 rfl) rfl
theorem q1049 : (Jvm.Cond.methodLinkNest "SnailPost$Not" (1 : Nat) ({ cls := "SnailPost$Test", name := "<init>", desc := "()V" } : Jvm.MethodName) "SnailPost") ∈ lw_tbl := lw_at lw_m4 227 rfl
theorem q1050 : (Jvm.Cond.fieldLink "SnailPost$Not" (7 : Nat) "SnailPost$Not" "of" "LSnailPost$Test;") ∈ lw_all := lw_g (lw_at lw_m4 228 rfl) rfl
theorem q1051 : (Jvm.Cond.laysFinal "SnailPost$Not" "SnailPost$Not" "of" "LSnailPost$Test;") ∈ lw_all := lw_g (lw_at lw_m4 229 rfl) rfl
theorem q1052 : (Jvm.Cond.soleField "SnailPost$Not" "of") ∈ lw_all := lw_g (lw_at lw_m4 230 rfl) rfl
theorem q1053 : (Jvm.Cond.superclass "SnailPost$Not" "SnailPost$Test") ∈ lw_all := lw_g (lw_at lw_m4 231 rfl) rfl
theorem q1196 : (Jvm.Cond.selects "SnailPost$Not" ({ cls := "SnailPost$Test", name := "is", desc := "(LSnailPost$Setting;)Z" } : Jvm.MethodName) ({ cls := "SnailPost$Not", name := "is", desc := "(LSnailPost$Setting;)Z" } : Jvm.MethodName)) ∈ lw_all := lw_g (lw_at lw_m5 134 rfl) rfl
theorem q1197 : (Jvm.Cond.instanceMethod ({ cls := "SnailPost$Not", name := "is", desc := "(LSnailPost$Setting;)Z" } : Jvm.MethodName)) ∈ lw_all := lw_g (lw_at lw_m5 135 rfl) rfl
theorem q1198 : (Jvm.Cond.code ({ cls := "SnailPost$Not", name := "is", desc := "(LSnailPost$Setting;)Z" } : Jvm.MethodName) prog_8_method_2_code (2 : Nat) (Option.some Jvm.ClassFile.FieldType.boolean)) ∈ lw_all := lw_g (lw_at lw_m5 136 rfl) rfl
theorem q1199 : (Jvm.Cond.methodLink "SnailPost$Not" (13 : Nat) ({ cls := "SnailPost$Test", name := "is", desc := "(LSnailPost$Setting;)Z" } : Jvm.MethodName)) ∈ lw_all := lw_g (lw_at lw_m5 137 rfl) rfl
theorem q2072 : (Jvm.Cond.castable "SnailPost$Not" "SnailPost$Test") ∈ lw_tbl := lw_at lw_m9 50 rfl
theorem q2092 : (Jvm.Cond.castable "SnailPost$Not" "java/lang/Object") ∈ lw_tbl := lw_at lw_m9 70 rfl
theorem in_X19 : ∀ w ∈ wsX190, w ∈ lw_all := lw_in wsX190 [1051] (by decide +kernel) (by decide +kernel)
/-! SnailPost$Several -/
set_option maxRecDepth 100000
def RX20 : String := "SnailPost$Several"
def TX20 : u_T := fun k => match k with
  | 0 => ("SnailPost$Several", "all", "Z", true)
  | _ => ("SnailPost$Several", "of", "Ljava/util/ArrayList;", true)
def tyX20 : Nat → FieldType := fun k => match k with
  | 0 => .boolean
  | _ => .object "java/util/ArrayList"
abbrev wsX200 : List Cond := u_ws RX20 TX20 2
theorem nmX20 : ∀ a, a < 2 → ∀ b, b < 2 → a ≠ b → (TX20 a).2.1 ≠ (TX20 b).2.1 := by decide +kernel
theorem tyX20_ok : ∀ k, k < 2 → parseFieldDescriptor (TX20 k).2.2.1 = some (tyX20 k) := by decide +kernel
abbrev cX20_init : ByteArray := prog_13_method_1_code
def yX20_init : MethodName := ⟨RX20, "<init>", "(Z)V"⟩
def dkwX20_init_0 : List UInt8 := [42, 183, 0, 1, 42, 187, 0, 7, 89, 5, 183, 0, 9, 181, 0, 12, 42, 27, 181, 0, 18, 177]
abbrev dktX20_init_0 : List UInt8 := dkwX20_init_0 ++ []
theorem dksX20_init_0 : cX20_init.data.toList.drop 0 = dktX20_init_0 := by decide +kernel
theorem dX20_init_0 : decode cX20_init 0 = .ok (.aload_n 0, 1) := dk_42 (dk_at dksX20_init_0 0 rfl rfl)
theorem dX20_init_1 : decode cX20_init 1 = .ok (.invokespecial 1, 3) := dk_183 0 1 (dk_at dksX20_init_0 1 rfl rfl)
theorem dX20_init_4 : decode cX20_init 4 = .ok (.aload_n 0, 1) := dk_42 (dk_at dksX20_init_0 4 rfl rfl)
theorem dX20_init_5 : decode cX20_init 5 = .ok (.new 7, 3) := dk_187 0 7 (dk_at dksX20_init_0 5 rfl rfl)
theorem dX20_init_8 : decode cX20_init 8 = .ok (.dup, 1) := dk_89 (dk_at dksX20_init_0 8 rfl rfl)
theorem dX20_init_9 : decode cX20_init 9 = .ok (.iconst 2, 1) := dk_5 (dk_at dksX20_init_0 9 rfl rfl)
theorem dX20_init_10 : decode cX20_init 10 = .ok (.invokespecial 9, 3) := dk_183 0 9 (dk_at dksX20_init_0 10 rfl rfl)
theorem dX20_init_13 : decode cX20_init 13 = .ok (.putfield 12, 3) := dk_181 0 12 (dk_at dksX20_init_0 13 rfl rfl)
theorem dX20_init_16 : decode cX20_init 16 = .ok (.aload_n 0, 1) := dk_42 (dk_at dksX20_init_0 16 rfl rfl)
theorem dX20_init_17 : decode cX20_init 17 = .ok (.iload_n 1, 1) := dk_27 (dk_at dksX20_init_0 17 rfl rfl)
theorem dX20_init_18 : decode cX20_init 18 = .ok (.putfield 18, 3) := dk_181 0 18 (dk_at dksX20_init_0 18 rfl rfl)
theorem dX20_init_21 : decode cX20_init 21 = .ok (.return_, 1) := dk_177 (dk_at dksX20_init_0 21 rfl rfl)
abbrev cX20_is : ByteArray := prog_13_method_2_code
def yX20_is : MethodName := ⟨RX20, "is", "(LSnailPost$Setting;)Z"⟩
def dkwX20_is_2 : List UInt8 := [132, 2, 1, 167, 255, 207, 42, 180, 0, 18, 172]
abbrev dktX20_is_2 : List UInt8 := dkwX20_is_2 ++ []
def dkwX20_is_1 : List UInt8 := [43, 182, 0, 30, 42, 180, 0, 18, 159, 0, 16, 42, 180, 0, 18, 154, 0, 7, 4, 167, 0, 4, 3, 172]
abbrev dktX20_is_1 : List UInt8 := dkwX20_is_1 ++ dktX20_is_2
def dkwX20_is_0 : List UInt8 := [3, 61, 28, 42, 180, 0, 12, 182, 0, 22, 162, 0, 44, 42, 180, 0, 12, 28, 182, 0, 26, 192, 0, 2]
abbrev dktX20_is_0 : List UInt8 := dkwX20_is_0 ++ dktX20_is_1
theorem dksX20_is_0 : cX20_is.data.toList.drop 0 = dktX20_is_0 := by decide +kernel
theorem dksX20_is_1 : cX20_is.data.toList.drop 24 = dktX20_is_1 := dk_seg dksX20_is_0 24 rfl rfl
theorem dksX20_is_2 : cX20_is.data.toList.drop 48 = dktX20_is_2 := dk_seg dksX20_is_1 24 rfl rfl
theorem dX20_is_0 : decode cX20_is 0 = .ok (.iconst 0, 1) := dk_3 (dk_at dksX20_is_0 0 rfl rfl)
theorem dX20_is_1 : decode cX20_is 1 = .ok (.istore_n 2, 1) := dk_61 (dk_at dksX20_is_0 1 rfl rfl)
theorem dX20_is_2 : decode cX20_is 2 = .ok (.iload_n 2, 1) := dk_28 (dk_at dksX20_is_0 2 rfl rfl)
theorem dX20_is_3 : decode cX20_is 3 = .ok (.aload_n 0, 1) := dk_42 (dk_at dksX20_is_0 3 rfl rfl)
theorem dX20_is_4 : decode cX20_is 4 = .ok (.getfield 12, 3) := dk_180 0 12 (dk_at dksX20_is_0 4 rfl rfl)
theorem dX20_is_7 : decode cX20_is 7 = .ok (.invokevirtual 22, 3) := dk_182 0 22 (dk_at dksX20_is_0 7 rfl rfl)
theorem dX20_is_10 : decode cX20_is 10 = .ok (.if_icmp .ge 44, 3) := dk_162 0 44 (dk_at dksX20_is_0 10 rfl rfl)
theorem dX20_is_13 : decode cX20_is 13 = .ok (.aload_n 0, 1) := dk_42 (dk_at dksX20_is_0 13 rfl rfl)
theorem dX20_is_14 : decode cX20_is 14 = .ok (.getfield 12, 3) := dk_180 0 12 (dk_at dksX20_is_0 14 rfl rfl)
theorem dX20_is_17 : decode cX20_is 17 = .ok (.iload_n 2, 1) := dk_28 (dk_at dksX20_is_0 17 rfl rfl)
theorem dX20_is_18 : decode cX20_is 18 = .ok (.invokevirtual 26, 3) := dk_182 0 26 (dk_at dksX20_is_0 18 rfl rfl)
theorem dX20_is_21 : decode cX20_is 21 = .ok (.checkcast 2, 3) := dk_192 0 2 (dk_at dksX20_is_0 21 rfl rfl)
theorem dX20_is_24 : decode cX20_is 24 = .ok (.aload_n 1, 1) := dk_43 (dk_at dksX20_is_1 0 rfl rfl)
theorem dX20_is_25 : decode cX20_is 25 = .ok (.invokevirtual 30, 3) := dk_182 0 30 (dk_at dksX20_is_1 1 rfl rfl)
theorem dX20_is_28 : decode cX20_is 28 = .ok (.aload_n 0, 1) := dk_42 (dk_at dksX20_is_1 4 rfl rfl)
theorem dX20_is_29 : decode cX20_is 29 = .ok (.getfield 18, 3) := dk_180 0 18 (dk_at dksX20_is_1 5 rfl rfl)
theorem dX20_is_32 : decode cX20_is 32 = .ok (.if_icmp .eq 16, 3) := dk_159 0 16 (dk_at dksX20_is_1 8 rfl rfl)
theorem dX20_is_35 : decode cX20_is 35 = .ok (.aload_n 0, 1) := dk_42 (dk_at dksX20_is_1 11 rfl rfl)
theorem dX20_is_36 : decode cX20_is 36 = .ok (.getfield 18, 3) := dk_180 0 18 (dk_at dksX20_is_1 12 rfl rfl)
theorem dX20_is_39 : decode cX20_is 39 = .ok (.ifCond .ne 7, 3) := dk_154 0 7 (dk_at dksX20_is_1 15 rfl rfl)
theorem dX20_is_42 : decode cX20_is 42 = .ok (.iconst 1, 1) := dk_4 (dk_at dksX20_is_1 18 rfl rfl)
theorem dX20_is_43 : decode cX20_is 43 = .ok (.goto 4, 3) := dk_167 0 4 (dk_at dksX20_is_1 19 rfl rfl)
theorem dX20_is_46 : decode cX20_is 46 = .ok (.iconst 0, 1) := dk_3 (dk_at dksX20_is_1 22 rfl rfl)
theorem dX20_is_47 : decode cX20_is 47 = .ok (.ireturn, 1) := dk_172 (dk_at dksX20_is_1 23 rfl rfl)
theorem dX20_is_48 : decode cX20_is 48 = .ok (.iinc 2 1, 3) := dk_132 2 1 (dk_at dksX20_is_2 0 rfl rfl)
theorem dX20_is_51 : decode cX20_is 51 = .ok (.goto (-49), 3) := dk_167 255 207 (dk_at dksX20_is_2 3 rfl rfl)
theorem dX20_is_54 : decode cX20_is 54 = .ok (.aload_n 0, 1) := dk_42 (dk_at dksX20_is_2 6 rfl rfl)
theorem dX20_is_55 : decode cX20_is 55 = .ok (.getfield 18, 3) := dk_180 0 18 (dk_at dksX20_is_2 7 rfl rfl)
theorem dX20_is_58 : decode cX20_is 58 = .ok (.ireturn, 1) := dk_172 (dk_at dksX20_is_2 10 rfl rfl)
theorem q132 : (Jvm.Cond.initialized "SnailPost$Several") ∈ lw_all := lw_g (lw_at lw_m1 30 rfl) rfl
theorem q631 : (Jvm.Cond.selects "SnailPost$Several" ({ cls := "java/lang/Object", name := "getClass", desc := "()Ljava/lang/Class;" } : Jvm.MethodName) ({ cls := "java/lang/Object", name := "getClass", desc := "()Ljava/lang/Class;" } : Jvm.MethodName)) ∈ lw_all := lw_g (lw_at lw_m3 49 rfl) rfl
theorem q1056 : (Jvm.Cond.instantiable "SnailPost$Several" (2 : Nat)) ∈ lw_all := lw_g (lw_at lw_m4 234 rfl) rfl
theorem q1058 : (Jvm.Cond.instanceMethod ({ cls := "SnailPost$Several", name := "<init>", desc := "(Z)V" } : Jvm.MethodName)) ∈ lw_all := lw_g (lw_at lw_m4 236 rfl) rfl
theorem q1059 : (Jvm.Cond.code ({ cls := "SnailPost$Several", name := "<init>", desc := "(Z)V" } : Jvm.MethodName) prog_13_method_1_code (2 : Nat) (Option.none : Option Jvm.ClassFile.FieldType)) ∈ lw_all := lw_g (lw_at lw_m4 237 rfl) rfl
theorem q1060 : (Jvm.Cond.methodLinkNest "SnailPost$Several" (1 : Nat) ({ cls := "SnailPost$Test", name := "<init>", desc := "()V" } : Jvm.MethodName) "SnailPost") ∈ lw_tbl := lw_at lw_m4 238 rfl
theorem q1061 : (Jvm.Cond.classLink "SnailPost$Several" (7 : Nat) "java/util/ArrayList") ∈ lw_all := lw_g (lw_at lw_m4 239 rfl) rfl
theorem q1062 : (Jvm.Cond.methodLink "SnailPost$Several" (9 : Nat) ({ cls := "java/util/ArrayList", name := "<init>", desc := "(I)V" } : Jvm.MethodName)) ∈ lw_all := lw_g (lw_at lw_m5 0 rfl) rfl
theorem q1063 : (Jvm.Cond.fieldLink "SnailPost$Several" (18 : Nat) "SnailPost$Several" "all" "Z") ∈ lw_all := lw_g (lw_at lw_m5 1 rfl) rfl
theorem q1064 : (Jvm.Cond.fieldLink "SnailPost$Several" (12 : Nat) "SnailPost$Several" "of" "Ljava/util/ArrayList;") ∈ lw_all := lw_g (lw_at lw_m5 2 rfl) rfl
theorem q1066 : (Jvm.Cond.laysFinal "SnailPost$Several" "SnailPost$Several" "all" "Z") ∈ lw_all := lw_g (lw_at lw_m5 4 rfl) rfl
theorem q1067 : (Jvm.Cond.soleField "SnailPost$Several" "all") ∈ lw_all := lw_g (lw_at lw_m5 5 rfl) rfl
theorem q1068 : (Jvm.Cond.laysFinal "SnailPost$Several" "SnailPost$Several" "of" "Ljava/util/ArrayList;") ∈ lw_all := lw_g (lw_at lw_m5 6 rfl) rfl
theorem q1069 : (Jvm.Cond.soleField "SnailPost$Several" "of") ∈ lw_all := lw_g (lw_at lw_m5 7 rfl) rfl
theorem q1070 : (Jvm.Cond.superclass "SnailPost$Several" "SnailPost$Test") ∈ lw_all := lw_g (lw_at lw_m5 8 rfl) rfl
theorem q1200 : (Jvm.Cond.instanceMethod ({ cls := "SnailPost$Several", name := "is", desc := "(LSnailPost$Setting;)Z" } : Jvm.MethodName)) ∈ lw_all := lw_g (lw_at lw_m5 138 rfl) rfl
theorem q1201 : (Jvm.Cond.code ({ cls := "SnailPost$Several", name := "is", desc := "(LSnailPost$Setting;)Z" } : Jvm.MethodName) prog_13_method_2_code (3 : Nat) (Option.some Jvm.ClassFile.FieldType.boolean)) ∈ lw_all := lw_g (lw_at lw_m5 139 rfl) rfl
theorem q1202 : (Jvm.Cond.methodLink "SnailPost$Several" (22 : Nat) ({ cls := "java/util/ArrayList", name := "size", desc := "()I" } : Jvm.MethodName)) ∈ lw_all := lw_g (lw_at lw_m5 140 rfl) rfl
theorem q1203 : (Jvm.Cond.methodLink "SnailPost$Several" (26 : Nat) ({ cls := "java/util/ArrayList", name := "get", desc := "(I)Ljava/lang/Object;" } : Jvm.MethodName)) ∈ lw_all := lw_g (lw_at lw_m5 141 rfl) rfl
theorem q1204 : (Jvm.Cond.classLink "SnailPost$Several" (2 : Nat) "SnailPost$Test") ∈ lw_all := lw_g (lw_at lw_m5 142 rfl) rfl
theorem q1205 : (Jvm.Cond.methodLink "SnailPost$Several" (30 : Nat) ({ cls := "SnailPost$Test", name := "is", desc := "(LSnailPost$Setting;)Z" } : Jvm.MethodName)) ∈ lw_all := lw_g (lw_at lw_m5 143 rfl) rfl
theorem q1206 : (Jvm.Cond.selects "SnailPost$Several" ({ cls := "SnailPost$Test", name := "is", desc := "(LSnailPost$Setting;)Z" } : Jvm.MethodName) ({ cls := "SnailPost$Several", name := "is", desc := "(LSnailPost$Setting;)Z" } : Jvm.MethodName)) ∈ lw_all := lw_g (lw_at lw_m5 144 rfl) rfl
theorem q2073 : (Jvm.Cond.castable "SnailPost$Several" "SnailPost$Test") ∈ lw_tbl := lw_at lw_m9 51 rfl
theorem q2093 : (Jvm.Cond.castable "SnailPost$Several" "java/lang/Object") ∈ lw_tbl := lw_at lw_m9 71 rfl
theorem in_X20 : ∀ w ∈ wsX200, w ∈ lw_all := lw_in wsX200 [1066, 1068] (by decide +kernel) (by decide +kernel)
/-! SnailPost$Law -/
set_option maxRecDepth 100000
def RX21 : String := "SnailPost$Law"
def TX21 : u_T := fun k => match k with
  | _ => ("SnailPost$Law", "clauses", "Ljava/util/ArrayList;", true)
def tyX21 : Nat → FieldType := fun k => match k with
  | _ => .object "java/util/ArrayList"
abbrev wsX210 : List Cond := u_ws RX21 TX21 1
theorem nmX21 : ∀ a, a < 1 → ∀ b, b < 1 → a ≠ b → (TX21 a).2.1 ≠ (TX21 b).2.1 := by decide +kernel
theorem tyX21_ok : ∀ k, k < 1 → parseFieldDescriptor (TX21 k).2.2.1 = some (tyX21 k) := by decide +kernel
abbrev cX21_init : ByteArray := prog_7_method_1_code
def yX21_init : MethodName := ⟨RX21, "<init>", "(Ljava/util/ArrayList;)V"⟩
def dkwX21_init_0 : List UInt8 := [42, 183, 0, 3, 42, 43, 181, 0, 9, 177]
abbrev dktX21_init_0 : List UInt8 := dkwX21_init_0 ++ []
theorem dksX21_init_0 : cX21_init.data.toList.drop 0 = dktX21_init_0 := by decide +kernel
theorem dX21_init_0 : decode cX21_init 0 = .ok (.aload_n 0, 1) := dk_42 (dk_at dksX21_init_0 0 rfl rfl)
theorem dX21_init_1 : decode cX21_init 1 = .ok (.invokespecial 3, 3) := dk_183 0 3 (dk_at dksX21_init_0 1 rfl rfl)
theorem dX21_init_4 : decode cX21_init 4 = .ok (.aload_n 0, 1) := dk_42 (dk_at dksX21_init_0 4 rfl rfl)
theorem dX21_init_5 : decode cX21_init 5 = .ok (.aload_n 1, 1) := dk_43 (dk_at dksX21_init_0 5 rfl rfl)
theorem dX21_init_6 : decode cX21_init 6 = .ok (.putfield 9, 3) := dk_181 0 9 (dk_at dksX21_init_0 6 rfl rfl)
theorem dX21_init_9 : decode cX21_init 9 = .ok (.return_, 1) := dk_177 (dk_at dksX21_init_0 9 rfl rfl)
abbrev cX21_told : ByteArray := prog_7_method_2_code
def yX21_told : MethodName := ⟨RX21, "told", "(ILSnailPost$Setting;)J"⟩
def dkwX21_told_3 : List UInt8 := [132, 5, 1, 167, 255, 189, 33, 173]
abbrev dktX21_told_3 : List UInt8 := dkwX21_told_3 ++ []
def dkwX21_told_2 : List UInt8 := [182, 0, 23, 192, 0, 27, 44, 182, 0, 33, 55, 6, 22, 6, 20, 0, 15, 148, 153, 0, 6, 22, 6, 66]
abbrev dktX21_told_2 : List UInt8 := dkwX21_told_2 ++ dktX21_told_3
def dkwX21_told_1 : List UInt8 := [21, 5, 182, 0, 23, 192, 0, 27, 180, 0, 29, 27, 159, 0, 6, 167, 0, 33, 42, 180, 0, 9, 21, 5]
abbrev dktX21_told_1 : List UInt8 := dkwX21_told_1 ++ dktX21_told_2
def dkwX21_told_0 : List UInt8 := [20, 0, 15, 66, 3, 54, 5, 21, 5, 42, 180, 0, 9, 182, 0, 17, 162, 0, 61, 42, 180, 0, 9]
abbrev dktX21_told_0 : List UInt8 := dkwX21_told_0 ++ dktX21_told_1
theorem dksX21_told_0 : cX21_told.data.toList.drop 0 = dktX21_told_0 := by decide +kernel
theorem dksX21_told_1 : cX21_told.data.toList.drop 23 = dktX21_told_1 := dk_seg dksX21_told_0 23 rfl rfl
theorem dksX21_told_2 : cX21_told.data.toList.drop 47 = dktX21_told_2 := dk_seg dksX21_told_1 24 rfl rfl
theorem dksX21_told_3 : cX21_told.data.toList.drop 71 = dktX21_told_3 := dk_seg dksX21_told_2 24 rfl rfl
theorem dX21_told_0 : decode cX21_told 0 = .ok (.ldc2_w 15, 3) := dk_20 0 15 (dk_at dksX21_told_0 0 rfl rfl)
theorem dX21_told_3 : decode cX21_told 3 = .ok (.lstore_n 3, 1) := dk_66 (dk_at dksX21_told_0 3 rfl rfl)
theorem dX21_told_4 : decode cX21_told 4 = .ok (.iconst 0, 1) := dk_3 (dk_at dksX21_told_0 4 rfl rfl)
theorem dX21_told_5 : decode cX21_told 5 = .ok (.istore 5, 2) := dk_54 5 (dk_at dksX21_told_0 5 rfl rfl)
theorem dX21_told_7 : decode cX21_told 7 = .ok (.iload 5, 2) := dk_21 5 (dk_at dksX21_told_0 7 rfl rfl)
theorem dX21_told_9 : decode cX21_told 9 = .ok (.aload_n 0, 1) := dk_42 (dk_at dksX21_told_0 9 rfl rfl)
theorem dX21_told_10 : decode cX21_told 10 = .ok (.getfield 9, 3) := dk_180 0 9 (dk_at dksX21_told_0 10 rfl rfl)
theorem dX21_told_13 : decode cX21_told 13 = .ok (.invokevirtual 17, 3) := dk_182 0 17 (dk_at dksX21_told_0 13 rfl rfl)
theorem dX21_told_16 : decode cX21_told 16 = .ok (.if_icmp .ge 61, 3) := dk_162 0 61 (dk_at dksX21_told_0 16 rfl rfl)
theorem dX21_told_19 : decode cX21_told 19 = .ok (.aload_n 0, 1) := dk_42 (dk_at dksX21_told_0 19 rfl rfl)
theorem dX21_told_20 : decode cX21_told 20 = .ok (.getfield 9, 3) := dk_180 0 9 (dk_at dksX21_told_0 20 rfl rfl)
theorem dX21_told_23 : decode cX21_told 23 = .ok (.iload 5, 2) := dk_21 5 (dk_at dksX21_told_1 0 rfl rfl)
theorem dX21_told_25 : decode cX21_told 25 = .ok (.invokevirtual 23, 3) := dk_182 0 23 (dk_at dksX21_told_1 2 rfl rfl)
theorem dX21_told_28 : decode cX21_told 28 = .ok (.checkcast 27, 3) := dk_192 0 27 (dk_at dksX21_told_1 5 rfl rfl)
theorem dX21_told_31 : decode cX21_told 31 = .ok (.getfield 29, 3) := dk_180 0 29 (dk_at dksX21_told_1 8 rfl rfl)
theorem dX21_told_34 : decode cX21_told 34 = .ok (.iload_n 1, 1) := dk_27 (dk_at dksX21_told_1 11 rfl rfl)
theorem dX21_told_35 : decode cX21_told 35 = .ok (.if_icmp .eq 6, 3) := dk_159 0 6 (dk_at dksX21_told_1 12 rfl rfl)
theorem dX21_told_38 : decode cX21_told 38 = .ok (.goto 33, 3) := dk_167 0 33 (dk_at dksX21_told_1 15 rfl rfl)
theorem dX21_told_41 : decode cX21_told 41 = .ok (.aload_n 0, 1) := dk_42 (dk_at dksX21_told_1 18 rfl rfl)
theorem dX21_told_42 : decode cX21_told 42 = .ok (.getfield 9, 3) := dk_180 0 9 (dk_at dksX21_told_1 19 rfl rfl)
theorem dX21_told_45 : decode cX21_told 45 = .ok (.iload 5, 2) := dk_21 5 (dk_at dksX21_told_1 22 rfl rfl)
theorem dX21_told_47 : decode cX21_told 47 = .ok (.invokevirtual 23, 3) := dk_182 0 23 (dk_at dksX21_told_2 0 rfl rfl)
theorem dX21_told_50 : decode cX21_told 50 = .ok (.checkcast 27, 3) := dk_192 0 27 (dk_at dksX21_told_2 3 rfl rfl)
theorem dX21_told_53 : decode cX21_told 53 = .ok (.aload_n 2, 1) := dk_44 (dk_at dksX21_told_2 6 rfl rfl)
theorem dX21_told_54 : decode cX21_told 54 = .ok (.invokevirtual 33, 3) := dk_182 0 33 (dk_at dksX21_told_2 7 rfl rfl)
theorem dX21_told_57 : decode cX21_told 57 = .ok (.lstore 6, 2) := dk_55 6 (dk_at dksX21_told_2 10 rfl rfl)
theorem dX21_told_59 : decode cX21_told 59 = .ok (.lload 6, 2) := dk_22 6 (dk_at dksX21_told_2 12 rfl rfl)
theorem dX21_told_61 : decode cX21_told 61 = .ok (.ldc2_w 15, 3) := dk_20 0 15 (dk_at dksX21_told_2 14 rfl rfl)
theorem dX21_told_64 : decode cX21_told 64 = .ok (.lcmp, 1) := dk_148 (dk_at dksX21_told_2 17 rfl rfl)
theorem dX21_told_65 : decode cX21_told 65 = .ok (.ifCond .eq 6, 3) := dk_153 0 6 (dk_at dksX21_told_2 18 rfl rfl)
theorem dX21_told_68 : decode cX21_told 68 = .ok (.lload 6, 2) := dk_22 6 (dk_at dksX21_told_2 21 rfl rfl)
theorem dX21_told_70 : decode cX21_told 70 = .ok (.lstore_n 3, 1) := dk_66 (dk_at dksX21_told_2 23 rfl rfl)
theorem dX21_told_71 : decode cX21_told 71 = .ok (.iinc 5 1, 3) := dk_132 5 1 (dk_at dksX21_told_3 0 rfl rfl)
theorem dX21_told_74 : decode cX21_told 74 = .ok (.goto (-67), 3) := dk_167 255 189 (dk_at dksX21_told_3 3 rfl rfl)
theorem dX21_told_77 : decode cX21_told 77 = .ok (.lload_n 3, 1) := dk_33 (dk_at dksX21_told_3 6 rfl rfl)
theorem dX21_told_78 : decode cX21_told 78 = .ok (.lreturn, 1) := dk_173 (dk_at dksX21_told_3 7 rfl rfl)
theorem q137 : (Jvm.Cond.initialized "SnailPost$Law") ∈ lw_all := lw_g (lw_at lw_m1 35 rfl) rfl
theorem q625 : (Jvm.Cond.selects "SnailPost$Law" ({ cls := "java/lang/Object", name := "getClass", desc := "()Ljava/lang/Class;" } : Jvm.MethodName) ({ cls := "java/lang/Object", name := "getClass", desc := "()Ljava/lang/Class;" } : Jvm.MethodName)) ∈ lw_all := lw_g (lw_at lw_m3 43 rfl) rfl
theorem q899 : (Jvm.Cond.fieldLinkNest "SnailPost$Law" (29 : Nat) "SnailPost$Clause" "head" "I" "SnailPost") ∈ lw_tbl := lw_at lw_m4 77 rfl
theorem q1086 : (Jvm.Cond.instantiable "SnailPost$Law" (1 : Nat)) ∈ lw_all := lw_g (lw_at lw_m5 24 rfl) rfl
theorem q1088 : (Jvm.Cond.instanceMethod ({ cls := "SnailPost$Law", name := "<init>", desc := "(Ljava/util/ArrayList;)V" } : Jvm.MethodName)) ∈ lw_all := lw_g (lw_at lw_m5 26 rfl) rfl
theorem q1089 : (Jvm.Cond.code ({ cls := "SnailPost$Law", name := "<init>", desc := "(Ljava/util/ArrayList;)V" } : Jvm.MethodName) prog_7_method_1_code (2 : Nat) (Option.none : Option Jvm.ClassFile.FieldType)) ∈ lw_all := lw_g (lw_at lw_m5 27 rfl) rfl
theorem q1090 : (Jvm.Cond.methodLink "SnailPost$Law" (3 : Nat) ({ cls := "java/lang/Object", name := "<init>", desc := "()V" } : Jvm.MethodName)) ∈ lw_all := lw_g (lw_at lw_m5 28 rfl) rfl
theorem q1091 : (Jvm.Cond.fieldLink "SnailPost$Law" (9 : Nat) "SnailPost$Law" "clauses" "Ljava/util/ArrayList;") ∈ lw_all := lw_g (lw_at lw_m5 29 rfl) rfl
theorem q1092 : (Jvm.Cond.laysFinal "SnailPost$Law" "SnailPost$Law" "clauses" "Ljava/util/ArrayList;") ∈ lw_all := lw_g (lw_at lw_m5 30 rfl) rfl
theorem q1093 : (Jvm.Cond.soleField "SnailPost$Law" "clauses") ∈ lw_all := lw_g (lw_at lw_m5 31 rfl) rfl
theorem q1094 : (Jvm.Cond.superclass "SnailPost$Law" "java/lang/Object") ∈ lw_all := lw_g (lw_at lw_m5 32 rfl) rfl
theorem q1163 : (Jvm.Cond.instanceMethod ({ cls := "SnailPost$Law", name := "told", desc := "(ILSnailPost$Setting;)J" } : Jvm.MethodName)) ∈ lw_all := lw_g (lw_at lw_m5 101 rfl) rfl
theorem q1164 : (Jvm.Cond.selects "SnailPost$Law" ({ cls := "SnailPost$Law", name := "told", desc := "(ILSnailPost$Setting;)J" } : Jvm.MethodName) ({ cls := "SnailPost$Law", name := "told", desc := "(ILSnailPost$Setting;)J" } : Jvm.MethodName)) ∈ lw_all := lw_g (lw_at lw_m5 102 rfl) rfl
theorem q1165 : (Jvm.Cond.code ({ cls := "SnailPost$Law", name := "told", desc := "(ILSnailPost$Setting;)J" } : Jvm.MethodName) prog_7_method_2_code (8 : Nat) (Option.some Jvm.ClassFile.FieldType.long)) ∈ lw_all := lw_g (lw_at lw_m5 103 rfl) rfl
theorem q1166 : (Jvm.Cond.constantLong "SnailPost$Law" (15 : Nat) (-4000000000 : Int64)) ∈ lw_all := lw_g (lw_at lw_m5 104 rfl) rfl
theorem q1167 : (Jvm.Cond.methodLink "SnailPost$Law" (17 : Nat) ({ cls := "java/util/ArrayList", name := "size", desc := "()I" } : Jvm.MethodName)) ∈ lw_all := lw_g (lw_at lw_m5 105 rfl) rfl
theorem q1168 : (Jvm.Cond.methodLink "SnailPost$Law" (23 : Nat) ({ cls := "java/util/ArrayList", name := "get", desc := "(I)Ljava/lang/Object;" } : Jvm.MethodName)) ∈ lw_all := lw_g (lw_at lw_m5 106 rfl) rfl
theorem q1169 : (Jvm.Cond.classLink "SnailPost$Law" (27 : Nat) "SnailPost$Clause") ∈ lw_all := lw_g (lw_at lw_m5 107 rfl) rfl
theorem q1170 : (Jvm.Cond.methodLink "SnailPost$Law" (33 : Nat) ({ cls := "SnailPost$Clause", name := "tells", desc := "(LSnailPost$Setting;)J" } : Jvm.MethodName)) ∈ lw_all := lw_g (lw_at lw_m5 108 rfl) rfl
theorem q2094 : (Jvm.Cond.castable "SnailPost$Law" "java/lang/Object") ∈ lw_tbl := lw_at lw_m9 72 rfl
theorem in_X21 : ∀ w ∈ wsX210, w ∈ lw_all := lw_in wsX210 [1092] (by decide +kernel) (by decide +kernel)
