/-! SnailPostModel -/
set_option maxRecDepth 100000
def RX9 : String := "SnailPostModel"
def TX9 : u_T := fun k => match k with
  | 0 => ("SnailPostModel", "thrown", "I", false)
  | 1 => ("SnailPostModel", "status", "I", false)
  | 2 => ("SnailPostModel", "refusals", "[I", true)
  | 3 => ("SnailPostModel", "row", "[I", true)
  | 4 => ("SnailPostModel", "images", "[I", true)
  | 5 => ("SnailPostModel", "isKept", "[Z", true)
  | 6 => ("SnailPostModel", "spilt", "I", false)
  | 7 => ("SnailPostModel", "tape", "[I", true)
  | 8 => ("SnailPostModel", "taped", "I", false)
  | 9 => ("SnailPostModel", "from", "I", false)
  | 10 => ("SnailPostModel", "to", "I", false)
  | 11 => ("SnailPostModel", "sort", "I", false)
  | 12 => ("SnailPostModel", "worth", "J", false)
  | 13 => ("SnailPostModel", "fault", "I", false)
  | 14 => ("SnailPostModel", "bad", "Z", false)
  | 15 => ("SnailPostModel", "nClauses", "I", false)
  | 16 => ("SnailPostModel", "nClause", "[I", true)
  | 17 => ("SnailPostModel", "nCode", "I", false)
  | 18 => ("SnailPostModel", "nOp", "[I", true)
  | 19 => ("SnailPostModel", "nArg", "[I", true)
  | 20 => ("SnailPostModel", "nLeaves", "I", false)
  | 21 => ("SnailPostModel", "pile", "[I", true)
  | 22 => ("SnailPostModel", "pileAt", "[I", true)
  | 23 => ("SnailPostModel", "piled", "I", false)
  | 24 => ("SnailPostModel", "opened", "I", false)
  | 25 => ("SnailPostModel", "words", "[J", true)
  | 26 => ("SnailPostModel", "headWords", "[J", true)
  | 27 => ("SnailPostModel", "law", "I", false)
  | 28 => ("SnailPostModel", "set", "[J", true)
  | 29 => ("SnailPostModel", "rest", "[J", true)
  | 30 => ("SnailPostModel", "broken", "Z", false)
  | 31 => ("SnailPostModel", "value", "J", false)
  | 32 => ("SnailPostModel", "sum", "J", false)
  | 33 => ("SnailPostModel", "at", "[I", true)
  | 34 => ("SnailPostModel", "came", "[I", true)
  | 35 => ("SnailPostModel", "eaten", "[Z", true)
  | 36 => ("SnailPostModel", "been", "[I", true)
  | 37 => ("SnailPostModel", "stayed", "[I", true)
  | 38 => ("SnailPostModel", "places", "[I", true)
  | 39 => ("SnailPostModel", "keptAt", "[I", true)
  | 40 => ("SnailPostModel", "keptCame", "[I", true)
  | 41 => ("SnailPostModel", "keptBeen", "[I", true)
  | 42 => ("SnailPostModel", "tried", "[I", true)
  | 43 => ("SnailPostModel", "chosen", "[I", true)
  | 44 => ("SnailPostModel", "mostCome", "I", false)
  | 45 => ("SnailPostModel", "leastSum", "I", false)
  | 46 => ("SnailPostModel", "asGood", "I", false)
  | 47 => ("SnailPostModel", "bests", "[I", true)
  | 48 => ("SnailPostModel", "firsts", "[I", true)
  | 49 => ("SnailPostModel", "trying", "[I", true)
  | 50 => ("SnailPostModel", "steps", "[I", true)
  | 51 => ("SnailPostModel", "shells", "[I", true)
  | 52 => ("SnailPostModel", "waysTo", "[I", true)
  | 53 => ("SnailPostModel", "waysOn", "[I", true)
  | 54 => ("SnailPostModel", "waysAhead", "[I", true)
  | 55 => ("SnailPostModel", "state", "J", false)
  | 56 => ("SnailPostModel", "eatenBehind", "[I", true)
  | 57 => ("SnailPostModel", "endCame", "[I", true)
  | 58 => ("SnailPostModel", "endAt", "[I", true)
  | _ => ("SnailPostModel", "nHunted", "I", false)
def tyX9 : Nat → FieldType := fun k => match k with
  | 0 => .int
  | 1 => .int
  | 2 => .array .int
  | 3 => .array .int
  | 4 => .array .int
  | 5 => .array .boolean
  | 6 => .int
  | 7 => .array .int
  | 8 => .int
  | 9 => .int
  | 10 => .int
  | 11 => .int
  | 12 => .long
  | 13 => .int
  | 14 => .boolean
  | 15 => .int
  | 16 => .array .int
  | 17 => .int
  | 18 => .array .int
  | 19 => .array .int
  | 20 => .int
  | 21 => .array .int
  | 22 => .array .int
  | 23 => .int
  | 24 => .int
  | 25 => .array .long
  | 26 => .array .long
  | 27 => .int
  | 28 => .array .long
  | 29 => .array .long
  | 30 => .boolean
  | 31 => .long
  | 32 => .long
  | 33 => .array .int
  | 34 => .array .int
  | 35 => .array .boolean
  | 36 => .array .int
  | 37 => .array .int
  | 38 => .array .int
  | 39 => .array .int
  | 40 => .array .int
  | 41 => .array .int
  | 42 => .array .int
  | 43 => .array .int
  | 44 => .int
  | 45 => .int
  | 46 => .int
  | 47 => .array .int
  | 48 => .array .int
  | 49 => .array .int
  | 50 => .array .int
  | 51 => .array .int
  | 52 => .array .int
  | 53 => .array .int
  | 54 => .array .int
  | 55 => .long
  | 56 => .array .int
  | 57 => .array .int
  | 58 => .array .int
  | _ => .int
abbrev wsX90 : List Cond := u_ws RX9 TX9 60
set_option maxRecDepth 100000 in
theorem nmX9 : ∀ a, a < 60 → ∀ b, b < 60 → a ≠ b → (TX9 a).2.1 ≠ (TX9 b).2.1 := by decide +kernel
set_option maxRecDepth 100000 in
theorem tyX9_ok : ∀ k, k < 60 → parseFieldDescriptor (TX9 k).2.2.1 = some (tyX9 k) := by decide +kernel
abbrev cX9_init : ByteArray := prog_23_method_1_code
def yX9_init : MethodName := ⟨RX9, "<init>", "()V"⟩
def dkwX9_init_18 : List UInt8 := [16, 7, 27, 96, 2, 79, 132, 1, 1, 167, 255, 238, 177]
abbrev dktX9_init_18 : List UInt8 := dkwX9_init_18 ++ []
def dkwX9_init_17 : List UInt8 := [8, 4, 79, 42, 180, 0, 13, 16, 6, 16, 9, 79, 3, 60, 27, 8, 162, 0, 19, 42, 180, 0, 13]
abbrev dktX9_init_17 : List UInt8 := dkwX9_init_17 ++ dktX9_init_18
def dkwX9_init_16 : List UInt8 := [188, 10, 181, 0, 144, 42, 16, 6, 188, 10, 181, 0, 147, 42, 180, 0, 13, 6, 2, 79, 42, 180, 0, 13]
abbrev dktX9_init_16 : List UInt8 := dkwX9_init_16 ++ dktX9_init_17
def dkwX9_init_15 : List UInt8 := [188, 10, 181, 0, 135, 42, 16, 64, 188, 10, 181, 0, 138, 42, 16, 6, 188, 10, 181, 0, 141, 42, 16, 6]
abbrev dktX9_init_15 : List UInt8 := dkwX9_init_15 ++ dktX9_init_16
def dkwX9_init_14 : List UInt8 := [188, 10, 181, 0, 126, 42, 16, 8, 188, 10, 181, 0, 129, 42, 16, 64, 188, 10, 181, 0, 132, 42, 16, 64]
abbrev dktX9_init_14 : List UInt8 := dkwX9_init_14 ++ dktX9_init_15
def dkwX9_init_13 : List UInt8 := [16, 6, 188, 10, 181, 0, 117, 42, 8, 188, 10, 181, 0, 120, 42, 8, 188, 10, 181, 0, 123, 42, 16, 6]
abbrev dktX9_init_13 : List UInt8 := dkwX9_init_13 ++ dktX9_init_14
def dkwX9_init_12 : List UInt8 := [17, 2, 64, 188, 10, 181, 0, 108, 42, 8, 188, 10, 181, 0, 111, 42, 8, 188, 10, 181, 0, 114, 42]
abbrev dktX9_init_12 : List UInt8 := dkwX9_init_12 ++ dktX9_init_13
def dkwX9_init_11 : List UInt8 := [188, 10, 181, 0, 99, 42, 16, 36, 188, 10, 181, 0, 102, 42, 16, 36, 188, 10, 181, 0, 105, 42]
abbrev dktX9_init_11 : List UInt8 := dkwX9_init_11 ++ dktX9_init_12
def dkwX9_init_10 : List UInt8 := [181, 0, 90, 42, 16, 96, 188, 10, 181, 0, 93, 42, 16, 6, 188, 10, 181, 0, 96, 42, 17, 1, 104]
abbrev dktX9_init_10 : List UInt8 := dkwX9_init_10 ++ dktX9_init_11
def dkwX9_init_9 : List UInt8 := [181, 0, 81, 42, 16, 6, 188, 10, 181, 0, 84, 42, 16, 6, 188, 10, 181, 0, 87, 42, 16, 6, 188, 4]
abbrev dktX9_init_9 : List UInt8 := dkwX9_init_9 ++ dktX9_init_10
def dkwX9_init_8 : List UInt8 := [5, 20, 0, 73, 80, 181, 0, 75, 42, 16, 13, 188, 11, 181, 0, 78, 42, 17, 1, 144, 188, 11]
abbrev dktX9_init_8 : List UInt8 := dkwX9_init_8 ++ dktX9_init_9
def dkwX9_init_7 : List UInt8 := [20, 0, 63, 80, 181, 0, 65, 42, 6, 188, 11, 89, 3, 20, 0, 69, 80, 89, 4, 20, 0, 71, 80, 89]
abbrev dktX9_init_7 : List UInt8 := dkwX9_init_7 ++ dktX9_init_8
def dkwX9_init_6 : List UInt8 := [16, 6, 20, 0, 57, 80, 89, 16, 7, 20, 0, 59, 80, 89, 16, 8, 20, 0, 61, 80, 89, 16, 9]
abbrev dktX9_init_6 : List UInt8 := dkwX9_init_6 ++ dktX9_init_7
def dkwX9_init_5 : List UInt8 := [20, 0, 49, 80, 89, 6, 20, 0, 51, 80, 89, 7, 20, 0, 53, 80, 89, 8, 20, 0, 55, 80, 89]
abbrev dktX9_init_5 : List UInt8 := dkwX9_init_5 ++ dktX9_init_6
def dkwX9_init_4 : List UInt8 := [181, 0, 42, 42, 16, 10, 188, 11, 89, 3, 20, 0, 45, 80, 89, 4, 20, 0, 47, 80, 89, 5]
abbrev dktX9_init_4 : List UInt8 := dkwX9_init_4 ++ dktX9_init_5
def dkwX9_init_3 : List UInt8 := [17, 1, 144, 188, 10, 181, 0, 36, 42, 17, 1, 144, 188, 10, 181, 0, 39, 42, 17, 1, 144, 188, 10]
abbrev dktX9_init_3 : List UInt8 := dkwX9_init_3 ++ dktX9_init_4
def dkwX9_init_2 : List UInt8 := [42, 2, 181, 0, 26, 42, 16, 96, 188, 10, 181, 0, 30, 42, 17, 1, 144, 188, 10, 181, 0, 33, 42]
abbrev dktX9_init_2 : List UInt8 := dkwX9_init_2 ++ dktX9_init_3
def dkwX9_init_1 : List UInt8 := [17, 44, 96, 188, 10, 181, 0, 16, 42, 5, 188, 4, 181, 0, 19, 42, 17, 1, 144, 188, 10, 181, 0, 23]
abbrev dktX9_init_1 : List UInt8 := dkwX9_init_1 ++ dktX9_init_2
def dkwX9_init_0 : List UInt8 := [42, 183, 0, 1, 42, 16, 7, 188, 10, 181, 0, 7, 42, 17, 22, 48, 188, 10, 181, 0, 13, 42]
abbrev dktX9_init_0 : List UInt8 := dkwX9_init_0 ++ dktX9_init_1
theorem dksX9_init_0 : cX9_init.data.toList.drop 0 = dktX9_init_0 := by decide +kernel
theorem dksX9_init_1 : cX9_init.data.toList.drop 22 = dktX9_init_1 := dk_seg dksX9_init_0 22 rfl rfl
theorem dksX9_init_2 : cX9_init.data.toList.drop 46 = dktX9_init_2 := dk_seg dksX9_init_1 24 rfl rfl
theorem dksX9_init_3 : cX9_init.data.toList.drop 69 = dktX9_init_3 := dk_seg dksX9_init_2 23 rfl rfl
theorem dksX9_init_4 : cX9_init.data.toList.drop 92 = dktX9_init_4 := dk_seg dksX9_init_3 23 rfl rfl
theorem dksX9_init_5 : cX9_init.data.toList.drop 114 = dktX9_init_5 := dk_seg dksX9_init_4 22 rfl rfl
theorem dksX9_init_6 : cX9_init.data.toList.drop 137 = dktX9_init_6 := dk_seg dksX9_init_5 23 rfl rfl
theorem dksX9_init_7 : cX9_init.data.toList.drop 160 = dktX9_init_7 := dk_seg dksX9_init_6 23 rfl rfl
theorem dksX9_init_8 : cX9_init.data.toList.drop 184 = dktX9_init_8 := dk_seg dksX9_init_7 24 rfl rfl
theorem dksX9_init_9 : cX9_init.data.toList.drop 206 = dktX9_init_9 := dk_seg dksX9_init_8 22 rfl rfl
theorem dksX9_init_10 : cX9_init.data.toList.drop 230 = dktX9_init_10 := dk_seg dksX9_init_9 24 rfl rfl
theorem dksX9_init_11 : cX9_init.data.toList.drop 253 = dktX9_init_11 := dk_seg dksX9_init_10 23 rfl rfl
theorem dksX9_init_12 : cX9_init.data.toList.drop 275 = dktX9_init_12 := dk_seg dksX9_init_11 22 rfl rfl
theorem dksX9_init_13 : cX9_init.data.toList.drop 298 = dktX9_init_13 := dk_seg dksX9_init_12 23 rfl rfl
theorem dksX9_init_14 : cX9_init.data.toList.drop 322 = dktX9_init_14 := dk_seg dksX9_init_13 24 rfl rfl
theorem dksX9_init_15 : cX9_init.data.toList.drop 346 = dktX9_init_15 := dk_seg dksX9_init_14 24 rfl rfl
theorem dksX9_init_16 : cX9_init.data.toList.drop 370 = dktX9_init_16 := dk_seg dksX9_init_15 24 rfl rfl
theorem dksX9_init_17 : cX9_init.data.toList.drop 394 = dktX9_init_17 := dk_seg dksX9_init_16 24 rfl rfl
theorem dksX9_init_18 : cX9_init.data.toList.drop 417 = dktX9_init_18 := dk_seg dksX9_init_17 23 rfl rfl
theorem dX9_init_0 : decode cX9_init 0 = .ok (.aload_n 0, 1) := dk_42 (dk_at dksX9_init_0 0 rfl rfl)
theorem dX9_init_1 : decode cX9_init 1 = .ok (.invokespecial 1, 3) := dk_183 0 1 (dk_at dksX9_init_0 1 rfl rfl)
theorem dX9_init_4 : decode cX9_init 4 = .ok (.aload_n 0, 1) := dk_42 (dk_at dksX9_init_0 4 rfl rfl)
theorem dX9_init_5 : decode cX9_init 5 = .ok (.bipush 7, 2) := dk_16 7 (dk_at dksX9_init_0 5 rfl rfl)
theorem dX9_init_7 : decode cX9_init 7 = .ok (.newarray .int, 2) := dk_188_10 (dk_at dksX9_init_0 7 rfl rfl)
theorem dX9_init_9 : decode cX9_init 9 = .ok (.putfield 7, 3) := dk_181 0 7 (dk_at dksX9_init_0 9 rfl rfl)
theorem dX9_init_12 : decode cX9_init 12 = .ok (.aload_n 0, 1) := dk_42 (dk_at dksX9_init_0 12 rfl rfl)
theorem dX9_init_13 : decode cX9_init 13 = .ok (.sipush 5680, 3) := dk_17 22 48 (dk_at dksX9_init_0 13 rfl rfl)
theorem dX9_init_16 : decode cX9_init 16 = .ok (.newarray .int, 2) := dk_188_10 (dk_at dksX9_init_0 16 rfl rfl)
theorem dX9_init_18 : decode cX9_init 18 = .ok (.putfield 13, 3) := dk_181 0 13 (dk_at dksX9_init_0 18 rfl rfl)
theorem dX9_init_21 : decode cX9_init 21 = .ok (.aload_n 0, 1) := dk_42 (dk_at dksX9_init_0 21 rfl rfl)
theorem dX9_init_22 : decode cX9_init 22 = .ok (.sipush 11360, 3) := dk_17 44 96 (dk_at dksX9_init_1 0 rfl rfl)
theorem dX9_init_25 : decode cX9_init 25 = .ok (.newarray .int, 2) := dk_188_10 (dk_at dksX9_init_1 3 rfl rfl)
theorem dX9_init_27 : decode cX9_init 27 = .ok (.putfield 16, 3) := dk_181 0 16 (dk_at dksX9_init_1 5 rfl rfl)
theorem dX9_init_30 : decode cX9_init 30 = .ok (.aload_n 0, 1) := dk_42 (dk_at dksX9_init_1 8 rfl rfl)
theorem dX9_init_31 : decode cX9_init 31 = .ok (.iconst 2, 1) := dk_5 (dk_at dksX9_init_1 9 rfl rfl)
theorem dX9_init_32 : decode cX9_init 32 = .ok (.newarray .boolean, 2) := dk_188_4 (dk_at dksX9_init_1 10 rfl rfl)
theorem dX9_init_34 : decode cX9_init 34 = .ok (.putfield 19, 3) := dk_181 0 19 (dk_at dksX9_init_1 12 rfl rfl)
theorem dX9_init_37 : decode cX9_init 37 = .ok (.aload_n 0, 1) := dk_42 (dk_at dksX9_init_1 15 rfl rfl)
theorem dX9_init_38 : decode cX9_init 38 = .ok (.sipush 400, 3) := dk_17 1 144 (dk_at dksX9_init_1 16 rfl rfl)
theorem dX9_init_41 : decode cX9_init 41 = .ok (.newarray .int, 2) := dk_188_10 (dk_at dksX9_init_1 19 rfl rfl)
theorem dX9_init_43 : decode cX9_init 43 = .ok (.putfield 23, 3) := dk_181 0 23 (dk_at dksX9_init_1 21 rfl rfl)
theorem dX9_init_46 : decode cX9_init 46 = .ok (.aload_n 0, 1) := dk_42 (dk_at dksX9_init_2 0 rfl rfl)
theorem dX9_init_47 : decode cX9_init 47 = .ok (.iconst (-1), 1) := dk_2 (dk_at dksX9_init_2 1 rfl rfl)
theorem dX9_init_48 : decode cX9_init 48 = .ok (.putfield 26, 3) := dk_181 0 26 (dk_at dksX9_init_2 2 rfl rfl)
theorem dX9_init_51 : decode cX9_init 51 = .ok (.aload_n 0, 1) := dk_42 (dk_at dksX9_init_2 5 rfl rfl)
theorem dX9_init_52 : decode cX9_init 52 = .ok (.bipush 96, 2) := dk_16 96 (dk_at dksX9_init_2 6 rfl rfl)
theorem dX9_init_54 : decode cX9_init 54 = .ok (.newarray .int, 2) := dk_188_10 (dk_at dksX9_init_2 8 rfl rfl)
theorem dX9_init_56 : decode cX9_init 56 = .ok (.putfield 30, 3) := dk_181 0 30 (dk_at dksX9_init_2 10 rfl rfl)
theorem dX9_init_59 : decode cX9_init 59 = .ok (.aload_n 0, 1) := dk_42 (dk_at dksX9_init_2 13 rfl rfl)
theorem dX9_init_60 : decode cX9_init 60 = .ok (.sipush 400, 3) := dk_17 1 144 (dk_at dksX9_init_2 14 rfl rfl)
theorem dX9_init_63 : decode cX9_init 63 = .ok (.newarray .int, 2) := dk_188_10 (dk_at dksX9_init_2 17 rfl rfl)
theorem dX9_init_65 : decode cX9_init 65 = .ok (.putfield 33, 3) := dk_181 0 33 (dk_at dksX9_init_2 19 rfl rfl)
theorem dX9_init_68 : decode cX9_init 68 = .ok (.aload_n 0, 1) := dk_42 (dk_at dksX9_init_2 22 rfl rfl)
theorem dX9_init_69 : decode cX9_init 69 = .ok (.sipush 400, 3) := dk_17 1 144 (dk_at dksX9_init_3 0 rfl rfl)
theorem dX9_init_72 : decode cX9_init 72 = .ok (.newarray .int, 2) := dk_188_10 (dk_at dksX9_init_3 3 rfl rfl)
theorem dX9_init_74 : decode cX9_init 74 = .ok (.putfield 36, 3) := dk_181 0 36 (dk_at dksX9_init_3 5 rfl rfl)
theorem dX9_init_77 : decode cX9_init 77 = .ok (.aload_n 0, 1) := dk_42 (dk_at dksX9_init_3 8 rfl rfl)
theorem dX9_init_78 : decode cX9_init 78 = .ok (.sipush 400, 3) := dk_17 1 144 (dk_at dksX9_init_3 9 rfl rfl)
theorem dX9_init_81 : decode cX9_init 81 = .ok (.newarray .int, 2) := dk_188_10 (dk_at dksX9_init_3 12 rfl rfl)
theorem dX9_init_83 : decode cX9_init 83 = .ok (.putfield 39, 3) := dk_181 0 39 (dk_at dksX9_init_3 14 rfl rfl)
theorem dX9_init_86 : decode cX9_init 86 = .ok (.aload_n 0, 1) := dk_42 (dk_at dksX9_init_3 17 rfl rfl)
theorem dX9_init_87 : decode cX9_init 87 = .ok (.sipush 400, 3) := dk_17 1 144 (dk_at dksX9_init_3 18 rfl rfl)
theorem dX9_init_90 : decode cX9_init 90 = .ok (.newarray .int, 2) := dk_188_10 (dk_at dksX9_init_3 21 rfl rfl)
theorem dX9_init_92 : decode cX9_init 92 = .ok (.putfield 42, 3) := dk_181 0 42 (dk_at dksX9_init_4 0 rfl rfl)
theorem dX9_init_95 : decode cX9_init 95 = .ok (.aload_n 0, 1) := dk_42 (dk_at dksX9_init_4 3 rfl rfl)
theorem dX9_init_96 : decode cX9_init 96 = .ok (.bipush 10, 2) := dk_16 10 (dk_at dksX9_init_4 4 rfl rfl)
theorem dX9_init_98 : decode cX9_init 98 = .ok (.newarray .long, 2) := dk_188_11 (dk_at dksX9_init_4 6 rfl rfl)
theorem dX9_init_100 : decode cX9_init 100 = .ok (.dup, 1) := dk_89 (dk_at dksX9_init_4 8 rfl rfl)
theorem dX9_init_101 : decode cX9_init 101 = .ok (.iconst 0, 1) := dk_3 (dk_at dksX9_init_4 9 rfl rfl)
theorem dX9_init_102 : decode cX9_init 102 = .ok (.ldc2_w 45, 3) := dk_20 0 45 (dk_at dksX9_init_4 10 rfl rfl)
theorem dX9_init_105 : decode cX9_init 105 = .ok (.lastore, 1) := dk_80 (dk_at dksX9_init_4 13 rfl rfl)
theorem dX9_init_106 : decode cX9_init 106 = .ok (.dup, 1) := dk_89 (dk_at dksX9_init_4 14 rfl rfl)
theorem dX9_init_107 : decode cX9_init 107 = .ok (.iconst 1, 1) := dk_4 (dk_at dksX9_init_4 15 rfl rfl)
theorem dX9_init_108 : decode cX9_init 108 = .ok (.ldc2_w 47, 3) := dk_20 0 47 (dk_at dksX9_init_4 16 rfl rfl)
theorem dX9_init_111 : decode cX9_init 111 = .ok (.lastore, 1) := dk_80 (dk_at dksX9_init_4 19 rfl rfl)
theorem dX9_init_112 : decode cX9_init 112 = .ok (.dup, 1) := dk_89 (dk_at dksX9_init_4 20 rfl rfl)
theorem dX9_init_113 : decode cX9_init 113 = .ok (.iconst 2, 1) := dk_5 (dk_at dksX9_init_4 21 rfl rfl)
theorem dX9_init_114 : decode cX9_init 114 = .ok (.ldc2_w 49, 3) := dk_20 0 49 (dk_at dksX9_init_5 0 rfl rfl)
theorem dX9_init_117 : decode cX9_init 117 = .ok (.lastore, 1) := dk_80 (dk_at dksX9_init_5 3 rfl rfl)
theorem dX9_init_118 : decode cX9_init 118 = .ok (.dup, 1) := dk_89 (dk_at dksX9_init_5 4 rfl rfl)
theorem dX9_init_119 : decode cX9_init 119 = .ok (.iconst 3, 1) := dk_6 (dk_at dksX9_init_5 5 rfl rfl)
theorem dX9_init_120 : decode cX9_init 120 = .ok (.ldc2_w 51, 3) := dk_20 0 51 (dk_at dksX9_init_5 6 rfl rfl)
theorem dX9_init_123 : decode cX9_init 123 = .ok (.lastore, 1) := dk_80 (dk_at dksX9_init_5 9 rfl rfl)
theorem dX9_init_124 : decode cX9_init 124 = .ok (.dup, 1) := dk_89 (dk_at dksX9_init_5 10 rfl rfl)
theorem dX9_init_125 : decode cX9_init 125 = .ok (.iconst 4, 1) := dk_7 (dk_at dksX9_init_5 11 rfl rfl)
theorem dX9_init_126 : decode cX9_init 126 = .ok (.ldc2_w 53, 3) := dk_20 0 53 (dk_at dksX9_init_5 12 rfl rfl)
theorem dX9_init_129 : decode cX9_init 129 = .ok (.lastore, 1) := dk_80 (dk_at dksX9_init_5 15 rfl rfl)
theorem dX9_init_130 : decode cX9_init 130 = .ok (.dup, 1) := dk_89 (dk_at dksX9_init_5 16 rfl rfl)
theorem dX9_init_131 : decode cX9_init 131 = .ok (.iconst 5, 1) := dk_8 (dk_at dksX9_init_5 17 rfl rfl)
theorem dX9_init_132 : decode cX9_init 132 = .ok (.ldc2_w 55, 3) := dk_20 0 55 (dk_at dksX9_init_5 18 rfl rfl)
theorem dX9_init_135 : decode cX9_init 135 = .ok (.lastore, 1) := dk_80 (dk_at dksX9_init_5 21 rfl rfl)
theorem dX9_init_136 : decode cX9_init 136 = .ok (.dup, 1) := dk_89 (dk_at dksX9_init_5 22 rfl rfl)
theorem dX9_init_137 : decode cX9_init 137 = .ok (.bipush 6, 2) := dk_16 6 (dk_at dksX9_init_6 0 rfl rfl)
theorem dX9_init_139 : decode cX9_init 139 = .ok (.ldc2_w 57, 3) := dk_20 0 57 (dk_at dksX9_init_6 2 rfl rfl)
theorem dX9_init_142 : decode cX9_init 142 = .ok (.lastore, 1) := dk_80 (dk_at dksX9_init_6 5 rfl rfl)
theorem dX9_init_143 : decode cX9_init 143 = .ok (.dup, 1) := dk_89 (dk_at dksX9_init_6 6 rfl rfl)
theorem dX9_init_144 : decode cX9_init 144 = .ok (.bipush 7, 2) := dk_16 7 (dk_at dksX9_init_6 7 rfl rfl)
theorem dX9_init_146 : decode cX9_init 146 = .ok (.ldc2_w 59, 3) := dk_20 0 59 (dk_at dksX9_init_6 9 rfl rfl)
theorem dX9_init_149 : decode cX9_init 149 = .ok (.lastore, 1) := dk_80 (dk_at dksX9_init_6 12 rfl rfl)
theorem dX9_init_150 : decode cX9_init 150 = .ok (.dup, 1) := dk_89 (dk_at dksX9_init_6 13 rfl rfl)
theorem dX9_init_151 : decode cX9_init 151 = .ok (.bipush 8, 2) := dk_16 8 (dk_at dksX9_init_6 14 rfl rfl)
theorem dX9_init_153 : decode cX9_init 153 = .ok (.ldc2_w 61, 3) := dk_20 0 61 (dk_at dksX9_init_6 16 rfl rfl)
theorem dX9_init_156 : decode cX9_init 156 = .ok (.lastore, 1) := dk_80 (dk_at dksX9_init_6 19 rfl rfl)
theorem dX9_init_157 : decode cX9_init 157 = .ok (.dup, 1) := dk_89 (dk_at dksX9_init_6 20 rfl rfl)
theorem dX9_init_158 : decode cX9_init 158 = .ok (.bipush 9, 2) := dk_16 9 (dk_at dksX9_init_6 21 rfl rfl)
theorem dX9_init_160 : decode cX9_init 160 = .ok (.ldc2_w 63, 3) := dk_20 0 63 (dk_at dksX9_init_7 0 rfl rfl)
theorem dX9_init_163 : decode cX9_init 163 = .ok (.lastore, 1) := dk_80 (dk_at dksX9_init_7 3 rfl rfl)
theorem dX9_init_164 : decode cX9_init 164 = .ok (.putfield 65, 3) := dk_181 0 65 (dk_at dksX9_init_7 4 rfl rfl)
theorem dX9_init_167 : decode cX9_init 167 = .ok (.aload_n 0, 1) := dk_42 (dk_at dksX9_init_7 7 rfl rfl)
theorem dX9_init_168 : decode cX9_init 168 = .ok (.iconst 3, 1) := dk_6 (dk_at dksX9_init_7 8 rfl rfl)
theorem dX9_init_169 : decode cX9_init 169 = .ok (.newarray .long, 2) := dk_188_11 (dk_at dksX9_init_7 9 rfl rfl)
theorem dX9_init_171 : decode cX9_init 171 = .ok (.dup, 1) := dk_89 (dk_at dksX9_init_7 11 rfl rfl)
theorem dX9_init_172 : decode cX9_init 172 = .ok (.iconst 0, 1) := dk_3 (dk_at dksX9_init_7 12 rfl rfl)
theorem dX9_init_173 : decode cX9_init 173 = .ok (.ldc2_w 69, 3) := dk_20 0 69 (dk_at dksX9_init_7 13 rfl rfl)
theorem dX9_init_176 : decode cX9_init 176 = .ok (.lastore, 1) := dk_80 (dk_at dksX9_init_7 16 rfl rfl)
theorem dX9_init_177 : decode cX9_init 177 = .ok (.dup, 1) := dk_89 (dk_at dksX9_init_7 17 rfl rfl)
theorem dX9_init_178 : decode cX9_init 178 = .ok (.iconst 1, 1) := dk_4 (dk_at dksX9_init_7 18 rfl rfl)
theorem dX9_init_179 : decode cX9_init 179 = .ok (.ldc2_w 71, 3) := dk_20 0 71 (dk_at dksX9_init_7 19 rfl rfl)
theorem dX9_init_182 : decode cX9_init 182 = .ok (.lastore, 1) := dk_80 (dk_at dksX9_init_7 22 rfl rfl)
theorem dX9_init_183 : decode cX9_init 183 = .ok (.dup, 1) := dk_89 (dk_at dksX9_init_7 23 rfl rfl)
theorem dX9_init_184 : decode cX9_init 184 = .ok (.iconst 2, 1) := dk_5 (dk_at dksX9_init_8 0 rfl rfl)
theorem dX9_init_185 : decode cX9_init 185 = .ok (.ldc2_w 73, 3) := dk_20 0 73 (dk_at dksX9_init_8 1 rfl rfl)
theorem dX9_init_188 : decode cX9_init 188 = .ok (.lastore, 1) := dk_80 (dk_at dksX9_init_8 4 rfl rfl)
theorem dX9_init_189 : decode cX9_init 189 = .ok (.putfield 75, 3) := dk_181 0 75 (dk_at dksX9_init_8 5 rfl rfl)
theorem dX9_init_192 : decode cX9_init 192 = .ok (.aload_n 0, 1) := dk_42 (dk_at dksX9_init_8 8 rfl rfl)
theorem dX9_init_193 : decode cX9_init 193 = .ok (.bipush 13, 2) := dk_16 13 (dk_at dksX9_init_8 9 rfl rfl)
theorem dX9_init_195 : decode cX9_init 195 = .ok (.newarray .long, 2) := dk_188_11 (dk_at dksX9_init_8 11 rfl rfl)
theorem dX9_init_197 : decode cX9_init 197 = .ok (.putfield 78, 3) := dk_181 0 78 (dk_at dksX9_init_8 13 rfl rfl)
theorem dX9_init_200 : decode cX9_init 200 = .ok (.aload_n 0, 1) := dk_42 (dk_at dksX9_init_8 16 rfl rfl)
theorem dX9_init_201 : decode cX9_init 201 = .ok (.sipush 400, 3) := dk_17 1 144 (dk_at dksX9_init_8 17 rfl rfl)
theorem dX9_init_204 : decode cX9_init 204 = .ok (.newarray .long, 2) := dk_188_11 (dk_at dksX9_init_8 20 rfl rfl)
theorem dX9_init_206 : decode cX9_init 206 = .ok (.putfield 81, 3) := dk_181 0 81 (dk_at dksX9_init_9 0 rfl rfl)
theorem dX9_init_209 : decode cX9_init 209 = .ok (.aload_n 0, 1) := dk_42 (dk_at dksX9_init_9 3 rfl rfl)
theorem dX9_init_210 : decode cX9_init 210 = .ok (.bipush 6, 2) := dk_16 6 (dk_at dksX9_init_9 4 rfl rfl)
theorem dX9_init_212 : decode cX9_init 212 = .ok (.newarray .int, 2) := dk_188_10 (dk_at dksX9_init_9 6 rfl rfl)
theorem dX9_init_214 : decode cX9_init 214 = .ok (.putfield 84, 3) := dk_181 0 84 (dk_at dksX9_init_9 8 rfl rfl)
theorem dX9_init_217 : decode cX9_init 217 = .ok (.aload_n 0, 1) := dk_42 (dk_at dksX9_init_9 11 rfl rfl)
theorem dX9_init_218 : decode cX9_init 218 = .ok (.bipush 6, 2) := dk_16 6 (dk_at dksX9_init_9 12 rfl rfl)
theorem dX9_init_220 : decode cX9_init 220 = .ok (.newarray .int, 2) := dk_188_10 (dk_at dksX9_init_9 14 rfl rfl)
theorem dX9_init_222 : decode cX9_init 222 = .ok (.putfield 87, 3) := dk_181 0 87 (dk_at dksX9_init_9 16 rfl rfl)
theorem dX9_init_225 : decode cX9_init 225 = .ok (.aload_n 0, 1) := dk_42 (dk_at dksX9_init_9 19 rfl rfl)
theorem dX9_init_226 : decode cX9_init 226 = .ok (.bipush 6, 2) := dk_16 6 (dk_at dksX9_init_9 20 rfl rfl)
theorem dX9_init_228 : decode cX9_init 228 = .ok (.newarray .boolean, 2) := dk_188_4 (dk_at dksX9_init_9 22 rfl rfl)
theorem dX9_init_230 : decode cX9_init 230 = .ok (.putfield 90, 3) := dk_181 0 90 (dk_at dksX9_init_10 0 rfl rfl)
theorem dX9_init_233 : decode cX9_init 233 = .ok (.aload_n 0, 1) := dk_42 (dk_at dksX9_init_10 3 rfl rfl)
theorem dX9_init_234 : decode cX9_init 234 = .ok (.bipush 96, 2) := dk_16 96 (dk_at dksX9_init_10 4 rfl rfl)
theorem dX9_init_236 : decode cX9_init 236 = .ok (.newarray .int, 2) := dk_188_10 (dk_at dksX9_init_10 6 rfl rfl)
theorem dX9_init_238 : decode cX9_init 238 = .ok (.putfield 93, 3) := dk_181 0 93 (dk_at dksX9_init_10 8 rfl rfl)
theorem dX9_init_241 : decode cX9_init 241 = .ok (.aload_n 0, 1) := dk_42 (dk_at dksX9_init_10 11 rfl rfl)
theorem dX9_init_242 : decode cX9_init 242 = .ok (.bipush 6, 2) := dk_16 6 (dk_at dksX9_init_10 12 rfl rfl)
theorem dX9_init_244 : decode cX9_init 244 = .ok (.newarray .int, 2) := dk_188_10 (dk_at dksX9_init_10 14 rfl rfl)
theorem dX9_init_246 : decode cX9_init 246 = .ok (.putfield 96, 3) := dk_181 0 96 (dk_at dksX9_init_10 16 rfl rfl)
theorem dX9_init_249 : decode cX9_init 249 = .ok (.aload_n 0, 1) := dk_42 (dk_at dksX9_init_10 19 rfl rfl)
theorem dX9_init_250 : decode cX9_init 250 = .ok (.sipush 360, 3) := dk_17 1 104 (dk_at dksX9_init_10 20 rfl rfl)
theorem dX9_init_253 : decode cX9_init 253 = .ok (.newarray .int, 2) := dk_188_10 (dk_at dksX9_init_11 0 rfl rfl)
theorem dX9_init_255 : decode cX9_init 255 = .ok (.putfield 99, 3) := dk_181 0 99 (dk_at dksX9_init_11 2 rfl rfl)
theorem dX9_init_258 : decode cX9_init 258 = .ok (.aload_n 0, 1) := dk_42 (dk_at dksX9_init_11 5 rfl rfl)
theorem dX9_init_259 : decode cX9_init 259 = .ok (.bipush 36, 2) := dk_16 36 (dk_at dksX9_init_11 6 rfl rfl)
theorem dX9_init_261 : decode cX9_init 261 = .ok (.newarray .int, 2) := dk_188_10 (dk_at dksX9_init_11 8 rfl rfl)
theorem dX9_init_263 : decode cX9_init 263 = .ok (.putfield 102, 3) := dk_181 0 102 (dk_at dksX9_init_11 10 rfl rfl)
theorem dX9_init_266 : decode cX9_init 266 = .ok (.aload_n 0, 1) := dk_42 (dk_at dksX9_init_11 13 rfl rfl)
theorem dX9_init_267 : decode cX9_init 267 = .ok (.bipush 36, 2) := dk_16 36 (dk_at dksX9_init_11 14 rfl rfl)
theorem dX9_init_269 : decode cX9_init 269 = .ok (.newarray .int, 2) := dk_188_10 (dk_at dksX9_init_11 16 rfl rfl)
theorem dX9_init_271 : decode cX9_init 271 = .ok (.putfield 105, 3) := dk_181 0 105 (dk_at dksX9_init_11 18 rfl rfl)
theorem dX9_init_274 : decode cX9_init 274 = .ok (.aload_n 0, 1) := dk_42 (dk_at dksX9_init_11 21 rfl rfl)
theorem dX9_init_275 : decode cX9_init 275 = .ok (.sipush 576, 3) := dk_17 2 64 (dk_at dksX9_init_12 0 rfl rfl)
theorem dX9_init_278 : decode cX9_init 278 = .ok (.newarray .int, 2) := dk_188_10 (dk_at dksX9_init_12 3 rfl rfl)
theorem dX9_init_280 : decode cX9_init 280 = .ok (.putfield 108, 3) := dk_181 0 108 (dk_at dksX9_init_12 5 rfl rfl)
theorem dX9_init_283 : decode cX9_init 283 = .ok (.aload_n 0, 1) := dk_42 (dk_at dksX9_init_12 8 rfl rfl)
theorem dX9_init_284 : decode cX9_init 284 = .ok (.iconst 5, 1) := dk_8 (dk_at dksX9_init_12 9 rfl rfl)
theorem dX9_init_285 : decode cX9_init 285 = .ok (.newarray .int, 2) := dk_188_10 (dk_at dksX9_init_12 10 rfl rfl)
theorem dX9_init_287 : decode cX9_init 287 = .ok (.putfield 111, 3) := dk_181 0 111 (dk_at dksX9_init_12 12 rfl rfl)
theorem dX9_init_290 : decode cX9_init 290 = .ok (.aload_n 0, 1) := dk_42 (dk_at dksX9_init_12 15 rfl rfl)
theorem dX9_init_291 : decode cX9_init 291 = .ok (.iconst 5, 1) := dk_8 (dk_at dksX9_init_12 16 rfl rfl)
theorem dX9_init_292 : decode cX9_init 292 = .ok (.newarray .int, 2) := dk_188_10 (dk_at dksX9_init_12 17 rfl rfl)
theorem dX9_init_294 : decode cX9_init 294 = .ok (.putfield 114, 3) := dk_181 0 114 (dk_at dksX9_init_12 19 rfl rfl)
theorem dX9_init_297 : decode cX9_init 297 = .ok (.aload_n 0, 1) := dk_42 (dk_at dksX9_init_12 22 rfl rfl)
theorem dX9_init_298 : decode cX9_init 298 = .ok (.bipush 6, 2) := dk_16 6 (dk_at dksX9_init_13 0 rfl rfl)
theorem dX9_init_300 : decode cX9_init 300 = .ok (.newarray .int, 2) := dk_188_10 (dk_at dksX9_init_13 2 rfl rfl)
theorem dX9_init_302 : decode cX9_init 302 = .ok (.putfield 117, 3) := dk_181 0 117 (dk_at dksX9_init_13 4 rfl rfl)
theorem dX9_init_305 : decode cX9_init 305 = .ok (.aload_n 0, 1) := dk_42 (dk_at dksX9_init_13 7 rfl rfl)
theorem dX9_init_306 : decode cX9_init 306 = .ok (.iconst 5, 1) := dk_8 (dk_at dksX9_init_13 8 rfl rfl)
theorem dX9_init_307 : decode cX9_init 307 = .ok (.newarray .int, 2) := dk_188_10 (dk_at dksX9_init_13 9 rfl rfl)
theorem dX9_init_309 : decode cX9_init 309 = .ok (.putfield 120, 3) := dk_181 0 120 (dk_at dksX9_init_13 11 rfl rfl)
theorem dX9_init_312 : decode cX9_init 312 = .ok (.aload_n 0, 1) := dk_42 (dk_at dksX9_init_13 14 rfl rfl)
theorem dX9_init_313 : decode cX9_init 313 = .ok (.iconst 5, 1) := dk_8 (dk_at dksX9_init_13 15 rfl rfl)
theorem dX9_init_314 : decode cX9_init 314 = .ok (.newarray .int, 2) := dk_188_10 (dk_at dksX9_init_13 16 rfl rfl)
theorem dX9_init_316 : decode cX9_init 316 = .ok (.putfield 123, 3) := dk_181 0 123 (dk_at dksX9_init_13 18 rfl rfl)
theorem dX9_init_319 : decode cX9_init 319 = .ok (.aload_n 0, 1) := dk_42 (dk_at dksX9_init_13 21 rfl rfl)
theorem dX9_init_320 : decode cX9_init 320 = .ok (.bipush 6, 2) := dk_16 6 (dk_at dksX9_init_13 22 rfl rfl)
theorem dX9_init_322 : decode cX9_init 322 = .ok (.newarray .int, 2) := dk_188_10 (dk_at dksX9_init_14 0 rfl rfl)
theorem dX9_init_324 : decode cX9_init 324 = .ok (.putfield 126, 3) := dk_181 0 126 (dk_at dksX9_init_14 2 rfl rfl)
theorem dX9_init_327 : decode cX9_init 327 = .ok (.aload_n 0, 1) := dk_42 (dk_at dksX9_init_14 5 rfl rfl)
theorem dX9_init_328 : decode cX9_init 328 = .ok (.bipush 8, 2) := dk_16 8 (dk_at dksX9_init_14 6 rfl rfl)
theorem dX9_init_330 : decode cX9_init 330 = .ok (.newarray .int, 2) := dk_188_10 (dk_at dksX9_init_14 8 rfl rfl)
theorem dX9_init_332 : decode cX9_init 332 = .ok (.putfield 129, 3) := dk_181 0 129 (dk_at dksX9_init_14 10 rfl rfl)
theorem dX9_init_335 : decode cX9_init 335 = .ok (.aload_n 0, 1) := dk_42 (dk_at dksX9_init_14 13 rfl rfl)
theorem dX9_init_336 : decode cX9_init 336 = .ok (.bipush 64, 2) := dk_16 64 (dk_at dksX9_init_14 14 rfl rfl)
theorem dX9_init_338 : decode cX9_init 338 = .ok (.newarray .int, 2) := dk_188_10 (dk_at dksX9_init_14 16 rfl rfl)
theorem dX9_init_340 : decode cX9_init 340 = .ok (.putfield 132, 3) := dk_181 0 132 (dk_at dksX9_init_14 18 rfl rfl)
theorem dX9_init_343 : decode cX9_init 343 = .ok (.aload_n 0, 1) := dk_42 (dk_at dksX9_init_14 21 rfl rfl)
theorem dX9_init_344 : decode cX9_init 344 = .ok (.bipush 64, 2) := dk_16 64 (dk_at dksX9_init_14 22 rfl rfl)
theorem dX9_init_346 : decode cX9_init 346 = .ok (.newarray .int, 2) := dk_188_10 (dk_at dksX9_init_15 0 rfl rfl)
theorem dX9_init_348 : decode cX9_init 348 = .ok (.putfield 135, 3) := dk_181 0 135 (dk_at dksX9_init_15 2 rfl rfl)
theorem dX9_init_351 : decode cX9_init 351 = .ok (.aload_n 0, 1) := dk_42 (dk_at dksX9_init_15 5 rfl rfl)
theorem dX9_init_352 : decode cX9_init 352 = .ok (.bipush 64, 2) := dk_16 64 (dk_at dksX9_init_15 6 rfl rfl)
theorem dX9_init_354 : decode cX9_init 354 = .ok (.newarray .int, 2) := dk_188_10 (dk_at dksX9_init_15 8 rfl rfl)
theorem dX9_init_356 : decode cX9_init 356 = .ok (.putfield 138, 3) := dk_181 0 138 (dk_at dksX9_init_15 10 rfl rfl)
theorem dX9_init_359 : decode cX9_init 359 = .ok (.aload_n 0, 1) := dk_42 (dk_at dksX9_init_15 13 rfl rfl)
theorem dX9_init_360 : decode cX9_init 360 = .ok (.bipush 6, 2) := dk_16 6 (dk_at dksX9_init_15 14 rfl rfl)
theorem dX9_init_362 : decode cX9_init 362 = .ok (.newarray .int, 2) := dk_188_10 (dk_at dksX9_init_15 16 rfl rfl)
theorem dX9_init_364 : decode cX9_init 364 = .ok (.putfield 141, 3) := dk_181 0 141 (dk_at dksX9_init_15 18 rfl rfl)
theorem dX9_init_367 : decode cX9_init 367 = .ok (.aload_n 0, 1) := dk_42 (dk_at dksX9_init_15 21 rfl rfl)
theorem dX9_init_368 : decode cX9_init 368 = .ok (.bipush 6, 2) := dk_16 6 (dk_at dksX9_init_15 22 rfl rfl)
theorem dX9_init_370 : decode cX9_init 370 = .ok (.newarray .int, 2) := dk_188_10 (dk_at dksX9_init_16 0 rfl rfl)
theorem dX9_init_372 : decode cX9_init 372 = .ok (.putfield 144, 3) := dk_181 0 144 (dk_at dksX9_init_16 2 rfl rfl)
theorem dX9_init_375 : decode cX9_init 375 = .ok (.aload_n 0, 1) := dk_42 (dk_at dksX9_init_16 5 rfl rfl)
theorem dX9_init_376 : decode cX9_init 376 = .ok (.bipush 6, 2) := dk_16 6 (dk_at dksX9_init_16 6 rfl rfl)
theorem dX9_init_378 : decode cX9_init 378 = .ok (.newarray .int, 2) := dk_188_10 (dk_at dksX9_init_16 8 rfl rfl)
theorem dX9_init_380 : decode cX9_init 380 = .ok (.putfield 147, 3) := dk_181 0 147 (dk_at dksX9_init_16 10 rfl rfl)
theorem dX9_init_383 : decode cX9_init 383 = .ok (.aload_n 0, 1) := dk_42 (dk_at dksX9_init_16 13 rfl rfl)
theorem dX9_init_384 : decode cX9_init 384 = .ok (.getfield 13, 3) := dk_180 0 13 (dk_at dksX9_init_16 14 rfl rfl)
theorem dX9_init_387 : decode cX9_init 387 = .ok (.iconst 3, 1) := dk_6 (dk_at dksX9_init_16 17 rfl rfl)
theorem dX9_init_388 : decode cX9_init 388 = .ok (.iconst (-1), 1) := dk_2 (dk_at dksX9_init_16 18 rfl rfl)
theorem dX9_init_389 : decode cX9_init 389 = .ok (.iastore, 1) := dk_79 (dk_at dksX9_init_16 19 rfl rfl)
theorem dX9_init_390 : decode cX9_init 390 = .ok (.aload_n 0, 1) := dk_42 (dk_at dksX9_init_16 20 rfl rfl)
theorem dX9_init_391 : decode cX9_init 391 = .ok (.getfield 13, 3) := dk_180 0 13 (dk_at dksX9_init_16 21 rfl rfl)
theorem dX9_init_394 : decode cX9_init 394 = .ok (.iconst 5, 1) := dk_8 (dk_at dksX9_init_17 0 rfl rfl)
theorem dX9_init_395 : decode cX9_init 395 = .ok (.iconst 1, 1) := dk_4 (dk_at dksX9_init_17 1 rfl rfl)
theorem dX9_init_396 : decode cX9_init 396 = .ok (.iastore, 1) := dk_79 (dk_at dksX9_init_17 2 rfl rfl)
theorem dX9_init_397 : decode cX9_init 397 = .ok (.aload_n 0, 1) := dk_42 (dk_at dksX9_init_17 3 rfl rfl)
theorem dX9_init_398 : decode cX9_init 398 = .ok (.getfield 13, 3) := dk_180 0 13 (dk_at dksX9_init_17 4 rfl rfl)
theorem dX9_init_401 : decode cX9_init 401 = .ok (.bipush 6, 2) := dk_16 6 (dk_at dksX9_init_17 7 rfl rfl)
theorem dX9_init_403 : decode cX9_init 403 = .ok (.bipush 9, 2) := dk_16 9 (dk_at dksX9_init_17 9 rfl rfl)
theorem dX9_init_405 : decode cX9_init 405 = .ok (.iastore, 1) := dk_79 (dk_at dksX9_init_17 11 rfl rfl)
theorem dX9_init_406 : decode cX9_init 406 = .ok (.iconst 0, 1) := dk_3 (dk_at dksX9_init_17 12 rfl rfl)
theorem dX9_init_407 : decode cX9_init 407 = .ok (.istore_n 1, 1) := dk_60 (dk_at dksX9_init_17 13 rfl rfl)
theorem dX9_init_408 : decode cX9_init 408 = .ok (.iload_n 1, 1) := dk_27 (dk_at dksX9_init_17 14 rfl rfl)
theorem dX9_init_409 : decode cX9_init 409 = .ok (.iconst 5, 1) := dk_8 (dk_at dksX9_init_17 15 rfl rfl)
theorem dX9_init_410 : decode cX9_init 410 = .ok (.if_icmp .ge 19, 3) := dk_162 0 19 (dk_at dksX9_init_17 16 rfl rfl)
theorem dX9_init_413 : decode cX9_init 413 = .ok (.aload_n 0, 1) := dk_42 (dk_at dksX9_init_17 19 rfl rfl)
theorem dX9_init_414 : decode cX9_init 414 = .ok (.getfield 13, 3) := dk_180 0 13 (dk_at dksX9_init_17 20 rfl rfl)
theorem dX9_init_417 : decode cX9_init 417 = .ok (.bipush 7, 2) := dk_16 7 (dk_at dksX9_init_18 0 rfl rfl)
theorem dX9_init_419 : decode cX9_init 419 = .ok (.iload_n 1, 1) := dk_27 (dk_at dksX9_init_18 2 rfl rfl)
theorem dX9_init_420 : decode cX9_init 420 = .ok (.iadd, 1) := dk_96 (dk_at dksX9_init_18 3 rfl rfl)
theorem dX9_init_421 : decode cX9_init 421 = .ok (.iconst (-1), 1) := dk_2 (dk_at dksX9_init_18 4 rfl rfl)
theorem dX9_init_422 : decode cX9_init 422 = .ok (.iastore, 1) := dk_79 (dk_at dksX9_init_18 5 rfl rfl)
theorem dX9_init_423 : decode cX9_init 423 = .ok (.iinc 1 1, 3) := dk_132 1 1 (dk_at dksX9_init_18 6 rfl rfl)
theorem dX9_init_426 : decode cX9_init 426 = .ok (.goto (-18), 3) := dk_167 255 238 (dk_at dksX9_init_18 9 rfl rfl)
theorem dX9_init_429 : decode cX9_init 429 = .ok (.return_, 1) := dk_177 (dk_at dksX9_init_18 12 rfl rfl)
abbrev cX9_image : ByteArray := prog_23_method_9_code
def yX9_image : MethodName := ⟨RX9, "image", "(I)I"⟩
def dkwX9_image_2 : List UInt8 := [132, 2, 1, 167, 255, 228, 42, 180, 0, 19, 27, 4, 84, 42, 3, 182, 0, 164, 172]
abbrev dktX9_image_2 : List UInt8 := dkwX9_image_2 ++ []
def dkwX9_image_1 : List UInt8 := [17, 22, 48, 162, 0, 27, 42, 180, 0, 16, 17, 22, 48, 27, 104, 28, 96, 42, 180, 0, 13, 28, 46, 79]
abbrev dktX9_image_1 : List UInt8 := dkwX9_image_1 ++ dktX9_image_2
def dkwX9_image_0 : List UInt8 := [42, 3, 181, 0, 150, 27, 133, 9, 10, 184, 0, 160, 154, 0, 9, 42, 2, 182, 0, 164, 172, 3, 61, 28]
abbrev dktX9_image_0 : List UInt8 := dkwX9_image_0 ++ dktX9_image_1
theorem dksX9_image_0 : cX9_image.data.toList.drop 0 = dktX9_image_0 := by decide +kernel
theorem dksX9_image_1 : cX9_image.data.toList.drop 24 = dktX9_image_1 := dk_seg dksX9_image_0 24 rfl rfl
theorem dksX9_image_2 : cX9_image.data.toList.drop 48 = dktX9_image_2 := dk_seg dksX9_image_1 24 rfl rfl
theorem dX9_image_0 : decode cX9_image 0 = .ok (.aload_n 0, 1) := dk_42 (dk_at dksX9_image_0 0 rfl rfl)
theorem dX9_image_1 : decode cX9_image 1 = .ok (.iconst 0, 1) := dk_3 (dk_at dksX9_image_0 1 rfl rfl)
theorem dX9_image_2 : decode cX9_image 2 = .ok (.putfield 150, 3) := dk_181 0 150 (dk_at dksX9_image_0 2 rfl rfl)
theorem dX9_image_5 : decode cX9_image 5 = .ok (.iload_n 1, 1) := dk_27 (dk_at dksX9_image_0 5 rfl rfl)
theorem dX9_image_6 : decode cX9_image 6 = .ok (.i2l, 1) := dk_133 (dk_at dksX9_image_0 6 rfl rfl)
theorem dX9_image_7 : decode cX9_image 7 = .ok (.lconst 0, 1) := dk_9 (dk_at dksX9_image_0 7 rfl rfl)
theorem dX9_image_8 : decode cX9_image 8 = .ok (.lconst 1, 1) := dk_10 (dk_at dksX9_image_0 8 rfl rfl)
theorem dX9_image_9 : decode cX9_image 9 = .ok (.invokestatic 160, 3) := dk_184 0 160 (dk_at dksX9_image_0 9 rfl rfl)
theorem dX9_image_12 : decode cX9_image 12 = .ok (.ifCond .ne 9, 3) := dk_154 0 9 (dk_at dksX9_image_0 12 rfl rfl)
theorem dX9_image_15 : decode cX9_image 15 = .ok (.aload_n 0, 1) := dk_42 (dk_at dksX9_image_0 15 rfl rfl)
theorem dX9_image_16 : decode cX9_image 16 = .ok (.iconst (-1), 1) := dk_2 (dk_at dksX9_image_0 16 rfl rfl)
theorem dX9_image_17 : decode cX9_image 17 = .ok (.invokevirtual 164, 3) := dk_182 0 164 (dk_at dksX9_image_0 17 rfl rfl)
theorem dX9_image_20 : decode cX9_image 20 = .ok (.ireturn, 1) := dk_172 (dk_at dksX9_image_0 20 rfl rfl)
theorem dX9_image_21 : decode cX9_image 21 = .ok (.iconst 0, 1) := dk_3 (dk_at dksX9_image_0 21 rfl rfl)
theorem dX9_image_22 : decode cX9_image 22 = .ok (.istore_n 2, 1) := dk_61 (dk_at dksX9_image_0 22 rfl rfl)
theorem dX9_image_23 : decode cX9_image 23 = .ok (.iload_n 2, 1) := dk_28 (dk_at dksX9_image_0 23 rfl rfl)
theorem dX9_image_24 : decode cX9_image 24 = .ok (.sipush 5680, 3) := dk_17 22 48 (dk_at dksX9_image_1 0 rfl rfl)
theorem dX9_image_27 : decode cX9_image 27 = .ok (.if_icmp .ge 27, 3) := dk_162 0 27 (dk_at dksX9_image_1 3 rfl rfl)
theorem dX9_image_30 : decode cX9_image 30 = .ok (.aload_n 0, 1) := dk_42 (dk_at dksX9_image_1 6 rfl rfl)
theorem dX9_image_31 : decode cX9_image 31 = .ok (.getfield 16, 3) := dk_180 0 16 (dk_at dksX9_image_1 7 rfl rfl)
theorem dX9_image_34 : decode cX9_image 34 = .ok (.sipush 5680, 3) := dk_17 22 48 (dk_at dksX9_image_1 10 rfl rfl)
theorem dX9_image_37 : decode cX9_image 37 = .ok (.iload_n 1, 1) := dk_27 (dk_at dksX9_image_1 13 rfl rfl)
theorem dX9_image_38 : decode cX9_image 38 = .ok (.imul, 1) := dk_104 (dk_at dksX9_image_1 14 rfl rfl)
theorem dX9_image_39 : decode cX9_image 39 = .ok (.iload_n 2, 1) := dk_28 (dk_at dksX9_image_1 15 rfl rfl)
theorem dX9_image_40 : decode cX9_image 40 = .ok (.iadd, 1) := dk_96 (dk_at dksX9_image_1 16 rfl rfl)
theorem dX9_image_41 : decode cX9_image 41 = .ok (.aload_n 0, 1) := dk_42 (dk_at dksX9_image_1 17 rfl rfl)
theorem dX9_image_42 : decode cX9_image 42 = .ok (.getfield 13, 3) := dk_180 0 13 (dk_at dksX9_image_1 18 rfl rfl)
theorem dX9_image_45 : decode cX9_image 45 = .ok (.iload_n 2, 1) := dk_28 (dk_at dksX9_image_1 21 rfl rfl)
theorem dX9_image_46 : decode cX9_image 46 = .ok (.iaload, 1) := dk_46 (dk_at dksX9_image_1 22 rfl rfl)
theorem dX9_image_47 : decode cX9_image 47 = .ok (.iastore, 1) := dk_79 (dk_at dksX9_image_1 23 rfl rfl)
theorem dX9_image_48 : decode cX9_image 48 = .ok (.iinc 2 1, 3) := dk_132 2 1 (dk_at dksX9_image_2 0 rfl rfl)
theorem dX9_image_51 : decode cX9_image 51 = .ok (.goto (-28), 3) := dk_167 255 228 (dk_at dksX9_image_2 3 rfl rfl)
theorem dX9_image_54 : decode cX9_image 54 = .ok (.aload_n 0, 1) := dk_42 (dk_at dksX9_image_2 6 rfl rfl)
theorem dX9_image_55 : decode cX9_image 55 = .ok (.getfield 19, 3) := dk_180 0 19 (dk_at dksX9_image_2 7 rfl rfl)
theorem dX9_image_58 : decode cX9_image 58 = .ok (.iload_n 1, 1) := dk_27 (dk_at dksX9_image_2 10 rfl rfl)
theorem dX9_image_59 : decode cX9_image 59 = .ok (.iconst 1, 1) := dk_4 (dk_at dksX9_image_2 11 rfl rfl)
theorem dX9_image_60 : decode cX9_image 60 = .ok (.bastore, 1) := dk_84 (dk_at dksX9_image_2 12 rfl rfl)
theorem dX9_image_61 : decode cX9_image 61 = .ok (.aload_n 0, 1) := dk_42 (dk_at dksX9_image_2 13 rfl rfl)
theorem dX9_image_62 : decode cX9_image 62 = .ok (.iconst 0, 1) := dk_3 (dk_at dksX9_image_2 14 rfl rfl)
theorem dX9_image_63 : decode cX9_image 63 = .ok (.invokevirtual 164, 3) := dk_182 0 164 (dk_at dksX9_image_2 15 rfl rfl)
theorem dX9_image_66 : decode cX9_image 66 = .ok (.ireturn, 1) := dk_172 (dk_at dksX9_image_2 18 rfl rfl)
abbrev cX9_in : ByteArray := prog_23_method_3_code
def yX9_in : MethodName := ⟨RX9, "in", "(JJJ)Z"⟩
def dkwX9_in_0 : List UInt8 := [30, 32, 148, 155, 0, 14, 30, 22, 4, 148, 157, 0, 7, 4, 167, 0, 4, 3, 172]
abbrev dktX9_in_0 : List UInt8 := dkwX9_in_0 ++ []
theorem dksX9_in_0 : cX9_in.data.toList.drop 0 = dktX9_in_0 := by decide +kernel
theorem dX9_in_0 : decode cX9_in 0 = .ok (.lload_n 0, 1) := dk_30 (dk_at dksX9_in_0 0 rfl rfl)
theorem dX9_in_1 : decode cX9_in 1 = .ok (.lload_n 2, 1) := dk_32 (dk_at dksX9_in_0 1 rfl rfl)
theorem dX9_in_2 : decode cX9_in 2 = .ok (.lcmp, 1) := dk_148 (dk_at dksX9_in_0 2 rfl rfl)
theorem dX9_in_3 : decode cX9_in 3 = .ok (.ifCond .lt 14, 3) := dk_155 0 14 (dk_at dksX9_in_0 3 rfl rfl)
theorem dX9_in_6 : decode cX9_in 6 = .ok (.lload_n 0, 1) := dk_30 (dk_at dksX9_in_0 6 rfl rfl)
theorem dX9_in_7 : decode cX9_in 7 = .ok (.lload 4, 2) := dk_22 4 (dk_at dksX9_in_0 7 rfl rfl)
theorem dX9_in_9 : decode cX9_in 9 = .ok (.lcmp, 1) := dk_148 (dk_at dksX9_in_0 9 rfl rfl)
theorem dX9_in_10 : decode cX9_in 10 = .ok (.ifCond .gt 7, 3) := dk_157 0 7 (dk_at dksX9_in_0 10 rfl rfl)
theorem dX9_in_13 : decode cX9_in 13 = .ok (.iconst 1, 1) := dk_4 (dk_at dksX9_in_0 13 rfl rfl)
theorem dX9_in_14 : decode cX9_in 14 = .ok (.goto 4, 3) := dk_167 0 4 (dk_at dksX9_in_0 14 rfl rfl)
theorem dX9_in_17 : decode cX9_in 17 = .ok (.iconst 0, 1) := dk_3 (dk_at dksX9_in_0 17 rfl rfl)
theorem dX9_in_18 : decode cX9_in 18 = .ok (.ireturn, 1) := dk_172 (dk_at dksX9_in_0 18 rfl rfl)
abbrev cX9_tell : ByteArray := prog_23_method_6_code
def yX9_tell : MethodName := ⟨RX9, "tell", "(I)I"⟩
def dkwX9_tell_1 : List UInt8 := [46, 4, 96, 79, 27, 172]
abbrev dktX9_tell_1 : List UInt8 := dkwX9_tell_1 ++ []
def dkwX9_tell_0 : List UInt8 := [42, 27, 156, 0, 7, 27, 167, 0, 4, 3, 181, 0, 153, 27, 156, 0, 14, 42, 180, 0, 7, 27, 116, 92]
abbrev dktX9_tell_0 : List UInt8 := dkwX9_tell_0 ++ dktX9_tell_1
theorem dksX9_tell_0 : cX9_tell.data.toList.drop 0 = dktX9_tell_0 := by decide +kernel
theorem dksX9_tell_1 : cX9_tell.data.toList.drop 24 = dktX9_tell_1 := dk_seg dksX9_tell_0 24 rfl rfl
theorem dX9_tell_0 : decode cX9_tell 0 = .ok (.aload_n 0, 1) := dk_42 (dk_at dksX9_tell_0 0 rfl rfl)
theorem dX9_tell_1 : decode cX9_tell 1 = .ok (.iload_n 1, 1) := dk_27 (dk_at dksX9_tell_0 1 rfl rfl)
theorem dX9_tell_2 : decode cX9_tell 2 = .ok (.ifCond .ge 7, 3) := dk_156 0 7 (dk_at dksX9_tell_0 2 rfl rfl)
theorem dX9_tell_5 : decode cX9_tell 5 = .ok (.iload_n 1, 1) := dk_27 (dk_at dksX9_tell_0 5 rfl rfl)
theorem dX9_tell_6 : decode cX9_tell 6 = .ok (.goto 4, 3) := dk_167 0 4 (dk_at dksX9_tell_0 6 rfl rfl)
theorem dX9_tell_9 : decode cX9_tell 9 = .ok (.iconst 0, 1) := dk_3 (dk_at dksX9_tell_0 9 rfl rfl)
theorem dX9_tell_10 : decode cX9_tell 10 = .ok (.putfield 153, 3) := dk_181 0 153 (dk_at dksX9_tell_0 10 rfl rfl)
theorem dX9_tell_13 : decode cX9_tell 13 = .ok (.iload_n 1, 1) := dk_27 (dk_at dksX9_tell_0 13 rfl rfl)
theorem dX9_tell_14 : decode cX9_tell 14 = .ok (.ifCond .ge 14, 3) := dk_156 0 14 (dk_at dksX9_tell_0 14 rfl rfl)
theorem dX9_tell_17 : decode cX9_tell 17 = .ok (.aload_n 0, 1) := dk_42 (dk_at dksX9_tell_0 17 rfl rfl)
theorem dX9_tell_18 : decode cX9_tell 18 = .ok (.getfield 7, 3) := dk_180 0 7 (dk_at dksX9_tell_0 18 rfl rfl)
theorem dX9_tell_21 : decode cX9_tell 21 = .ok (.iload_n 1, 1) := dk_27 (dk_at dksX9_tell_0 21 rfl rfl)
theorem dX9_tell_22 : decode cX9_tell 22 = .ok (.ineg, 1) := dk_116 (dk_at dksX9_tell_0 22 rfl rfl)
theorem dX9_tell_23 : decode cX9_tell 23 = .ok (.dup2, 1) := dk_92 (dk_at dksX9_tell_0 23 rfl rfl)
theorem dX9_tell_24 : decode cX9_tell 24 = .ok (.iaload, 1) := dk_46 (dk_at dksX9_tell_1 0 rfl rfl)
theorem dX9_tell_25 : decode cX9_tell 25 = .ok (.iconst 1, 1) := dk_4 (dk_at dksX9_tell_1 1 rfl rfl)
theorem dX9_tell_26 : decode cX9_tell 26 = .ok (.iadd, 1) := dk_96 (dk_at dksX9_tell_1 2 rfl rfl)
theorem dX9_tell_27 : decode cX9_tell 27 = .ok (.iastore, 1) := dk_79 (dk_at dksX9_tell_1 3 rfl rfl)
theorem dX9_tell_28 : decode cX9_tell 28 = .ok (.iload_n 1, 1) := dk_27 (dk_at dksX9_tell_1 4 rfl rfl)
theorem dX9_tell_29 : decode cX9_tell 29 = .ok (.ireturn, 1) := dk_172 (dk_at dksX9_tell_1 5 rfl rfl)
abbrev cX9_back : ByteArray := prog_23_method_10_code
def yX9_back : MethodName := ⟨RX9, "back", "(I)I"⟩
def dkwX9_back_3 : List UInt8 := [42, 3, 182, 0, 164, 172]
abbrev dktX9_back_3 : List UInt8 := dkwX9_back_3 ++ []
def dkwX9_back_2 : List UInt8 := [42, 180, 0, 13, 28, 42, 180, 0, 16, 17, 22, 48, 27, 104, 28, 96, 46, 79, 132, 2, 1, 167, 255, 228]
abbrev dktX9_back_2 : List UInt8 := dkwX9_back_2 ++ dktX9_back_3
def dkwX9_back_1 : List UInt8 := [180, 0, 19, 27, 51, 154, 0, 10, 42, 16, 254, 182, 0, 164, 172, 3, 61, 28, 17, 22, 48, 162, 0, 27]
abbrev dktX9_back_1 : List UInt8 := dkwX9_back_1 ++ dktX9_back_2
def dkwX9_back_0 : List UInt8 := [42, 3, 181, 0, 150, 27, 133, 9, 10, 184, 0, 160, 154, 0, 9, 42, 2, 182, 0, 164, 172, 42]
abbrev dktX9_back_0 : List UInt8 := dkwX9_back_0 ++ dktX9_back_1
theorem dksX9_back_0 : cX9_back.data.toList.drop 0 = dktX9_back_0 := by decide +kernel
theorem dksX9_back_1 : cX9_back.data.toList.drop 22 = dktX9_back_1 := dk_seg dksX9_back_0 22 rfl rfl
theorem dksX9_back_2 : cX9_back.data.toList.drop 46 = dktX9_back_2 := dk_seg dksX9_back_1 24 rfl rfl
theorem dksX9_back_3 : cX9_back.data.toList.drop 70 = dktX9_back_3 := dk_seg dksX9_back_2 24 rfl rfl
theorem dX9_back_0 : decode cX9_back 0 = .ok (.aload_n 0, 1) := dk_42 (dk_at dksX9_back_0 0 rfl rfl)
theorem dX9_back_1 : decode cX9_back 1 = .ok (.iconst 0, 1) := dk_3 (dk_at dksX9_back_0 1 rfl rfl)
theorem dX9_back_2 : decode cX9_back 2 = .ok (.putfield 150, 3) := dk_181 0 150 (dk_at dksX9_back_0 2 rfl rfl)
theorem dX9_back_5 : decode cX9_back 5 = .ok (.iload_n 1, 1) := dk_27 (dk_at dksX9_back_0 5 rfl rfl)
theorem dX9_back_6 : decode cX9_back 6 = .ok (.i2l, 1) := dk_133 (dk_at dksX9_back_0 6 rfl rfl)
theorem dX9_back_7 : decode cX9_back 7 = .ok (.lconst 0, 1) := dk_9 (dk_at dksX9_back_0 7 rfl rfl)
theorem dX9_back_8 : decode cX9_back 8 = .ok (.lconst 1, 1) := dk_10 (dk_at dksX9_back_0 8 rfl rfl)
theorem dX9_back_9 : decode cX9_back 9 = .ok (.invokestatic 160, 3) := dk_184 0 160 (dk_at dksX9_back_0 9 rfl rfl)
theorem dX9_back_12 : decode cX9_back 12 = .ok (.ifCond .ne 9, 3) := dk_154 0 9 (dk_at dksX9_back_0 12 rfl rfl)
theorem dX9_back_15 : decode cX9_back 15 = .ok (.aload_n 0, 1) := dk_42 (dk_at dksX9_back_0 15 rfl rfl)
theorem dX9_back_16 : decode cX9_back 16 = .ok (.iconst (-1), 1) := dk_2 (dk_at dksX9_back_0 16 rfl rfl)
theorem dX9_back_17 : decode cX9_back 17 = .ok (.invokevirtual 164, 3) := dk_182 0 164 (dk_at dksX9_back_0 17 rfl rfl)
theorem dX9_back_20 : decode cX9_back 20 = .ok (.ireturn, 1) := dk_172 (dk_at dksX9_back_0 20 rfl rfl)
theorem dX9_back_21 : decode cX9_back 21 = .ok (.aload_n 0, 1) := dk_42 (dk_at dksX9_back_0 21 rfl rfl)
theorem dX9_back_22 : decode cX9_back 22 = .ok (.getfield 19, 3) := dk_180 0 19 (dk_at dksX9_back_1 0 rfl rfl)
theorem dX9_back_25 : decode cX9_back 25 = .ok (.iload_n 1, 1) := dk_27 (dk_at dksX9_back_1 3 rfl rfl)
theorem dX9_back_26 : decode cX9_back 26 = .ok (.baload, 1) := dk_51 (dk_at dksX9_back_1 4 rfl rfl)
theorem dX9_back_27 : decode cX9_back 27 = .ok (.ifCond .ne 10, 3) := dk_154 0 10 (dk_at dksX9_back_1 5 rfl rfl)
theorem dX9_back_30 : decode cX9_back 30 = .ok (.aload_n 0, 1) := dk_42 (dk_at dksX9_back_1 8 rfl rfl)
theorem dX9_back_31 : decode cX9_back 31 = .ok (.bipush (-2), 2) := dk_16 254 (dk_at dksX9_back_1 9 rfl rfl)
theorem dX9_back_33 : decode cX9_back 33 = .ok (.invokevirtual 164, 3) := dk_182 0 164 (dk_at dksX9_back_1 11 rfl rfl)
theorem dX9_back_36 : decode cX9_back 36 = .ok (.ireturn, 1) := dk_172 (dk_at dksX9_back_1 14 rfl rfl)
theorem dX9_back_37 : decode cX9_back 37 = .ok (.iconst 0, 1) := dk_3 (dk_at dksX9_back_1 15 rfl rfl)
theorem dX9_back_38 : decode cX9_back 38 = .ok (.istore_n 2, 1) := dk_61 (dk_at dksX9_back_1 16 rfl rfl)
theorem dX9_back_39 : decode cX9_back 39 = .ok (.iload_n 2, 1) := dk_28 (dk_at dksX9_back_1 17 rfl rfl)
theorem dX9_back_40 : decode cX9_back 40 = .ok (.sipush 5680, 3) := dk_17 22 48 (dk_at dksX9_back_1 18 rfl rfl)
theorem dX9_back_43 : decode cX9_back 43 = .ok (.if_icmp .ge 27, 3) := dk_162 0 27 (dk_at dksX9_back_1 21 rfl rfl)
theorem dX9_back_46 : decode cX9_back 46 = .ok (.aload_n 0, 1) := dk_42 (dk_at dksX9_back_2 0 rfl rfl)
theorem dX9_back_47 : decode cX9_back 47 = .ok (.getfield 13, 3) := dk_180 0 13 (dk_at dksX9_back_2 1 rfl rfl)
theorem dX9_back_50 : decode cX9_back 50 = .ok (.iload_n 2, 1) := dk_28 (dk_at dksX9_back_2 4 rfl rfl)
theorem dX9_back_51 : decode cX9_back 51 = .ok (.aload_n 0, 1) := dk_42 (dk_at dksX9_back_2 5 rfl rfl)
theorem dX9_back_52 : decode cX9_back 52 = .ok (.getfield 16, 3) := dk_180 0 16 (dk_at dksX9_back_2 6 rfl rfl)
theorem dX9_back_55 : decode cX9_back 55 = .ok (.sipush 5680, 3) := dk_17 22 48 (dk_at dksX9_back_2 9 rfl rfl)
theorem dX9_back_58 : decode cX9_back 58 = .ok (.iload_n 1, 1) := dk_27 (dk_at dksX9_back_2 12 rfl rfl)
theorem dX9_back_59 : decode cX9_back 59 = .ok (.imul, 1) := dk_104 (dk_at dksX9_back_2 13 rfl rfl)
theorem dX9_back_60 : decode cX9_back 60 = .ok (.iload_n 2, 1) := dk_28 (dk_at dksX9_back_2 14 rfl rfl)
theorem dX9_back_61 : decode cX9_back 61 = .ok (.iadd, 1) := dk_96 (dk_at dksX9_back_2 15 rfl rfl)
theorem dX9_back_62 : decode cX9_back 62 = .ok (.iaload, 1) := dk_46 (dk_at dksX9_back_2 16 rfl rfl)
theorem dX9_back_63 : decode cX9_back 63 = .ok (.iastore, 1) := dk_79 (dk_at dksX9_back_2 17 rfl rfl)
theorem dX9_back_64 : decode cX9_back 64 = .ok (.iinc 2 1, 3) := dk_132 2 1 (dk_at dksX9_back_2 18 rfl rfl)
theorem dX9_back_67 : decode cX9_back 67 = .ok (.goto (-28), 3) := dk_167 255 228 (dk_at dksX9_back_2 21 rfl rfl)
theorem dX9_back_70 : decode cX9_back 70 = .ok (.aload_n 0, 1) := dk_42 (dk_at dksX9_back_3 0 rfl rfl)
theorem dX9_back_71 : decode cX9_back 71 = .ok (.iconst 0, 1) := dk_3 (dk_at dksX9_back_3 1 rfl rfl)
theorem dX9_back_72 : decode cX9_back 72 = .ok (.invokevirtual 164, 3) := dk_182 0 164 (dk_at dksX9_back_3 2 rfl rfl)
theorem dX9_back_75 : decode cX9_back 75 = .ok (.ireturn, 1) := dk_172 (dk_at dksX9_back_3 5 rfl rfl)
abbrev cX9_damp : ByteArray := prog_23_method_15_code
def yX9_damp : MethodName := ⟨RX9, "damp", "(II)I"⟩
def dkwX9_damp_1 : List UInt8 := [42, 16, 80, 27, 96, 28, 182, 0, 179, 167, 0, 8, 42, 2, 182, 0, 164, 172]
abbrev dktX9_damp_1 : List UInt8 := dkwX9_damp_1 ++ []
def dkwX9_damp_0 : List UInt8 := [42, 3, 181, 0, 150, 27, 184, 0, 173, 153, 0, 27, 28, 133, 9, 20, 0, 177, 184, 0, 160, 153, 0, 15]
abbrev dktX9_damp_0 : List UInt8 := dkwX9_damp_0 ++ dktX9_damp_1
theorem dksX9_damp_0 : cX9_damp.data.toList.drop 0 = dktX9_damp_0 := by decide +kernel
theorem dksX9_damp_1 : cX9_damp.data.toList.drop 24 = dktX9_damp_1 := dk_seg dksX9_damp_0 24 rfl rfl
theorem dX9_damp_0 : decode cX9_damp 0 = .ok (.aload_n 0, 1) := dk_42 (dk_at dksX9_damp_0 0 rfl rfl)
theorem dX9_damp_1 : decode cX9_damp 1 = .ok (.iconst 0, 1) := dk_3 (dk_at dksX9_damp_0 1 rfl rfl)
theorem dX9_damp_2 : decode cX9_damp 2 = .ok (.putfield 150, 3) := dk_181 0 150 (dk_at dksX9_damp_0 2 rfl rfl)
theorem dX9_damp_5 : decode cX9_damp 5 = .ok (.iload_n 1, 1) := dk_27 (dk_at dksX9_damp_0 5 rfl rfl)
theorem dX9_damp_6 : decode cX9_damp 6 = .ok (.invokestatic 173, 3) := dk_184 0 173 (dk_at dksX9_damp_0 6 rfl rfl)
theorem dX9_damp_9 : decode cX9_damp 9 = .ok (.ifCond .eq 27, 3) := dk_153 0 27 (dk_at dksX9_damp_0 9 rfl rfl)
theorem dX9_damp_12 : decode cX9_damp 12 = .ok (.iload_n 2, 1) := dk_28 (dk_at dksX9_damp_0 12 rfl rfl)
theorem dX9_damp_13 : decode cX9_damp 13 = .ok (.i2l, 1) := dk_133 (dk_at dksX9_damp_0 13 rfl rfl)
theorem dX9_damp_14 : decode cX9_damp 14 = .ok (.lconst 0, 1) := dk_9 (dk_at dksX9_damp_0 14 rfl rfl)
theorem dX9_damp_15 : decode cX9_damp 15 = .ok (.ldc2_w 177, 3) := dk_20 0 177 (dk_at dksX9_damp_0 15 rfl rfl)
theorem dX9_damp_18 : decode cX9_damp 18 = .ok (.invokestatic 160, 3) := dk_184 0 160 (dk_at dksX9_damp_0 18 rfl rfl)
theorem dX9_damp_21 : decode cX9_damp 21 = .ok (.ifCond .eq 15, 3) := dk_153 0 15 (dk_at dksX9_damp_0 21 rfl rfl)
theorem dX9_damp_24 : decode cX9_damp 24 = .ok (.aload_n 0, 1) := dk_42 (dk_at dksX9_damp_1 0 rfl rfl)
theorem dX9_damp_25 : decode cX9_damp 25 = .ok (.bipush 80, 2) := dk_16 80 (dk_at dksX9_damp_1 1 rfl rfl)
theorem dX9_damp_27 : decode cX9_damp 27 = .ok (.iload_n 1, 1) := dk_27 (dk_at dksX9_damp_1 3 rfl rfl)
theorem dX9_damp_28 : decode cX9_damp 28 = .ok (.iadd, 1) := dk_96 (dk_at dksX9_damp_1 4 rfl rfl)
theorem dX9_damp_29 : decode cX9_damp 29 = .ok (.iload_n 2, 1) := dk_28 (dk_at dksX9_damp_1 5 rfl rfl)
theorem dX9_damp_30 : decode cX9_damp 30 = .ok (.invokevirtual 179, 3) := dk_182 0 179 (dk_at dksX9_damp_1 6 rfl rfl)
theorem dX9_damp_33 : decode cX9_damp 33 = .ok (.goto 8, 3) := dk_167 0 8 (dk_at dksX9_damp_1 9 rfl rfl)
theorem dX9_damp_36 : decode cX9_damp 36 = .ok (.aload_n 0, 1) := dk_42 (dk_at dksX9_damp_1 12 rfl rfl)
theorem dX9_damp_37 : decode cX9_damp 37 = .ok (.iconst (-1), 1) := dk_2 (dk_at dksX9_damp_1 13 rfl rfl)
theorem dX9_damp_38 : decode cX9_damp 38 = .ok (.invokevirtual 164, 3) := dk_182 0 164 (dk_at dksX9_damp_1 14 rfl rfl)
theorem dX9_damp_41 : decode cX9_damp 41 = .ok (.ireturn, 1) := dk_172 (dk_at dksX9_damp_1 17 rfl rfl)
abbrev cX9_isCell : ByteArray := prog_23_method_11_code
def yX9_isCell : MethodName := ⟨RX9, "isCell", "(I)Z"⟩
def dkwX9_isCell_0 : List UInt8 := [26, 133, 9, 20, 0, 167, 184, 0, 160, 172]
abbrev dktX9_isCell_0 : List UInt8 := dkwX9_isCell_0 ++ []
theorem dksX9_isCell_0 : cX9_isCell.data.toList.drop 0 = dktX9_isCell_0 := by decide +kernel
theorem dX9_isCell_0 : decode cX9_isCell 0 = .ok (.iload_n 0, 1) := dk_26 (dk_at dksX9_isCell_0 0 rfl rfl)
theorem dX9_isCell_1 : decode cX9_isCell 1 = .ok (.i2l, 1) := dk_133 (dk_at dksX9_isCell_0 1 rfl rfl)
theorem dX9_isCell_2 : decode cX9_isCell 2 = .ok (.lconst 0, 1) := dk_9 (dk_at dksX9_isCell_0 2 rfl rfl)
theorem dX9_isCell_3 : decode cX9_isCell 3 = .ok (.ldc2_w 167, 3) := dk_20 0 167 (dk_at dksX9_isCell_0 3 rfl rfl)
theorem dX9_isCell_6 : decode cX9_isCell 6 = .ok (.invokestatic 160, 3) := dk_184 0 160 (dk_at dksX9_isCell_0 6 rfl rfl)
theorem dX9_isCell_9 : decode cX9_isCell 9 = .ok (.ireturn, 1) := dk_172 (dk_at dksX9_isCell_0 9 rfl rfl)
abbrev cX9_change : ByteArray := prog_23_method_8_code
def yX9_change : MethodName := ⟨RX9, "change", "(II)I"⟩
def dkwX9_change_0 : List UInt8 := [42, 180, 0, 13, 27, 46, 62, 42, 180, 0, 13, 27, 28, 79, 42, 29, 182, 0, 156, 172]
abbrev dktX9_change_0 : List UInt8 := dkwX9_change_0 ++ []
theorem dksX9_change_0 : cX9_change.data.toList.drop 0 = dktX9_change_0 := by decide +kernel
theorem dX9_change_0 : decode cX9_change 0 = .ok (.aload_n 0, 1) := dk_42 (dk_at dksX9_change_0 0 rfl rfl)
theorem dX9_change_1 : decode cX9_change 1 = .ok (.getfield 13, 3) := dk_180 0 13 (dk_at dksX9_change_0 1 rfl rfl)
theorem dX9_change_4 : decode cX9_change 4 = .ok (.iload_n 1, 1) := dk_27 (dk_at dksX9_change_0 4 rfl rfl)
theorem dX9_change_5 : decode cX9_change 5 = .ok (.iaload, 1) := dk_46 (dk_at dksX9_change_0 5 rfl rfl)
theorem dX9_change_6 : decode cX9_change 6 = .ok (.istore_n 3, 1) := dk_62 (dk_at dksX9_change_0 6 rfl rfl)
theorem dX9_change_7 : decode cX9_change 7 = .ok (.aload_n 0, 1) := dk_42 (dk_at dksX9_change_0 7 rfl rfl)
theorem dX9_change_8 : decode cX9_change 8 = .ok (.getfield 13, 3) := dk_180 0 13 (dk_at dksX9_change_0 8 rfl rfl)
theorem dX9_change_11 : decode cX9_change 11 = .ok (.iload_n 1, 1) := dk_27 (dk_at dksX9_change_0 11 rfl rfl)
theorem dX9_change_12 : decode cX9_change 12 = .ok (.iload_n 2, 1) := dk_28 (dk_at dksX9_change_0 12 rfl rfl)
theorem dX9_change_13 : decode cX9_change 13 = .ok (.iastore, 1) := dk_79 (dk_at dksX9_change_0 13 rfl rfl)
theorem dX9_change_14 : decode cX9_change 14 = .ok (.aload_n 0, 1) := dk_42 (dk_at dksX9_change_0 14 rfl rfl)
theorem dX9_change_15 : decode cX9_change 15 = .ok (.iload_n 3, 1) := dk_29 (dk_at dksX9_change_0 15 rfl rfl)
theorem dX9_change_16 : decode cX9_change 16 = .ok (.invokevirtual 156, 3) := dk_182 0 156 (dk_at dksX9_change_0 16 rfl rfl)
theorem dX9_change_19 : decode cX9_change 19 = .ok (.ireturn, 1) := dk_172 (dk_at dksX9_change_0 19 rfl rfl)
abbrev cX9_was : ByteArray := prog_23_method_7_code
def yX9_was : MethodName := ⟨RX9, "was", "(I)I"⟩
def dkwX9_was_0 : List UInt8 := [42, 3, 181, 0, 153, 27, 172]
abbrev dktX9_was_0 : List UInt8 := dkwX9_was_0 ++ []
theorem dksX9_was_0 : cX9_was.data.toList.drop 0 = dktX9_was_0 := by decide +kernel
theorem dX9_was_0 : decode cX9_was 0 = .ok (.aload_n 0, 1) := dk_42 (dk_at dksX9_was_0 0 rfl rfl)
theorem dX9_was_1 : decode cX9_was 1 = .ok (.iconst 0, 1) := dk_3 (dk_at dksX9_was_0 1 rfl rfl)
theorem dX9_was_2 : decode cX9_was 2 = .ok (.putfield 153, 3) := dk_181 0 153 (dk_at dksX9_was_0 2 rfl rfl)
theorem dX9_was_5 : decode cX9_was 5 = .ok (.iload_n 1, 1) := dk_27 (dk_at dksX9_was_0 5 rfl rfl)
theorem dX9_was_6 : decode cX9_was 6 = .ok (.ireturn, 1) := dk_172 (dk_at dksX9_was_0 6 rfl rfl)
abbrev cX9_salt : ByteArray := prog_23_method_16_code
def yX9_salt : MethodName := ⟨RX9, "salt", "(II)I"⟩
def dkwX9_salt_2 : List UInt8 := [167, 0, 13, 42, 17, 0, 176, 27, 96, 28, 182, 0, 179, 172]
abbrev dktX9_salt_2 : List UInt8 := dkwX9_salt_2 ++ []
def dkwX9_salt_1 : List UInt8 := [182, 0, 164, 172, 28, 4, 160, 0, 20, 42, 27, 182, 0, 182, 153, 0, 12, 42, 16, 253, 182, 0, 164]
abbrev dktX9_salt_1 : List UInt8 := dkwX9_salt_1 ++ dktX9_salt_2
def dkwX9_salt_0 : List UInt8 := [42, 3, 181, 0, 150, 27, 184, 0, 173, 153, 0, 13, 28, 133, 9, 10, 184, 0, 160, 154, 0, 9, 42, 2]
abbrev dktX9_salt_0 : List UInt8 := dkwX9_salt_0 ++ dktX9_salt_1
theorem dksX9_salt_0 : cX9_salt.data.toList.drop 0 = dktX9_salt_0 := by decide +kernel
theorem dksX9_salt_1 : cX9_salt.data.toList.drop 24 = dktX9_salt_1 := dk_seg dksX9_salt_0 24 rfl rfl
theorem dksX9_salt_2 : cX9_salt.data.toList.drop 47 = dktX9_salt_2 := dk_seg dksX9_salt_1 23 rfl rfl
theorem dX9_salt_0 : decode cX9_salt 0 = .ok (.aload_n 0, 1) := dk_42 (dk_at dksX9_salt_0 0 rfl rfl)
theorem dX9_salt_1 : decode cX9_salt 1 = .ok (.iconst 0, 1) := dk_3 (dk_at dksX9_salt_0 1 rfl rfl)
theorem dX9_salt_2 : decode cX9_salt 2 = .ok (.putfield 150, 3) := dk_181 0 150 (dk_at dksX9_salt_0 2 rfl rfl)
theorem dX9_salt_5 : decode cX9_salt 5 = .ok (.iload_n 1, 1) := dk_27 (dk_at dksX9_salt_0 5 rfl rfl)
theorem dX9_salt_6 : decode cX9_salt 6 = .ok (.invokestatic 173, 3) := dk_184 0 173 (dk_at dksX9_salt_0 6 rfl rfl)
theorem dX9_salt_9 : decode cX9_salt 9 = .ok (.ifCond .eq 13, 3) := dk_153 0 13 (dk_at dksX9_salt_0 9 rfl rfl)
theorem dX9_salt_12 : decode cX9_salt 12 = .ok (.iload_n 2, 1) := dk_28 (dk_at dksX9_salt_0 12 rfl rfl)
theorem dX9_salt_13 : decode cX9_salt 13 = .ok (.i2l, 1) := dk_133 (dk_at dksX9_salt_0 13 rfl rfl)
theorem dX9_salt_14 : decode cX9_salt 14 = .ok (.lconst 0, 1) := dk_9 (dk_at dksX9_salt_0 14 rfl rfl)
theorem dX9_salt_15 : decode cX9_salt 15 = .ok (.lconst 1, 1) := dk_10 (dk_at dksX9_salt_0 15 rfl rfl)
theorem dX9_salt_16 : decode cX9_salt 16 = .ok (.invokestatic 160, 3) := dk_184 0 160 (dk_at dksX9_salt_0 16 rfl rfl)
theorem dX9_salt_19 : decode cX9_salt 19 = .ok (.ifCond .ne 9, 3) := dk_154 0 9 (dk_at dksX9_salt_0 19 rfl rfl)
theorem dX9_salt_22 : decode cX9_salt 22 = .ok (.aload_n 0, 1) := dk_42 (dk_at dksX9_salt_0 22 rfl rfl)
theorem dX9_salt_23 : decode cX9_salt 23 = .ok (.iconst (-1), 1) := dk_2 (dk_at dksX9_salt_0 23 rfl rfl)
theorem dX9_salt_24 : decode cX9_salt 24 = .ok (.invokevirtual 164, 3) := dk_182 0 164 (dk_at dksX9_salt_1 0 rfl rfl)
theorem dX9_salt_27 : decode cX9_salt 27 = .ok (.ireturn, 1) := dk_172 (dk_at dksX9_salt_1 3 rfl rfl)
theorem dX9_salt_28 : decode cX9_salt 28 = .ok (.iload_n 2, 1) := dk_28 (dk_at dksX9_salt_1 4 rfl rfl)
theorem dX9_salt_29 : decode cX9_salt 29 = .ok (.iconst 1, 1) := dk_4 (dk_at dksX9_salt_1 5 rfl rfl)
theorem dX9_salt_30 : decode cX9_salt 30 = .ok (.if_icmp .ne 20, 3) := dk_160 0 20 (dk_at dksX9_salt_1 6 rfl rfl)
theorem dX9_salt_33 : decode cX9_salt 33 = .ok (.aload_n 0, 1) := dk_42 (dk_at dksX9_salt_1 9 rfl rfl)
theorem dX9_salt_34 : decode cX9_salt 34 = .ok (.iload_n 1, 1) := dk_27 (dk_at dksX9_salt_1 10 rfl rfl)
theorem dX9_salt_35 : decode cX9_salt 35 = .ok (.invokevirtual 182, 3) := dk_182 0 182 (dk_at dksX9_salt_1 11 rfl rfl)
theorem dX9_salt_38 : decode cX9_salt 38 = .ok (.ifCond .eq 12, 3) := dk_153 0 12 (dk_at dksX9_salt_1 14 rfl rfl)
theorem dX9_salt_41 : decode cX9_salt 41 = .ok (.aload_n 0, 1) := dk_42 (dk_at dksX9_salt_1 17 rfl rfl)
theorem dX9_salt_42 : decode cX9_salt 42 = .ok (.bipush (-3), 2) := dk_16 253 (dk_at dksX9_salt_1 18 rfl rfl)
theorem dX9_salt_44 : decode cX9_salt 44 = .ok (.invokevirtual 164, 3) := dk_182 0 164 (dk_at dksX9_salt_1 20 rfl rfl)
theorem dX9_salt_47 : decode cX9_salt 47 = .ok (.goto 13, 3) := dk_167 0 13 (dk_at dksX9_salt_2 0 rfl rfl)
theorem dX9_salt_50 : decode cX9_salt 50 = .ok (.aload_n 0, 1) := dk_42 (dk_at dksX9_salt_2 3 rfl rfl)
theorem dX9_salt_51 : decode cX9_salt 51 = .ok (.sipush 176, 3) := dk_17 0 176 (dk_at dksX9_salt_2 4 rfl rfl)
theorem dX9_salt_54 : decode cX9_salt 54 = .ok (.iload_n 1, 1) := dk_27 (dk_at dksX9_salt_2 7 rfl rfl)
theorem dX9_salt_55 : decode cX9_salt 55 = .ok (.iadd, 1) := dk_96 (dk_at dksX9_salt_2 8 rfl rfl)
theorem dX9_salt_56 : decode cX9_salt 56 = .ok (.iload_n 2, 1) := dk_28 (dk_at dksX9_salt_2 9 rfl rfl)
theorem dX9_salt_57 : decode cX9_salt 57 = .ok (.invokevirtual 179, 3) := dk_182 0 179 (dk_at dksX9_salt_2 10 rfl rfl)
theorem dX9_salt_60 : decode cX9_salt 60 = .ok (.ireturn, 1) := dk_172 (dk_at dksX9_salt_2 13 rfl rfl)
abbrev cX9_isOfSnails : ByteArray := prog_23_method_14_code
def yX9_isOfSnails : MethodName := ⟨RX9, "isOfSnails", "(I)Z"⟩
def dkwX9_isOfSnails_2 : List UInt8 := [167, 255, 213, 28, 172]
abbrev dktX9_isOfSnails_2 : List UInt8 := dkwX9_isOfSnails_2 ++ []
def dkwX9_isOfSnails_1 : List UInt8 := [27, 159, 0, 13, 42, 29, 4, 182, 0, 169, 27, 160, 0, 7, 4, 167, 0, 4, 3, 61, 132, 3, 1]
abbrev dktX9_isOfSnails_1 : List UInt8 := dkwX9_isOfSnails_1 ++ dktX9_isOfSnails_2
def dkwX9_isOfSnails_0 : List UInt8 := [3, 61, 3, 62, 29, 42, 180, 0, 13, 3, 46, 162, 0, 39, 28, 154, 0, 23, 42, 29, 3, 182, 0, 169]
abbrev dktX9_isOfSnails_0 : List UInt8 := dkwX9_isOfSnails_0 ++ dktX9_isOfSnails_1
theorem dksX9_isOfSnails_0 : cX9_isOfSnails.data.toList.drop 0 = dktX9_isOfSnails_0 := by decide +kernel
theorem dksX9_isOfSnails_1 : cX9_isOfSnails.data.toList.drop 24 = dktX9_isOfSnails_1 := dk_seg dksX9_isOfSnails_0 24 rfl rfl
theorem dksX9_isOfSnails_2 : cX9_isOfSnails.data.toList.drop 47 = dktX9_isOfSnails_2 := dk_seg dksX9_isOfSnails_1 23 rfl rfl
theorem dX9_isOfSnails_0 : decode cX9_isOfSnails 0 = .ok (.iconst 0, 1) := dk_3 (dk_at dksX9_isOfSnails_0 0 rfl rfl)
theorem dX9_isOfSnails_1 : decode cX9_isOfSnails 1 = .ok (.istore_n 2, 1) := dk_61 (dk_at dksX9_isOfSnails_0 1 rfl rfl)
theorem dX9_isOfSnails_2 : decode cX9_isOfSnails 2 = .ok (.iconst 0, 1) := dk_3 (dk_at dksX9_isOfSnails_0 2 rfl rfl)
theorem dX9_isOfSnails_3 : decode cX9_isOfSnails 3 = .ok (.istore_n 3, 1) := dk_62 (dk_at dksX9_isOfSnails_0 3 rfl rfl)
theorem dX9_isOfSnails_4 : decode cX9_isOfSnails 4 = .ok (.iload_n 3, 1) := dk_29 (dk_at dksX9_isOfSnails_0 4 rfl rfl)
theorem dX9_isOfSnails_5 : decode cX9_isOfSnails 5 = .ok (.aload_n 0, 1) := dk_42 (dk_at dksX9_isOfSnails_0 5 rfl rfl)
theorem dX9_isOfSnails_6 : decode cX9_isOfSnails 6 = .ok (.getfield 13, 3) := dk_180 0 13 (dk_at dksX9_isOfSnails_0 6 rfl rfl)
theorem dX9_isOfSnails_9 : decode cX9_isOfSnails 9 = .ok (.iconst 0, 1) := dk_3 (dk_at dksX9_isOfSnails_0 9 rfl rfl)
theorem dX9_isOfSnails_10 : decode cX9_isOfSnails 10 = .ok (.iaload, 1) := dk_46 (dk_at dksX9_isOfSnails_0 10 rfl rfl)
theorem dX9_isOfSnails_11 : decode cX9_isOfSnails 11 = .ok (.if_icmp .ge 39, 3) := dk_162 0 39 (dk_at dksX9_isOfSnails_0 11 rfl rfl)
theorem dX9_isOfSnails_14 : decode cX9_isOfSnails 14 = .ok (.iload_n 2, 1) := dk_28 (dk_at dksX9_isOfSnails_0 14 rfl rfl)
theorem dX9_isOfSnails_15 : decode cX9_isOfSnails 15 = .ok (.ifCond .ne 23, 3) := dk_154 0 23 (dk_at dksX9_isOfSnails_0 15 rfl rfl)
theorem dX9_isOfSnails_18 : decode cX9_isOfSnails 18 = .ok (.aload_n 0, 1) := dk_42 (dk_at dksX9_isOfSnails_0 18 rfl rfl)
theorem dX9_isOfSnails_19 : decode cX9_isOfSnails 19 = .ok (.iload_n 3, 1) := dk_29 (dk_at dksX9_isOfSnails_0 19 rfl rfl)
theorem dX9_isOfSnails_20 : decode cX9_isOfSnails 20 = .ok (.iconst 0, 1) := dk_3 (dk_at dksX9_isOfSnails_0 20 rfl rfl)
theorem dX9_isOfSnails_21 : decode cX9_isOfSnails 21 = .ok (.invokevirtual 169, 3) := dk_182 0 169 (dk_at dksX9_isOfSnails_0 21 rfl rfl)
theorem dX9_isOfSnails_24 : decode cX9_isOfSnails 24 = .ok (.iload_n 1, 1) := dk_27 (dk_at dksX9_isOfSnails_1 0 rfl rfl)
theorem dX9_isOfSnails_25 : decode cX9_isOfSnails 25 = .ok (.if_icmp .eq 13, 3) := dk_159 0 13 (dk_at dksX9_isOfSnails_1 1 rfl rfl)
theorem dX9_isOfSnails_28 : decode cX9_isOfSnails 28 = .ok (.aload_n 0, 1) := dk_42 (dk_at dksX9_isOfSnails_1 4 rfl rfl)
theorem dX9_isOfSnails_29 : decode cX9_isOfSnails 29 = .ok (.iload_n 3, 1) := dk_29 (dk_at dksX9_isOfSnails_1 5 rfl rfl)
theorem dX9_isOfSnails_30 : decode cX9_isOfSnails 30 = .ok (.iconst 1, 1) := dk_4 (dk_at dksX9_isOfSnails_1 6 rfl rfl)
theorem dX9_isOfSnails_31 : decode cX9_isOfSnails 31 = .ok (.invokevirtual 169, 3) := dk_182 0 169 (dk_at dksX9_isOfSnails_1 7 rfl rfl)
theorem dX9_isOfSnails_34 : decode cX9_isOfSnails 34 = .ok (.iload_n 1, 1) := dk_27 (dk_at dksX9_isOfSnails_1 10 rfl rfl)
theorem dX9_isOfSnails_35 : decode cX9_isOfSnails 35 = .ok (.if_icmp .ne 7, 3) := dk_160 0 7 (dk_at dksX9_isOfSnails_1 11 rfl rfl)
theorem dX9_isOfSnails_38 : decode cX9_isOfSnails 38 = .ok (.iconst 1, 1) := dk_4 (dk_at dksX9_isOfSnails_1 14 rfl rfl)
theorem dX9_isOfSnails_39 : decode cX9_isOfSnails 39 = .ok (.goto 4, 3) := dk_167 0 4 (dk_at dksX9_isOfSnails_1 15 rfl rfl)
theorem dX9_isOfSnails_42 : decode cX9_isOfSnails 42 = .ok (.iconst 0, 1) := dk_3 (dk_at dksX9_isOfSnails_1 18 rfl rfl)
theorem dX9_isOfSnails_43 : decode cX9_isOfSnails 43 = .ok (.istore_n 2, 1) := dk_61 (dk_at dksX9_isOfSnails_1 19 rfl rfl)
theorem dX9_isOfSnails_44 : decode cX9_isOfSnails 44 = .ok (.iinc 3 1, 3) := dk_132 3 1 (dk_at dksX9_isOfSnails_1 20 rfl rfl)
theorem dX9_isOfSnails_47 : decode cX9_isOfSnails 47 = .ok (.goto (-43), 3) := dk_167 255 213 (dk_at dksX9_isOfSnails_2 0 rfl rfl)
theorem dX9_isOfSnails_50 : decode cX9_isOfSnails 50 = .ok (.iload_n 2, 1) := dk_28 (dk_at dksX9_isOfSnails_2 3 rfl rfl)
theorem dX9_isOfSnails_51 : decode cX9_isOfSnails 51 = .ok (.ireturn, 1) := dk_172 (dk_at dksX9_isOfSnails_2 4 rfl rfl)
abbrev cX9_ofSnail : ByteArray := prog_23_method_13_code
def yX9_ofSnail : MethodName := ⟨RX9, "ofSnail", "(II)I"⟩
def dkwX9_ofSnail_0 : List UInt8 := [42, 180, 0, 13, 16, 16, 16, 6, 27, 104, 96, 28, 96, 46, 172]
abbrev dktX9_ofSnail_0 : List UInt8 := dkwX9_ofSnail_0 ++ []
theorem dksX9_ofSnail_0 : cX9_ofSnail.data.toList.drop 0 = dktX9_ofSnail_0 := by decide +kernel
theorem dX9_ofSnail_0 : decode cX9_ofSnail 0 = .ok (.aload_n 0, 1) := dk_42 (dk_at dksX9_ofSnail_0 0 rfl rfl)
theorem dX9_ofSnail_1 : decode cX9_ofSnail 1 = .ok (.getfield 13, 3) := dk_180 0 13 (dk_at dksX9_ofSnail_0 1 rfl rfl)
theorem dX9_ofSnail_4 : decode cX9_ofSnail 4 = .ok (.bipush 16, 2) := dk_16 16 (dk_at dksX9_ofSnail_0 4 rfl rfl)
theorem dX9_ofSnail_6 : decode cX9_ofSnail 6 = .ok (.bipush 6, 2) := dk_16 6 (dk_at dksX9_ofSnail_0 6 rfl rfl)
theorem dX9_ofSnail_8 : decode cX9_ofSnail 8 = .ok (.iload_n 1, 1) := dk_27 (dk_at dksX9_ofSnail_0 8 rfl rfl)
theorem dX9_ofSnail_9 : decode cX9_ofSnail 9 = .ok (.imul, 1) := dk_104 (dk_at dksX9_ofSnail_0 9 rfl rfl)
theorem dX9_ofSnail_10 : decode cX9_ofSnail 10 = .ok (.iadd, 1) := dk_96 (dk_at dksX9_ofSnail_0 10 rfl rfl)
theorem dX9_ofSnail_11 : decode cX9_ofSnail 11 = .ok (.iload_n 2, 1) := dk_28 (dk_at dksX9_ofSnail_0 11 rfl rfl)
theorem dX9_ofSnail_12 : decode cX9_ofSnail 12 = .ok (.iadd, 1) := dk_96 (dk_at dksX9_ofSnail_0 12 rfl rfl)
theorem dX9_ofSnail_13 : decode cX9_ofSnail 13 = .ok (.iaload, 1) := dk_46 (dk_at dksX9_ofSnail_0 13 rfl rfl)
theorem dX9_ofSnail_14 : decode cX9_ofSnail 14 = .ok (.ireturn, 1) := dk_172 (dk_at dksX9_ofSnail_0 14 rfl rfl)
abbrev cX9_of : ByteArray := prog_23_method_17_code
def yX9_of : MethodName := ⟨RX9, "of", "(II)I"⟩
def dkwX9_of_2 : List UInt8 := [172]
abbrev dktX9_of_2 : List UInt8 := dkwX9_of_2 ++ []
def dkwX9_of_1 : List UInt8 := [180, 0, 13, 28, 154, 0, 10, 16, 80, 27, 96, 167, 0, 8, 17, 0, 176, 27, 96, 46, 167, 0, 4, 2]
abbrev dktX9_of_1 : List UInt8 := dkwX9_of_1 ++ dktX9_of_2
def dkwX9_of_0 : List UInt8 := [42, 3, 181, 0, 150, 27, 184, 0, 173, 153, 0, 37, 28, 133, 9, 10, 184, 0, 160, 153, 0, 27, 42]
abbrev dktX9_of_0 : List UInt8 := dkwX9_of_0 ++ dktX9_of_1
theorem dksX9_of_0 : cX9_of.data.toList.drop 0 = dktX9_of_0 := by decide +kernel
theorem dksX9_of_1 : cX9_of.data.toList.drop 23 = dktX9_of_1 := dk_seg dksX9_of_0 23 rfl rfl
theorem dksX9_of_2 : cX9_of.data.toList.drop 47 = dktX9_of_2 := dk_seg dksX9_of_1 24 rfl rfl
theorem dX9_of_0 : decode cX9_of 0 = .ok (.aload_n 0, 1) := dk_42 (dk_at dksX9_of_0 0 rfl rfl)
theorem dX9_of_1 : decode cX9_of 1 = .ok (.iconst 0, 1) := dk_3 (dk_at dksX9_of_0 1 rfl rfl)
theorem dX9_of_2 : decode cX9_of 2 = .ok (.putfield 150, 3) := dk_181 0 150 (dk_at dksX9_of_0 2 rfl rfl)
theorem dX9_of_5 : decode cX9_of 5 = .ok (.iload_n 1, 1) := dk_27 (dk_at dksX9_of_0 5 rfl rfl)
theorem dX9_of_6 : decode cX9_of 6 = .ok (.invokestatic 173, 3) := dk_184 0 173 (dk_at dksX9_of_0 6 rfl rfl)
theorem dX9_of_9 : decode cX9_of 9 = .ok (.ifCond .eq 37, 3) := dk_153 0 37 (dk_at dksX9_of_0 9 rfl rfl)
theorem dX9_of_12 : decode cX9_of 12 = .ok (.iload_n 2, 1) := dk_28 (dk_at dksX9_of_0 12 rfl rfl)
theorem dX9_of_13 : decode cX9_of 13 = .ok (.i2l, 1) := dk_133 (dk_at dksX9_of_0 13 rfl rfl)
theorem dX9_of_14 : decode cX9_of 14 = .ok (.lconst 0, 1) := dk_9 (dk_at dksX9_of_0 14 rfl rfl)
theorem dX9_of_15 : decode cX9_of 15 = .ok (.lconst 1, 1) := dk_10 (dk_at dksX9_of_0 15 rfl rfl)
theorem dX9_of_16 : decode cX9_of 16 = .ok (.invokestatic 160, 3) := dk_184 0 160 (dk_at dksX9_of_0 16 rfl rfl)
theorem dX9_of_19 : decode cX9_of 19 = .ok (.ifCond .eq 27, 3) := dk_153 0 27 (dk_at dksX9_of_0 19 rfl rfl)
theorem dX9_of_22 : decode cX9_of 22 = .ok (.aload_n 0, 1) := dk_42 (dk_at dksX9_of_0 22 rfl rfl)
theorem dX9_of_23 : decode cX9_of 23 = .ok (.getfield 13, 3) := dk_180 0 13 (dk_at dksX9_of_1 0 rfl rfl)
theorem dX9_of_26 : decode cX9_of 26 = .ok (.iload_n 2, 1) := dk_28 (dk_at dksX9_of_1 3 rfl rfl)
theorem dX9_of_27 : decode cX9_of 27 = .ok (.ifCond .ne 10, 3) := dk_154 0 10 (dk_at dksX9_of_1 4 rfl rfl)
theorem dX9_of_30 : decode cX9_of 30 = .ok (.bipush 80, 2) := dk_16 80 (dk_at dksX9_of_1 7 rfl rfl)
theorem dX9_of_32 : decode cX9_of 32 = .ok (.iload_n 1, 1) := dk_27 (dk_at dksX9_of_1 9 rfl rfl)
theorem dX9_of_33 : decode cX9_of 33 = .ok (.iadd, 1) := dk_96 (dk_at dksX9_of_1 10 rfl rfl)
theorem dX9_of_34 : decode cX9_of 34 = .ok (.goto 8, 3) := dk_167 0 8 (dk_at dksX9_of_1 11 rfl rfl)
theorem dX9_of_37 : decode cX9_of 37 = .ok (.sipush 176, 3) := dk_17 0 176 (dk_at dksX9_of_1 14 rfl rfl)
theorem dX9_of_40 : decode cX9_of 40 = .ok (.iload_n 1, 1) := dk_27 (dk_at dksX9_of_1 17 rfl rfl)
theorem dX9_of_41 : decode cX9_of 41 = .ok (.iadd, 1) := dk_96 (dk_at dksX9_of_1 18 rfl rfl)
theorem dX9_of_42 : decode cX9_of 42 = .ok (.iaload, 1) := dk_46 (dk_at dksX9_of_1 19 rfl rfl)
theorem dX9_of_43 : decode cX9_of 43 = .ok (.goto 4, 3) := dk_167 0 4 (dk_at dksX9_of_1 20 rfl rfl)
theorem dX9_of_46 : decode cX9_of 46 = .ok (.iconst (-1), 1) := dk_2 (dk_at dksX9_of_1 23 rfl rfl)
theorem dX9_of_47 : decode cX9_of 47 = .ok (.ireturn, 1) := dk_172 (dk_at dksX9_of_2 0 rfl rfl)
abbrev cX9_snail : ByteArray := prog_23_method_18_code
def yX9_snail : MethodName := ⟨RX9, "snail", "(IIII)I"⟩
def dkwX9_snail_8 : List UInt8 := [96, 79, 42, 21, 5, 182, 0, 164, 172]
abbrev dktX9_snail_8 : List UInt8 := dkwX9_snail_8 ++ []
def dkwX9_snail_7 : List UInt8 := [21, 6, 7, 96, 3, 79, 42, 180, 0, 13, 21, 6, 8, 96, 4, 79, 42, 180, 0, 13, 3, 92, 46, 4]
abbrev dktX9_snail_7 : List UInt8 := dkwX9_snail_7 ++ dktX9_snail_8
def dkwX9_snail_6 : List UInt8 := [180, 0, 13, 21, 6, 5, 96, 29, 79, 42, 180, 0, 13, 21, 6, 6, 96, 21, 4, 79, 42, 180, 0, 13]
abbrev dktX9_snail_6 : List UInt8 := dkwX9_snail_6 ++ dktX9_snail_7
def dkwX9_snail_5 : List UInt8 := [54, 6, 42, 180, 0, 13, 21, 6, 3, 96, 27, 79, 42, 180, 0, 13, 21, 6, 4, 96, 28, 79, 42]
abbrev dktX9_snail_5 : List UInt8 := dkwX9_snail_5 ++ dktX9_snail_6
def dkwX9_snail_4 : List UInt8 := [54, 5, 21, 5, 16, 6, 160, 0, 10, 42, 16, 251, 182, 0, 164, 172, 16, 16, 16, 6, 21, 5, 104, 96]
abbrev dktX9_snail_4 : List UInt8 := dkwX9_snail_4 ++ dktX9_snail_5
def dkwX9_snail_3 : List UInt8 := [17, 0, 176, 28, 96, 46, 4, 160, 0, 10, 42, 16, 253, 182, 0, 164, 172, 42, 180, 0, 13, 3, 46]
abbrev dktX9_snail_3 : List UInt8 := dkwX9_snail_3 ++ dktX9_snail_4
def dkwX9_snail_2 : List UInt8 := [182, 0, 164, 172, 42, 180, 0, 13, 17, 0, 176, 27, 96, 46, 4, 159, 0, 17, 42, 180, 0, 13]
abbrev dktX9_snail_2 : List UInt8 := dkwX9_snail_2 ++ dktX9_snail_3
def dkwX9_snail_1 : List UInt8 := [20, 0, 185, 184, 0, 160, 153, 0, 16, 21, 4, 133, 9, 20, 0, 187, 184, 0, 160, 154, 0, 9, 42, 2]
abbrev dktX9_snail_1 : List UInt8 := dkwX9_snail_1 ++ dktX9_snail_2
def dkwX9_snail_0 : List UInt8 := [42, 3, 181, 0, 150, 27, 184, 0, 173, 153, 0, 35, 28, 184, 0, 173, 153, 0, 28, 29, 133, 10]
abbrev dktX9_snail_0 : List UInt8 := dkwX9_snail_0 ++ dktX9_snail_1
theorem dksX9_snail_0 : cX9_snail.data.toList.drop 0 = dktX9_snail_0 := by decide +kernel
theorem dksX9_snail_1 : cX9_snail.data.toList.drop 22 = dktX9_snail_1 := dk_seg dksX9_snail_0 22 rfl rfl
theorem dksX9_snail_2 : cX9_snail.data.toList.drop 46 = dktX9_snail_2 := dk_seg dksX9_snail_1 24 rfl rfl
theorem dksX9_snail_3 : cX9_snail.data.toList.drop 68 = dktX9_snail_3 := dk_seg dksX9_snail_2 22 rfl rfl
theorem dksX9_snail_4 : cX9_snail.data.toList.drop 91 = dktX9_snail_4 := dk_seg dksX9_snail_3 23 rfl rfl
theorem dksX9_snail_5 : cX9_snail.data.toList.drop 115 = dktX9_snail_5 := dk_seg dksX9_snail_4 24 rfl rfl
theorem dksX9_snail_6 : cX9_snail.data.toList.drop 138 = dktX9_snail_6 := dk_seg dksX9_snail_5 23 rfl rfl
theorem dksX9_snail_7 : cX9_snail.data.toList.drop 162 = dktX9_snail_7 := dk_seg dksX9_snail_6 24 rfl rfl
theorem dksX9_snail_8 : cX9_snail.data.toList.drop 186 = dktX9_snail_8 := dk_seg dksX9_snail_7 24 rfl rfl
theorem dX9_snail_0 : decode cX9_snail 0 = .ok (.aload_n 0, 1) := dk_42 (dk_at dksX9_snail_0 0 rfl rfl)
theorem dX9_snail_1 : decode cX9_snail 1 = .ok (.iconst 0, 1) := dk_3 (dk_at dksX9_snail_0 1 rfl rfl)
theorem dX9_snail_2 : decode cX9_snail 2 = .ok (.putfield 150, 3) := dk_181 0 150 (dk_at dksX9_snail_0 2 rfl rfl)
theorem dX9_snail_5 : decode cX9_snail 5 = .ok (.iload_n 1, 1) := dk_27 (dk_at dksX9_snail_0 5 rfl rfl)
theorem dX9_snail_6 : decode cX9_snail 6 = .ok (.invokestatic 173, 3) := dk_184 0 173 (dk_at dksX9_snail_0 6 rfl rfl)
theorem dX9_snail_9 : decode cX9_snail 9 = .ok (.ifCond .eq 35, 3) := dk_153 0 35 (dk_at dksX9_snail_0 9 rfl rfl)
theorem dX9_snail_12 : decode cX9_snail 12 = .ok (.iload_n 2, 1) := dk_28 (dk_at dksX9_snail_0 12 rfl rfl)
theorem dX9_snail_13 : decode cX9_snail 13 = .ok (.invokestatic 173, 3) := dk_184 0 173 (dk_at dksX9_snail_0 13 rfl rfl)
theorem dX9_snail_16 : decode cX9_snail 16 = .ok (.ifCond .eq 28, 3) := dk_153 0 28 (dk_at dksX9_snail_0 16 rfl rfl)
theorem dX9_snail_19 : decode cX9_snail 19 = .ok (.iload_n 3, 1) := dk_29 (dk_at dksX9_snail_0 19 rfl rfl)
theorem dX9_snail_20 : decode cX9_snail 20 = .ok (.i2l, 1) := dk_133 (dk_at dksX9_snail_0 20 rfl rfl)
theorem dX9_snail_21 : decode cX9_snail 21 = .ok (.lconst 1, 1) := dk_10 (dk_at dksX9_snail_0 21 rfl rfl)
theorem dX9_snail_22 : decode cX9_snail 22 = .ok (.ldc2_w 185, 3) := dk_20 0 185 (dk_at dksX9_snail_1 0 rfl rfl)
theorem dX9_snail_25 : decode cX9_snail 25 = .ok (.invokestatic 160, 3) := dk_184 0 160 (dk_at dksX9_snail_1 3 rfl rfl)
theorem dX9_snail_28 : decode cX9_snail 28 = .ok (.ifCond .eq 16, 3) := dk_153 0 16 (dk_at dksX9_snail_1 6 rfl rfl)
theorem dX9_snail_31 : decode cX9_snail 31 = .ok (.iload 4, 2) := dk_21 4 (dk_at dksX9_snail_1 9 rfl rfl)
theorem dX9_snail_33 : decode cX9_snail 33 = .ok (.i2l, 1) := dk_133 (dk_at dksX9_snail_1 11 rfl rfl)
theorem dX9_snail_34 : decode cX9_snail 34 = .ok (.lconst 0, 1) := dk_9 (dk_at dksX9_snail_1 12 rfl rfl)
theorem dX9_snail_35 : decode cX9_snail 35 = .ok (.ldc2_w 187, 3) := dk_20 0 187 (dk_at dksX9_snail_1 13 rfl rfl)
theorem dX9_snail_38 : decode cX9_snail 38 = .ok (.invokestatic 160, 3) := dk_184 0 160 (dk_at dksX9_snail_1 16 rfl rfl)
theorem dX9_snail_41 : decode cX9_snail 41 = .ok (.ifCond .ne 9, 3) := dk_154 0 9 (dk_at dksX9_snail_1 19 rfl rfl)
theorem dX9_snail_44 : decode cX9_snail 44 = .ok (.aload_n 0, 1) := dk_42 (dk_at dksX9_snail_1 22 rfl rfl)
theorem dX9_snail_45 : decode cX9_snail 45 = .ok (.iconst (-1), 1) := dk_2 (dk_at dksX9_snail_1 23 rfl rfl)
theorem dX9_snail_46 : decode cX9_snail 46 = .ok (.invokevirtual 164, 3) := dk_182 0 164 (dk_at dksX9_snail_2 0 rfl rfl)
theorem dX9_snail_49 : decode cX9_snail 49 = .ok (.ireturn, 1) := dk_172 (dk_at dksX9_snail_2 3 rfl rfl)
theorem dX9_snail_50 : decode cX9_snail 50 = .ok (.aload_n 0, 1) := dk_42 (dk_at dksX9_snail_2 4 rfl rfl)
theorem dX9_snail_51 : decode cX9_snail 51 = .ok (.getfield 13, 3) := dk_180 0 13 (dk_at dksX9_snail_2 5 rfl rfl)
theorem dX9_snail_54 : decode cX9_snail 54 = .ok (.sipush 176, 3) := dk_17 0 176 (dk_at dksX9_snail_2 8 rfl rfl)
theorem dX9_snail_57 : decode cX9_snail 57 = .ok (.iload_n 1, 1) := dk_27 (dk_at dksX9_snail_2 11 rfl rfl)
theorem dX9_snail_58 : decode cX9_snail 58 = .ok (.iadd, 1) := dk_96 (dk_at dksX9_snail_2 12 rfl rfl)
theorem dX9_snail_59 : decode cX9_snail 59 = .ok (.iaload, 1) := dk_46 (dk_at dksX9_snail_2 13 rfl rfl)
theorem dX9_snail_60 : decode cX9_snail 60 = .ok (.iconst 1, 1) := dk_4 (dk_at dksX9_snail_2 14 rfl rfl)
theorem dX9_snail_61 : decode cX9_snail 61 = .ok (.if_icmp .eq 17, 3) := dk_159 0 17 (dk_at dksX9_snail_2 15 rfl rfl)
theorem dX9_snail_64 : decode cX9_snail 64 = .ok (.aload_n 0, 1) := dk_42 (dk_at dksX9_snail_2 18 rfl rfl)
theorem dX9_snail_65 : decode cX9_snail 65 = .ok (.getfield 13, 3) := dk_180 0 13 (dk_at dksX9_snail_2 19 rfl rfl)
theorem dX9_snail_68 : decode cX9_snail 68 = .ok (.sipush 176, 3) := dk_17 0 176 (dk_at dksX9_snail_3 0 rfl rfl)
theorem dX9_snail_71 : decode cX9_snail 71 = .ok (.iload_n 2, 1) := dk_28 (dk_at dksX9_snail_3 3 rfl rfl)
theorem dX9_snail_72 : decode cX9_snail 72 = .ok (.iadd, 1) := dk_96 (dk_at dksX9_snail_3 4 rfl rfl)
theorem dX9_snail_73 : decode cX9_snail 73 = .ok (.iaload, 1) := dk_46 (dk_at dksX9_snail_3 5 rfl rfl)
theorem dX9_snail_74 : decode cX9_snail 74 = .ok (.iconst 1, 1) := dk_4 (dk_at dksX9_snail_3 6 rfl rfl)
theorem dX9_snail_75 : decode cX9_snail 75 = .ok (.if_icmp .ne 10, 3) := dk_160 0 10 (dk_at dksX9_snail_3 7 rfl rfl)
theorem dX9_snail_78 : decode cX9_snail 78 = .ok (.aload_n 0, 1) := dk_42 (dk_at dksX9_snail_3 10 rfl rfl)
theorem dX9_snail_79 : decode cX9_snail 79 = .ok (.bipush (-3), 2) := dk_16 253 (dk_at dksX9_snail_3 11 rfl rfl)
theorem dX9_snail_81 : decode cX9_snail 81 = .ok (.invokevirtual 164, 3) := dk_182 0 164 (dk_at dksX9_snail_3 13 rfl rfl)
theorem dX9_snail_84 : decode cX9_snail 84 = .ok (.ireturn, 1) := dk_172 (dk_at dksX9_snail_3 16 rfl rfl)
theorem dX9_snail_85 : decode cX9_snail 85 = .ok (.aload_n 0, 1) := dk_42 (dk_at dksX9_snail_3 17 rfl rfl)
theorem dX9_snail_86 : decode cX9_snail 86 = .ok (.getfield 13, 3) := dk_180 0 13 (dk_at dksX9_snail_3 18 rfl rfl)
theorem dX9_snail_89 : decode cX9_snail 89 = .ok (.iconst 0, 1) := dk_3 (dk_at dksX9_snail_3 21 rfl rfl)
theorem dX9_snail_90 : decode cX9_snail 90 = .ok (.iaload, 1) := dk_46 (dk_at dksX9_snail_3 22 rfl rfl)
theorem dX9_snail_91 : decode cX9_snail 91 = .ok (.istore 5, 2) := dk_54 5 (dk_at dksX9_snail_4 0 rfl rfl)
theorem dX9_snail_93 : decode cX9_snail 93 = .ok (.iload 5, 2) := dk_21 5 (dk_at dksX9_snail_4 2 rfl rfl)
theorem dX9_snail_95 : decode cX9_snail 95 = .ok (.bipush 6, 2) := dk_16 6 (dk_at dksX9_snail_4 4 rfl rfl)
theorem dX9_snail_97 : decode cX9_snail 97 = .ok (.if_icmp .ne 10, 3) := dk_160 0 10 (dk_at dksX9_snail_4 6 rfl rfl)
theorem dX9_snail_100 : decode cX9_snail 100 = .ok (.aload_n 0, 1) := dk_42 (dk_at dksX9_snail_4 9 rfl rfl)
theorem dX9_snail_101 : decode cX9_snail 101 = .ok (.bipush (-5), 2) := dk_16 251 (dk_at dksX9_snail_4 10 rfl rfl)
theorem dX9_snail_103 : decode cX9_snail 103 = .ok (.invokevirtual 164, 3) := dk_182 0 164 (dk_at dksX9_snail_4 12 rfl rfl)
theorem dX9_snail_106 : decode cX9_snail 106 = .ok (.ireturn, 1) := dk_172 (dk_at dksX9_snail_4 15 rfl rfl)
theorem dX9_snail_107 : decode cX9_snail 107 = .ok (.bipush 16, 2) := dk_16 16 (dk_at dksX9_snail_4 16 rfl rfl)
theorem dX9_snail_109 : decode cX9_snail 109 = .ok (.bipush 6, 2) := dk_16 6 (dk_at dksX9_snail_4 18 rfl rfl)
theorem dX9_snail_111 : decode cX9_snail 111 = .ok (.iload 5, 2) := dk_21 5 (dk_at dksX9_snail_4 20 rfl rfl)
theorem dX9_snail_113 : decode cX9_snail 113 = .ok (.imul, 1) := dk_104 (dk_at dksX9_snail_4 22 rfl rfl)
theorem dX9_snail_114 : decode cX9_snail 114 = .ok (.iadd, 1) := dk_96 (dk_at dksX9_snail_4 23 rfl rfl)
theorem dX9_snail_115 : decode cX9_snail 115 = .ok (.istore 6, 2) := dk_54 6 (dk_at dksX9_snail_5 0 rfl rfl)
theorem dX9_snail_117 : decode cX9_snail 117 = .ok (.aload_n 0, 1) := dk_42 (dk_at dksX9_snail_5 2 rfl rfl)
theorem dX9_snail_118 : decode cX9_snail 118 = .ok (.getfield 13, 3) := dk_180 0 13 (dk_at dksX9_snail_5 3 rfl rfl)
theorem dX9_snail_121 : decode cX9_snail 121 = .ok (.iload 6, 2) := dk_21 6 (dk_at dksX9_snail_5 6 rfl rfl)
theorem dX9_snail_123 : decode cX9_snail 123 = .ok (.iconst 0, 1) := dk_3 (dk_at dksX9_snail_5 8 rfl rfl)
theorem dX9_snail_124 : decode cX9_snail 124 = .ok (.iadd, 1) := dk_96 (dk_at dksX9_snail_5 9 rfl rfl)
theorem dX9_snail_125 : decode cX9_snail 125 = .ok (.iload_n 1, 1) := dk_27 (dk_at dksX9_snail_5 10 rfl rfl)
theorem dX9_snail_126 : decode cX9_snail 126 = .ok (.iastore, 1) := dk_79 (dk_at dksX9_snail_5 11 rfl rfl)
theorem dX9_snail_127 : decode cX9_snail 127 = .ok (.aload_n 0, 1) := dk_42 (dk_at dksX9_snail_5 12 rfl rfl)
theorem dX9_snail_128 : decode cX9_snail 128 = .ok (.getfield 13, 3) := dk_180 0 13 (dk_at dksX9_snail_5 13 rfl rfl)
theorem dX9_snail_131 : decode cX9_snail 131 = .ok (.iload 6, 2) := dk_21 6 (dk_at dksX9_snail_5 16 rfl rfl)
theorem dX9_snail_133 : decode cX9_snail 133 = .ok (.iconst 1, 1) := dk_4 (dk_at dksX9_snail_5 18 rfl rfl)
theorem dX9_snail_134 : decode cX9_snail 134 = .ok (.iadd, 1) := dk_96 (dk_at dksX9_snail_5 19 rfl rfl)
theorem dX9_snail_135 : decode cX9_snail 135 = .ok (.iload_n 2, 1) := dk_28 (dk_at dksX9_snail_5 20 rfl rfl)
theorem dX9_snail_136 : decode cX9_snail 136 = .ok (.iastore, 1) := dk_79 (dk_at dksX9_snail_5 21 rfl rfl)
theorem dX9_snail_137 : decode cX9_snail 137 = .ok (.aload_n 0, 1) := dk_42 (dk_at dksX9_snail_5 22 rfl rfl)
theorem dX9_snail_138 : decode cX9_snail 138 = .ok (.getfield 13, 3) := dk_180 0 13 (dk_at dksX9_snail_6 0 rfl rfl)
theorem dX9_snail_141 : decode cX9_snail 141 = .ok (.iload 6, 2) := dk_21 6 (dk_at dksX9_snail_6 3 rfl rfl)
theorem dX9_snail_143 : decode cX9_snail 143 = .ok (.iconst 2, 1) := dk_5 (dk_at dksX9_snail_6 5 rfl rfl)
theorem dX9_snail_144 : decode cX9_snail 144 = .ok (.iadd, 1) := dk_96 (dk_at dksX9_snail_6 6 rfl rfl)
theorem dX9_snail_145 : decode cX9_snail 145 = .ok (.iload_n 3, 1) := dk_29 (dk_at dksX9_snail_6 7 rfl rfl)
theorem dX9_snail_146 : decode cX9_snail 146 = .ok (.iastore, 1) := dk_79 (dk_at dksX9_snail_6 8 rfl rfl)
theorem dX9_snail_147 : decode cX9_snail 147 = .ok (.aload_n 0, 1) := dk_42 (dk_at dksX9_snail_6 9 rfl rfl)
theorem dX9_snail_148 : decode cX9_snail 148 = .ok (.getfield 13, 3) := dk_180 0 13 (dk_at dksX9_snail_6 10 rfl rfl)
theorem dX9_snail_151 : decode cX9_snail 151 = .ok (.iload 6, 2) := dk_21 6 (dk_at dksX9_snail_6 13 rfl rfl)
theorem dX9_snail_153 : decode cX9_snail 153 = .ok (.iconst 3, 1) := dk_6 (dk_at dksX9_snail_6 15 rfl rfl)
theorem dX9_snail_154 : decode cX9_snail 154 = .ok (.iadd, 1) := dk_96 (dk_at dksX9_snail_6 16 rfl rfl)
theorem dX9_snail_155 : decode cX9_snail 155 = .ok (.iload 4, 2) := dk_21 4 (dk_at dksX9_snail_6 17 rfl rfl)
theorem dX9_snail_157 : decode cX9_snail 157 = .ok (.iastore, 1) := dk_79 (dk_at dksX9_snail_6 19 rfl rfl)
theorem dX9_snail_158 : decode cX9_snail 158 = .ok (.aload_n 0, 1) := dk_42 (dk_at dksX9_snail_6 20 rfl rfl)
theorem dX9_snail_159 : decode cX9_snail 159 = .ok (.getfield 13, 3) := dk_180 0 13 (dk_at dksX9_snail_6 21 rfl rfl)
theorem dX9_snail_162 : decode cX9_snail 162 = .ok (.iload 6, 2) := dk_21 6 (dk_at dksX9_snail_7 0 rfl rfl)
theorem dX9_snail_164 : decode cX9_snail 164 = .ok (.iconst 4, 1) := dk_7 (dk_at dksX9_snail_7 2 rfl rfl)
theorem dX9_snail_165 : decode cX9_snail 165 = .ok (.iadd, 1) := dk_96 (dk_at dksX9_snail_7 3 rfl rfl)
theorem dX9_snail_166 : decode cX9_snail 166 = .ok (.iconst 0, 1) := dk_3 (dk_at dksX9_snail_7 4 rfl rfl)
theorem dX9_snail_167 : decode cX9_snail 167 = .ok (.iastore, 1) := dk_79 (dk_at dksX9_snail_7 5 rfl rfl)
theorem dX9_snail_168 : decode cX9_snail 168 = .ok (.aload_n 0, 1) := dk_42 (dk_at dksX9_snail_7 6 rfl rfl)
theorem dX9_snail_169 : decode cX9_snail 169 = .ok (.getfield 13, 3) := dk_180 0 13 (dk_at dksX9_snail_7 7 rfl rfl)
theorem dX9_snail_172 : decode cX9_snail 172 = .ok (.iload 6, 2) := dk_21 6 (dk_at dksX9_snail_7 10 rfl rfl)
theorem dX9_snail_174 : decode cX9_snail 174 = .ok (.iconst 5, 1) := dk_8 (dk_at dksX9_snail_7 12 rfl rfl)
theorem dX9_snail_175 : decode cX9_snail 175 = .ok (.iadd, 1) := dk_96 (dk_at dksX9_snail_7 13 rfl rfl)
theorem dX9_snail_176 : decode cX9_snail 176 = .ok (.iconst 1, 1) := dk_4 (dk_at dksX9_snail_7 14 rfl rfl)
theorem dX9_snail_177 : decode cX9_snail 177 = .ok (.iastore, 1) := dk_79 (dk_at dksX9_snail_7 15 rfl rfl)
theorem dX9_snail_178 : decode cX9_snail 178 = .ok (.aload_n 0, 1) := dk_42 (dk_at dksX9_snail_7 16 rfl rfl)
theorem dX9_snail_179 : decode cX9_snail 179 = .ok (.getfield 13, 3) := dk_180 0 13 (dk_at dksX9_snail_7 17 rfl rfl)
theorem dX9_snail_182 : decode cX9_snail 182 = .ok (.iconst 0, 1) := dk_3 (dk_at dksX9_snail_7 20 rfl rfl)
theorem dX9_snail_183 : decode cX9_snail 183 = .ok (.dup2, 1) := dk_92 (dk_at dksX9_snail_7 21 rfl rfl)
theorem dX9_snail_184 : decode cX9_snail 184 = .ok (.iaload, 1) := dk_46 (dk_at dksX9_snail_7 22 rfl rfl)
theorem dX9_snail_185 : decode cX9_snail 185 = .ok (.iconst 1, 1) := dk_4 (dk_at dksX9_snail_7 23 rfl rfl)
theorem dX9_snail_186 : decode cX9_snail 186 = .ok (.iadd, 1) := dk_96 (dk_at dksX9_snail_8 0 rfl rfl)
theorem dX9_snail_187 : decode cX9_snail 187 = .ok (.iastore, 1) := dk_79 (dk_at dksX9_snail_8 1 rfl rfl)
theorem dX9_snail_188 : decode cX9_snail 188 = .ok (.aload_n 0, 1) := dk_42 (dk_at dksX9_snail_8 2 rfl rfl)
theorem dX9_snail_189 : decode cX9_snail 189 = .ok (.iload 5, 2) := dk_21 5 (dk_at dksX9_snail_8 3 rfl rfl)
theorem dX9_snail_191 : decode cX9_snail 191 = .ok (.invokevirtual 164, 3) := dk_182 0 164 (dk_at dksX9_snail_8 5 rfl rfl)
theorem dX9_snail_194 : decode cX9_snail 194 = .ok (.ireturn, 1) := dk_172 (dk_at dksX9_snail_8 8 rfl rfl)
abbrev cX9_put : ByteArray := prog_23_method_20_code
def yX9_put : MethodName := ⟨RX9, "put", "(III)I"⟩
def dkwX9_put_3 : List UInt8 := [29, 182, 0, 179, 172]
abbrev dktX9_put_3 : List UInt8 := dkwX9_put_3 ++ []
def dkwX9_put_2 : List UInt8 := [46, 4, 160, 0, 12, 42, 16, 253, 182, 0, 164, 167, 0, 17, 42, 16, 16, 16, 6, 27, 104, 96, 28, 96]
abbrev dktX9_put_2 : List UInt8 := dkwX9_put_2 ++ dktX9_put_3
def dkwX9_put_1 : List UInt8 := [154, 0, 10, 42, 16, 254, 182, 0, 164, 172, 28, 5, 162, 0, 26, 42, 180, 0, 13, 17, 0, 176, 29, 96]
abbrev dktX9_put_1 : List UInt8 := dkwX9_put_1 ++ dktX9_put_2
def dkwX9_put_0 : List UInt8 := [42, 3, 181, 0, 150, 28, 29, 184, 0, 193, 154, 0, 9, 42, 2, 182, 0, 164, 172, 42, 27, 182, 0, 197]
abbrev dktX9_put_0 : List UInt8 := dkwX9_put_0 ++ dktX9_put_1
theorem dksX9_put_0 : cX9_put.data.toList.drop 0 = dktX9_put_0 := by decide +kernel
theorem dksX9_put_1 : cX9_put.data.toList.drop 24 = dktX9_put_1 := dk_seg dksX9_put_0 24 rfl rfl
theorem dksX9_put_2 : cX9_put.data.toList.drop 48 = dktX9_put_2 := dk_seg dksX9_put_1 24 rfl rfl
theorem dksX9_put_3 : cX9_put.data.toList.drop 72 = dktX9_put_3 := dk_seg dksX9_put_2 24 rfl rfl
theorem dX9_put_0 : decode cX9_put 0 = .ok (.aload_n 0, 1) := dk_42 (dk_at dksX9_put_0 0 rfl rfl)
theorem dX9_put_1 : decode cX9_put 1 = .ok (.iconst 0, 1) := dk_3 (dk_at dksX9_put_0 1 rfl rfl)
theorem dX9_put_2 : decode cX9_put 2 = .ok (.putfield 150, 3) := dk_181 0 150 (dk_at dksX9_put_0 2 rfl rfl)
theorem dX9_put_5 : decode cX9_put 5 = .ok (.iload_n 2, 1) := dk_28 (dk_at dksX9_put_0 5 rfl rfl)
theorem dX9_put_6 : decode cX9_put 6 = .ok (.iload_n 3, 1) := dk_29 (dk_at dksX9_put_0 6 rfl rfl)
theorem dX9_put_7 : decode cX9_put 7 = .ok (.invokestatic 193, 3) := dk_184 0 193 (dk_at dksX9_put_0 7 rfl rfl)
theorem dX9_put_10 : decode cX9_put 10 = .ok (.ifCond .ne 9, 3) := dk_154 0 9 (dk_at dksX9_put_0 10 rfl rfl)
theorem dX9_put_13 : decode cX9_put 13 = .ok (.aload_n 0, 1) := dk_42 (dk_at dksX9_put_0 13 rfl rfl)
theorem dX9_put_14 : decode cX9_put 14 = .ok (.iconst (-1), 1) := dk_2 (dk_at dksX9_put_0 14 rfl rfl)
theorem dX9_put_15 : decode cX9_put 15 = .ok (.invokevirtual 164, 3) := dk_182 0 164 (dk_at dksX9_put_0 15 rfl rfl)
theorem dX9_put_18 : decode cX9_put 18 = .ok (.ireturn, 1) := dk_172 (dk_at dksX9_put_0 18 rfl rfl)
theorem dX9_put_19 : decode cX9_put 19 = .ok (.aload_n 0, 1) := dk_42 (dk_at dksX9_put_0 19 rfl rfl)
theorem dX9_put_20 : decode cX9_put 20 = .ok (.iload_n 1, 1) := dk_27 (dk_at dksX9_put_0 20 rfl rfl)
theorem dX9_put_21 : decode cX9_put 21 = .ok (.invokevirtual 197, 3) := dk_182 0 197 (dk_at dksX9_put_0 21 rfl rfl)
theorem dX9_put_24 : decode cX9_put 24 = .ok (.ifCond .ne 10, 3) := dk_154 0 10 (dk_at dksX9_put_1 0 rfl rfl)
theorem dX9_put_27 : decode cX9_put 27 = .ok (.aload_n 0, 1) := dk_42 (dk_at dksX9_put_1 3 rfl rfl)
theorem dX9_put_28 : decode cX9_put 28 = .ok (.bipush (-2), 2) := dk_16 254 (dk_at dksX9_put_1 4 rfl rfl)
theorem dX9_put_30 : decode cX9_put 30 = .ok (.invokevirtual 164, 3) := dk_182 0 164 (dk_at dksX9_put_1 6 rfl rfl)
theorem dX9_put_33 : decode cX9_put 33 = .ok (.ireturn, 1) := dk_172 (dk_at dksX9_put_1 9 rfl rfl)
theorem dX9_put_34 : decode cX9_put 34 = .ok (.iload_n 2, 1) := dk_28 (dk_at dksX9_put_1 10 rfl rfl)
theorem dX9_put_35 : decode cX9_put 35 = .ok (.iconst 2, 1) := dk_5 (dk_at dksX9_put_1 11 rfl rfl)
theorem dX9_put_36 : decode cX9_put 36 = .ok (.if_icmp .ge 26, 3) := dk_162 0 26 (dk_at dksX9_put_1 12 rfl rfl)
theorem dX9_put_39 : decode cX9_put 39 = .ok (.aload_n 0, 1) := dk_42 (dk_at dksX9_put_1 15 rfl rfl)
theorem dX9_put_40 : decode cX9_put 40 = .ok (.getfield 13, 3) := dk_180 0 13 (dk_at dksX9_put_1 16 rfl rfl)
theorem dX9_put_43 : decode cX9_put 43 = .ok (.sipush 176, 3) := dk_17 0 176 (dk_at dksX9_put_1 19 rfl rfl)
theorem dX9_put_46 : decode cX9_put 46 = .ok (.iload_n 3, 1) := dk_29 (dk_at dksX9_put_1 22 rfl rfl)
theorem dX9_put_47 : decode cX9_put 47 = .ok (.iadd, 1) := dk_96 (dk_at dksX9_put_1 23 rfl rfl)
theorem dX9_put_48 : decode cX9_put 48 = .ok (.iaload, 1) := dk_46 (dk_at dksX9_put_2 0 rfl rfl)
theorem dX9_put_49 : decode cX9_put 49 = .ok (.iconst 1, 1) := dk_4 (dk_at dksX9_put_2 1 rfl rfl)
theorem dX9_put_50 : decode cX9_put 50 = .ok (.if_icmp .ne 12, 3) := dk_160 0 12 (dk_at dksX9_put_2 2 rfl rfl)
theorem dX9_put_53 : decode cX9_put 53 = .ok (.aload_n 0, 1) := dk_42 (dk_at dksX9_put_2 5 rfl rfl)
theorem dX9_put_54 : decode cX9_put 54 = .ok (.bipush (-3), 2) := dk_16 253 (dk_at dksX9_put_2 6 rfl rfl)
theorem dX9_put_56 : decode cX9_put 56 = .ok (.invokevirtual 164, 3) := dk_182 0 164 (dk_at dksX9_put_2 8 rfl rfl)
theorem dX9_put_59 : decode cX9_put 59 = .ok (.goto 17, 3) := dk_167 0 17 (dk_at dksX9_put_2 11 rfl rfl)
theorem dX9_put_62 : decode cX9_put 62 = .ok (.aload_n 0, 1) := dk_42 (dk_at dksX9_put_2 14 rfl rfl)
theorem dX9_put_63 : decode cX9_put 63 = .ok (.bipush 16, 2) := dk_16 16 (dk_at dksX9_put_2 15 rfl rfl)
theorem dX9_put_65 : decode cX9_put 65 = .ok (.bipush 6, 2) := dk_16 6 (dk_at dksX9_put_2 17 rfl rfl)
theorem dX9_put_67 : decode cX9_put 67 = .ok (.iload_n 1, 1) := dk_27 (dk_at dksX9_put_2 19 rfl rfl)
theorem dX9_put_68 : decode cX9_put 68 = .ok (.imul, 1) := dk_104 (dk_at dksX9_put_2 20 rfl rfl)
theorem dX9_put_69 : decode cX9_put 69 = .ok (.iadd, 1) := dk_96 (dk_at dksX9_put_2 21 rfl rfl)
theorem dX9_put_70 : decode cX9_put 70 = .ok (.iload_n 2, 1) := dk_28 (dk_at dksX9_put_2 22 rfl rfl)
theorem dX9_put_71 : decode cX9_put 71 = .ok (.iadd, 1) := dk_96 (dk_at dksX9_put_2 23 rfl rfl)
theorem dX9_put_72 : decode cX9_put 72 = .ok (.iload_n 3, 1) := dk_29 (dk_at dksX9_put_3 0 rfl rfl)
theorem dX9_put_73 : decode cX9_put 73 = .ok (.invokevirtual 179, 3) := dk_182 0 179 (dk_at dksX9_put_3 1 rfl rfl)
theorem dX9_put_76 : decode cX9_put 76 = .ok (.ireturn, 1) := dk_172 (dk_at dksX9_put_3 4 rfl rfl)
abbrev cX9_fits : ByteArray := prog_23_method_19_code
def yX9_fits : MethodName := ⟨RX9, "fits", "(II)Z"⟩
def dkwX9_fits_4 : List UInt8 := [184, 0, 160, 172, 3, 172]
abbrev dktX9_fits_4 : List UInt8 := dkwX9_fits_4 ++ []
def dkwX9_fits_3 : List UInt8 := [20, 0, 187, 184, 0, 160, 172, 27, 133, 9, 20, 0, 189, 184, 0, 160, 172, 27, 133, 10, 20, 0, 191]
abbrev dktX9_fits_3 : List UInt8 := dkwX9_fits_3 ++ dktX9_fits_4
def dkwX9_fits_2 : List UInt8 := [27, 184, 0, 173, 172, 27, 184, 0, 173, 172, 27, 133, 10, 20, 0, 185, 184, 0, 160, 172, 27, 133, 9]
abbrev dktX9_fits_2 : List UInt8 := dkwX9_fits_2 ++ dktX9_fits_3
def dkwX9_fits_1 : List UInt8 := [170, 0, 0, 0, 0, 0, 89, 0, 0, 0, 0, 0, 0, 0, 5, 0, 0, 0, 39, 0, 0, 0, 44, 0, 0, 0, 49, 0, 0, 0, 59, 0, 0, 0, 69, 0, 0, 0, 79]
abbrev dktX9_fits_1 : List UInt8 := dkwX9_fits_1 ++ dktX9_fits_2
def dkwX9_fits_0 : List UInt8 := [26]
abbrev dktX9_fits_0 : List UInt8 := dkwX9_fits_0 ++ dktX9_fits_1
theorem dksX9_fits_0 : cX9_fits.data.toList.drop 0 = dktX9_fits_0 := by decide +kernel
theorem dksX9_fits_1 : cX9_fits.data.toList.drop 1 = dktX9_fits_1 := dk_seg dksX9_fits_0 1 rfl rfl
theorem dksX9_fits_2 : cX9_fits.data.toList.drop 40 = dktX9_fits_2 := dk_seg dksX9_fits_1 39 rfl rfl
theorem dksX9_fits_3 : cX9_fits.data.toList.drop 63 = dktX9_fits_3 := dk_seg dksX9_fits_2 23 rfl rfl
theorem dksX9_fits_4 : cX9_fits.data.toList.drop 86 = dktX9_fits_4 := dk_seg dksX9_fits_3 23 rfl rfl
theorem dX9_fits_0 : decode cX9_fits 0 = .ok (.iload_n 0, 1) := dk_26 (dk_at dksX9_fits_0 0 rfl rfl)
theorem dX9_fits_1 : decode cX9_fits 1 = .ok (.tableswitch 89 0 5 #[39, 44, 49, 59, 69, 79], 39) := by decide +kernel
theorem dX9_fits_40 : decode cX9_fits 40 = .ok (.iload_n 1, 1) := dk_27 (dk_at dksX9_fits_2 0 rfl rfl)
theorem dX9_fits_41 : decode cX9_fits 41 = .ok (.invokestatic 173, 3) := dk_184 0 173 (dk_at dksX9_fits_2 1 rfl rfl)
theorem dX9_fits_44 : decode cX9_fits 44 = .ok (.ireturn, 1) := dk_172 (dk_at dksX9_fits_2 4 rfl rfl)
theorem dX9_fits_45 : decode cX9_fits 45 = .ok (.iload_n 1, 1) := dk_27 (dk_at dksX9_fits_2 5 rfl rfl)
theorem dX9_fits_46 : decode cX9_fits 46 = .ok (.invokestatic 173, 3) := dk_184 0 173 (dk_at dksX9_fits_2 6 rfl rfl)
theorem dX9_fits_49 : decode cX9_fits 49 = .ok (.ireturn, 1) := dk_172 (dk_at dksX9_fits_2 9 rfl rfl)
theorem dX9_fits_50 : decode cX9_fits 50 = .ok (.iload_n 1, 1) := dk_27 (dk_at dksX9_fits_2 10 rfl rfl)
theorem dX9_fits_51 : decode cX9_fits 51 = .ok (.i2l, 1) := dk_133 (dk_at dksX9_fits_2 11 rfl rfl)
theorem dX9_fits_52 : decode cX9_fits 52 = .ok (.lconst 1, 1) := dk_10 (dk_at dksX9_fits_2 12 rfl rfl)
theorem dX9_fits_53 : decode cX9_fits 53 = .ok (.ldc2_w 185, 3) := dk_20 0 185 (dk_at dksX9_fits_2 13 rfl rfl)
theorem dX9_fits_56 : decode cX9_fits 56 = .ok (.invokestatic 160, 3) := dk_184 0 160 (dk_at dksX9_fits_2 16 rfl rfl)
theorem dX9_fits_59 : decode cX9_fits 59 = .ok (.ireturn, 1) := dk_172 (dk_at dksX9_fits_2 19 rfl rfl)
theorem dX9_fits_60 : decode cX9_fits 60 = .ok (.iload_n 1, 1) := dk_27 (dk_at dksX9_fits_2 20 rfl rfl)
theorem dX9_fits_61 : decode cX9_fits 61 = .ok (.i2l, 1) := dk_133 (dk_at dksX9_fits_2 21 rfl rfl)
theorem dX9_fits_62 : decode cX9_fits 62 = .ok (.lconst 0, 1) := dk_9 (dk_at dksX9_fits_2 22 rfl rfl)
theorem dX9_fits_63 : decode cX9_fits 63 = .ok (.ldc2_w 187, 3) := dk_20 0 187 (dk_at dksX9_fits_3 0 rfl rfl)
theorem dX9_fits_66 : decode cX9_fits 66 = .ok (.invokestatic 160, 3) := dk_184 0 160 (dk_at dksX9_fits_3 3 rfl rfl)
theorem dX9_fits_69 : decode cX9_fits 69 = .ok (.ireturn, 1) := dk_172 (dk_at dksX9_fits_3 6 rfl rfl)
theorem dX9_fits_70 : decode cX9_fits 70 = .ok (.iload_n 1, 1) := dk_27 (dk_at dksX9_fits_3 7 rfl rfl)
theorem dX9_fits_71 : decode cX9_fits 71 = .ok (.i2l, 1) := dk_133 (dk_at dksX9_fits_3 8 rfl rfl)
theorem dX9_fits_72 : decode cX9_fits 72 = .ok (.lconst 0, 1) := dk_9 (dk_at dksX9_fits_3 9 rfl rfl)
theorem dX9_fits_73 : decode cX9_fits 73 = .ok (.ldc2_w 189, 3) := dk_20 0 189 (dk_at dksX9_fits_3 10 rfl rfl)
theorem dX9_fits_76 : decode cX9_fits 76 = .ok (.invokestatic 160, 3) := dk_184 0 160 (dk_at dksX9_fits_3 13 rfl rfl)
theorem dX9_fits_79 : decode cX9_fits 79 = .ok (.ireturn, 1) := dk_172 (dk_at dksX9_fits_3 16 rfl rfl)
theorem dX9_fits_80 : decode cX9_fits 80 = .ok (.iload_n 1, 1) := dk_27 (dk_at dksX9_fits_3 17 rfl rfl)
theorem dX9_fits_81 : decode cX9_fits 81 = .ok (.i2l, 1) := dk_133 (dk_at dksX9_fits_3 18 rfl rfl)
theorem dX9_fits_82 : decode cX9_fits 82 = .ok (.lconst 1, 1) := dk_10 (dk_at dksX9_fits_3 19 rfl rfl)
theorem dX9_fits_83 : decode cX9_fits 83 = .ok (.ldc2_w 191, 3) := dk_20 0 191 (dk_at dksX9_fits_3 20 rfl rfl)
theorem dX9_fits_86 : decode cX9_fits 86 = .ok (.invokestatic 160, 3) := dk_184 0 160 (dk_at dksX9_fits_4 0 rfl rfl)
theorem dX9_fits_89 : decode cX9_fits 89 = .ok (.ireturn, 1) := dk_172 (dk_at dksX9_fits_4 3 rfl rfl)
theorem dX9_fits_90 : decode cX9_fits 90 = .ok (.iconst 0, 1) := dk_3 (dk_at dksX9_fits_4 4 rfl rfl)
theorem dX9_fits_91 : decode cX9_fits 91 = .ok (.ireturn, 1) := dk_172 (dk_at dksX9_fits_4 5 rfl rfl)
abbrev cX9_isSnail : ByteArray := prog_23_method_12_code
def yX9_isSnail : MethodName := ⟨RX9, "isSnail", "(I)Z"⟩
def dkwX9_isSnail_0 : List UInt8 := [27, 133, 9, 42, 180, 0, 13, 3, 46, 133, 10, 101, 184, 0, 160, 172]
abbrev dktX9_isSnail_0 : List UInt8 := dkwX9_isSnail_0 ++ []
theorem dksX9_isSnail_0 : cX9_isSnail.data.toList.drop 0 = dktX9_isSnail_0 := by decide +kernel
theorem dX9_isSnail_0 : decode cX9_isSnail 0 = .ok (.iload_n 1, 1) := dk_27 (dk_at dksX9_isSnail_0 0 rfl rfl)
theorem dX9_isSnail_1 : decode cX9_isSnail 1 = .ok (.i2l, 1) := dk_133 (dk_at dksX9_isSnail_0 1 rfl rfl)
theorem dX9_isSnail_2 : decode cX9_isSnail 2 = .ok (.lconst 0, 1) := dk_9 (dk_at dksX9_isSnail_0 2 rfl rfl)
theorem dX9_isSnail_3 : decode cX9_isSnail 3 = .ok (.aload_n 0, 1) := dk_42 (dk_at dksX9_isSnail_0 3 rfl rfl)
theorem dX9_isSnail_4 : decode cX9_isSnail 4 = .ok (.getfield 13, 3) := dk_180 0 13 (dk_at dksX9_isSnail_0 4 rfl rfl)
theorem dX9_isSnail_7 : decode cX9_isSnail 7 = .ok (.iconst 0, 1) := dk_3 (dk_at dksX9_isSnail_0 7 rfl rfl)
theorem dX9_isSnail_8 : decode cX9_isSnail 8 = .ok (.iaload, 1) := dk_46 (dk_at dksX9_isSnail_0 8 rfl rfl)
theorem dX9_isSnail_9 : decode cX9_isSnail 9 = .ok (.i2l, 1) := dk_133 (dk_at dksX9_isSnail_0 9 rfl rfl)
theorem dX9_isSnail_10 : decode cX9_isSnail 10 = .ok (.lconst 1, 1) := dk_10 (dk_at dksX9_isSnail_0 10 rfl rfl)
theorem dX9_isSnail_11 : decode cX9_isSnail 11 = .ok (.lsub, 1) := dk_101 (dk_at dksX9_isSnail_0 11 rfl rfl)
theorem dX9_isSnail_12 : decode cX9_isSnail 12 = .ok (.invokestatic 160, 3) := dk_184 0 160 (dk_at dksX9_isSnail_0 12 rfl rfl)
theorem dX9_isSnail_15 : decode cX9_isSnail 15 = .ok (.ireturn, 1) := dk_172 (dk_at dksX9_isSnail_0 15 rfl rfl)
abbrev cX9_fact : ByteArray := prog_23_method_21_code
def yX9_fact : MethodName := ⟨RX9, "fact", "(II)I"⟩
def dkwX9_fact_1 : List UInt8 := [153, 0, 12, 42, 27, 28, 182, 0, 169, 167, 0, 4, 2, 172]
abbrev dktX9_fact_1 : List UInt8 := dkwX9_fact_1 ++ []
def dkwX9_fact_0 : List UInt8 := [42, 3, 181, 0, 150, 42, 27, 182, 0, 197, 153, 0, 24, 28, 133, 9, 20, 0, 200, 184, 0, 160]
abbrev dktX9_fact_0 : List UInt8 := dkwX9_fact_0 ++ dktX9_fact_1
theorem dksX9_fact_0 : cX9_fact.data.toList.drop 0 = dktX9_fact_0 := by decide +kernel
theorem dksX9_fact_1 : cX9_fact.data.toList.drop 22 = dktX9_fact_1 := dk_seg dksX9_fact_0 22 rfl rfl
theorem dX9_fact_0 : decode cX9_fact 0 = .ok (.aload_n 0, 1) := dk_42 (dk_at dksX9_fact_0 0 rfl rfl)
theorem dX9_fact_1 : decode cX9_fact 1 = .ok (.iconst 0, 1) := dk_3 (dk_at dksX9_fact_0 1 rfl rfl)
theorem dX9_fact_2 : decode cX9_fact 2 = .ok (.putfield 150, 3) := dk_181 0 150 (dk_at dksX9_fact_0 2 rfl rfl)
theorem dX9_fact_5 : decode cX9_fact 5 = .ok (.aload_n 0, 1) := dk_42 (dk_at dksX9_fact_0 5 rfl rfl)
theorem dX9_fact_6 : decode cX9_fact 6 = .ok (.iload_n 1, 1) := dk_27 (dk_at dksX9_fact_0 6 rfl rfl)
theorem dX9_fact_7 : decode cX9_fact 7 = .ok (.invokevirtual 197, 3) := dk_182 0 197 (dk_at dksX9_fact_0 7 rfl rfl)
theorem dX9_fact_10 : decode cX9_fact 10 = .ok (.ifCond .eq 24, 3) := dk_153 0 24 (dk_at dksX9_fact_0 10 rfl rfl)
theorem dX9_fact_13 : decode cX9_fact 13 = .ok (.iload_n 2, 1) := dk_28 (dk_at dksX9_fact_0 13 rfl rfl)
theorem dX9_fact_14 : decode cX9_fact 14 = .ok (.i2l, 1) := dk_133 (dk_at dksX9_fact_0 14 rfl rfl)
theorem dX9_fact_15 : decode cX9_fact 15 = .ok (.lconst 0, 1) := dk_9 (dk_at dksX9_fact_0 15 rfl rfl)
theorem dX9_fact_16 : decode cX9_fact 16 = .ok (.ldc2_w 200, 3) := dk_20 0 200 (dk_at dksX9_fact_0 16 rfl rfl)
theorem dX9_fact_19 : decode cX9_fact 19 = .ok (.invokestatic 160, 3) := dk_184 0 160 (dk_at dksX9_fact_0 19 rfl rfl)
theorem dX9_fact_22 : decode cX9_fact 22 = .ok (.ifCond .eq 12, 3) := dk_153 0 12 (dk_at dksX9_fact_1 0 rfl rfl)
theorem dX9_fact_25 : decode cX9_fact 25 = .ok (.aload_n 0, 1) := dk_42 (dk_at dksX9_fact_1 3 rfl rfl)
theorem dX9_fact_26 : decode cX9_fact 26 = .ok (.iload_n 1, 1) := dk_27 (dk_at dksX9_fact_1 4 rfl rfl)
theorem dX9_fact_27 : decode cX9_fact 27 = .ok (.iload_n 2, 1) := dk_28 (dk_at dksX9_fact_1 5 rfl rfl)
theorem dX9_fact_28 : decode cX9_fact 28 = .ok (.invokevirtual 169, 3) := dk_182 0 169 (dk_at dksX9_fact_1 6 rfl rfl)
theorem dX9_fact_31 : decode cX9_fact 31 = .ok (.goto 4, 3) := dk_167 0 4 (dk_at dksX9_fact_1 9 rfl rfl)
theorem dX9_fact_34 : decode cX9_fact 34 = .ok (.iconst (-1), 1) := dk_2 (dk_at dksX9_fact_1 12 rfl rfl)
theorem dX9_fact_35 : decode cX9_fact 35 = .ok (.ireturn, 1) := dk_172 (dk_at dksX9_fact_1 13 rfl rfl)
abbrev cX9_spot : ByteArray := prog_23_method_22_code
def yX9_spot : MethodName := ⟨RX9, "spot", "(I)I"⟩
def dkwX9_spot_2 : List UInt8 := [180, 0, 13, 4, 92, 46, 4, 96, 79, 42, 28, 182, 0, 164, 172]
abbrev dktX9_spot_2 : List UInt8 := dkwX9_spot_2 ++ []
def dkwX9_spot_1 : List UInt8 := [61, 28, 7, 160, 0, 10, 42, 16, 251, 182, 0, 164, 172, 42, 180, 0, 13, 16, 12, 28, 96, 27, 79, 42]
abbrev dktX9_spot_1 : List UInt8 := dkwX9_spot_1 ++ dktX9_spot_2
def dkwX9_spot_0 : List UInt8 := [42, 3, 181, 0, 150, 27, 184, 0, 173, 154, 0, 9, 42, 2, 182, 0, 164, 172, 42, 180, 0, 13, 4, 46]
abbrev dktX9_spot_0 : List UInt8 := dkwX9_spot_0 ++ dktX9_spot_1
theorem dksX9_spot_0 : cX9_spot.data.toList.drop 0 = dktX9_spot_0 := by decide +kernel
theorem dksX9_spot_1 : cX9_spot.data.toList.drop 24 = dktX9_spot_1 := dk_seg dksX9_spot_0 24 rfl rfl
theorem dksX9_spot_2 : cX9_spot.data.toList.drop 48 = dktX9_spot_2 := dk_seg dksX9_spot_1 24 rfl rfl
theorem dX9_spot_0 : decode cX9_spot 0 = .ok (.aload_n 0, 1) := dk_42 (dk_at dksX9_spot_0 0 rfl rfl)
theorem dX9_spot_1 : decode cX9_spot 1 = .ok (.iconst 0, 1) := dk_3 (dk_at dksX9_spot_0 1 rfl rfl)
theorem dX9_spot_2 : decode cX9_spot 2 = .ok (.putfield 150, 3) := dk_181 0 150 (dk_at dksX9_spot_0 2 rfl rfl)
theorem dX9_spot_5 : decode cX9_spot 5 = .ok (.iload_n 1, 1) := dk_27 (dk_at dksX9_spot_0 5 rfl rfl)
theorem dX9_spot_6 : decode cX9_spot 6 = .ok (.invokestatic 173, 3) := dk_184 0 173 (dk_at dksX9_spot_0 6 rfl rfl)
theorem dX9_spot_9 : decode cX9_spot 9 = .ok (.ifCond .ne 9, 3) := dk_154 0 9 (dk_at dksX9_spot_0 9 rfl rfl)
theorem dX9_spot_12 : decode cX9_spot 12 = .ok (.aload_n 0, 1) := dk_42 (dk_at dksX9_spot_0 12 rfl rfl)
theorem dX9_spot_13 : decode cX9_spot 13 = .ok (.iconst (-1), 1) := dk_2 (dk_at dksX9_spot_0 13 rfl rfl)
theorem dX9_spot_14 : decode cX9_spot 14 = .ok (.invokevirtual 164, 3) := dk_182 0 164 (dk_at dksX9_spot_0 14 rfl rfl)
theorem dX9_spot_17 : decode cX9_spot 17 = .ok (.ireturn, 1) := dk_172 (dk_at dksX9_spot_0 17 rfl rfl)
theorem dX9_spot_18 : decode cX9_spot 18 = .ok (.aload_n 0, 1) := dk_42 (dk_at dksX9_spot_0 18 rfl rfl)
theorem dX9_spot_19 : decode cX9_spot 19 = .ok (.getfield 13, 3) := dk_180 0 13 (dk_at dksX9_spot_0 19 rfl rfl)
theorem dX9_spot_22 : decode cX9_spot 22 = .ok (.iconst 1, 1) := dk_4 (dk_at dksX9_spot_0 22 rfl rfl)
theorem dX9_spot_23 : decode cX9_spot 23 = .ok (.iaload, 1) := dk_46 (dk_at dksX9_spot_0 23 rfl rfl)
theorem dX9_spot_24 : decode cX9_spot 24 = .ok (.istore_n 2, 1) := dk_61 (dk_at dksX9_spot_1 0 rfl rfl)
theorem dX9_spot_25 : decode cX9_spot 25 = .ok (.iload_n 2, 1) := dk_28 (dk_at dksX9_spot_1 1 rfl rfl)
theorem dX9_spot_26 : decode cX9_spot 26 = .ok (.iconst 4, 1) := dk_7 (dk_at dksX9_spot_1 2 rfl rfl)
theorem dX9_spot_27 : decode cX9_spot 27 = .ok (.if_icmp .ne 10, 3) := dk_160 0 10 (dk_at dksX9_spot_1 3 rfl rfl)
theorem dX9_spot_30 : decode cX9_spot 30 = .ok (.aload_n 0, 1) := dk_42 (dk_at dksX9_spot_1 6 rfl rfl)
theorem dX9_spot_31 : decode cX9_spot 31 = .ok (.bipush (-5), 2) := dk_16 251 (dk_at dksX9_spot_1 7 rfl rfl)
theorem dX9_spot_33 : decode cX9_spot 33 = .ok (.invokevirtual 164, 3) := dk_182 0 164 (dk_at dksX9_spot_1 9 rfl rfl)
theorem dX9_spot_36 : decode cX9_spot 36 = .ok (.ireturn, 1) := dk_172 (dk_at dksX9_spot_1 12 rfl rfl)
theorem dX9_spot_37 : decode cX9_spot 37 = .ok (.aload_n 0, 1) := dk_42 (dk_at dksX9_spot_1 13 rfl rfl)
theorem dX9_spot_38 : decode cX9_spot 38 = .ok (.getfield 13, 3) := dk_180 0 13 (dk_at dksX9_spot_1 14 rfl rfl)
theorem dX9_spot_41 : decode cX9_spot 41 = .ok (.bipush 12, 2) := dk_16 12 (dk_at dksX9_spot_1 17 rfl rfl)
theorem dX9_spot_43 : decode cX9_spot 43 = .ok (.iload_n 2, 1) := dk_28 (dk_at dksX9_spot_1 19 rfl rfl)
theorem dX9_spot_44 : decode cX9_spot 44 = .ok (.iadd, 1) := dk_96 (dk_at dksX9_spot_1 20 rfl rfl)
theorem dX9_spot_45 : decode cX9_spot 45 = .ok (.iload_n 1, 1) := dk_27 (dk_at dksX9_spot_1 21 rfl rfl)
theorem dX9_spot_46 : decode cX9_spot 46 = .ok (.iastore, 1) := dk_79 (dk_at dksX9_spot_1 22 rfl rfl)
theorem dX9_spot_47 : decode cX9_spot 47 = .ok (.aload_n 0, 1) := dk_42 (dk_at dksX9_spot_1 23 rfl rfl)
theorem dX9_spot_48 : decode cX9_spot 48 = .ok (.getfield 13, 3) := dk_180 0 13 (dk_at dksX9_spot_2 0 rfl rfl)
theorem dX9_spot_51 : decode cX9_spot 51 = .ok (.iconst 1, 1) := dk_4 (dk_at dksX9_spot_2 3 rfl rfl)
theorem dX9_spot_52 : decode cX9_spot 52 = .ok (.dup2, 1) := dk_92 (dk_at dksX9_spot_2 4 rfl rfl)
theorem dX9_spot_53 : decode cX9_spot 53 = .ok (.iaload, 1) := dk_46 (dk_at dksX9_spot_2 5 rfl rfl)
theorem dX9_spot_54 : decode cX9_spot 54 = .ok (.iconst 1, 1) := dk_4 (dk_at dksX9_spot_2 6 rfl rfl)
theorem dX9_spot_55 : decode cX9_spot 55 = .ok (.iadd, 1) := dk_96 (dk_at dksX9_spot_2 7 rfl rfl)
theorem dX9_spot_56 : decode cX9_spot 56 = .ok (.iastore, 1) := dk_79 (dk_at dksX9_spot_2 8 rfl rfl)
theorem dX9_spot_57 : decode cX9_spot 57 = .ok (.aload_n 0, 1) := dk_42 (dk_at dksX9_spot_2 9 rfl rfl)
theorem dX9_spot_58 : decode cX9_spot 58 = .ok (.iload_n 2, 1) := dk_28 (dk_at dksX9_spot_2 10 rfl rfl)
theorem dX9_spot_59 : decode cX9_spot 59 = .ok (.invokevirtual 164, 3) := dk_182 0 164 (dk_at dksX9_spot_2 11 rfl rfl)
theorem dX9_spot_62 : decode cX9_spot 62 = .ok (.ireturn, 1) := dk_172 (dk_at dksX9_spot_2 14 rfl rfl)
abbrev cX9_plan : ByteArray := prog_23_method_23_code
def yX9_plan : MethodName := ⟨RX9, "plan", "(II)I"⟩
def dkwX9_plan_2 : List UInt8 := [16, 7, 27, 96, 28, 182, 0, 179, 167, 0, 9, 42, 16, 254, 182, 0, 164, 172]
abbrev dktX9_plan_2 : List UInt8 := dkwX9_plan_2 ++ []
def dkwX9_plan_1 : List UInt8 := [2, 159, 0, 21, 28, 133, 9, 42, 180, 0, 13, 4, 46, 133, 10, 101, 184, 0, 160, 153, 0, 15, 42]
abbrev dktX9_plan_1 : List UInt8 := dkwX9_plan_1 ++ dktX9_plan_2
def dkwX9_plan_0 : List UInt8 := [42, 3, 181, 0, 150, 27, 133, 9, 20, 0, 187, 184, 0, 160, 154, 0, 9, 42, 2, 182, 0, 164, 172, 28]
abbrev dktX9_plan_0 : List UInt8 := dkwX9_plan_0 ++ dktX9_plan_1
theorem dksX9_plan_0 : cX9_plan.data.toList.drop 0 = dktX9_plan_0 := by decide +kernel
theorem dksX9_plan_1 : cX9_plan.data.toList.drop 24 = dktX9_plan_1 := dk_seg dksX9_plan_0 24 rfl rfl
theorem dksX9_plan_2 : cX9_plan.data.toList.drop 47 = dktX9_plan_2 := dk_seg dksX9_plan_1 23 rfl rfl
theorem dX9_plan_0 : decode cX9_plan 0 = .ok (.aload_n 0, 1) := dk_42 (dk_at dksX9_plan_0 0 rfl rfl)
theorem dX9_plan_1 : decode cX9_plan 1 = .ok (.iconst 0, 1) := dk_3 (dk_at dksX9_plan_0 1 rfl rfl)
theorem dX9_plan_2 : decode cX9_plan 2 = .ok (.putfield 150, 3) := dk_181 0 150 (dk_at dksX9_plan_0 2 rfl rfl)
theorem dX9_plan_5 : decode cX9_plan 5 = .ok (.iload_n 1, 1) := dk_27 (dk_at dksX9_plan_0 5 rfl rfl)
theorem dX9_plan_6 : decode cX9_plan 6 = .ok (.i2l, 1) := dk_133 (dk_at dksX9_plan_0 6 rfl rfl)
theorem dX9_plan_7 : decode cX9_plan 7 = .ok (.lconst 0, 1) := dk_9 (dk_at dksX9_plan_0 7 rfl rfl)
theorem dX9_plan_8 : decode cX9_plan 8 = .ok (.ldc2_w 187, 3) := dk_20 0 187 (dk_at dksX9_plan_0 8 rfl rfl)
theorem dX9_plan_11 : decode cX9_plan 11 = .ok (.invokestatic 160, 3) := dk_184 0 160 (dk_at dksX9_plan_0 11 rfl rfl)
theorem dX9_plan_14 : decode cX9_plan 14 = .ok (.ifCond .ne 9, 3) := dk_154 0 9 (dk_at dksX9_plan_0 14 rfl rfl)
theorem dX9_plan_17 : decode cX9_plan 17 = .ok (.aload_n 0, 1) := dk_42 (dk_at dksX9_plan_0 17 rfl rfl)
theorem dX9_plan_18 : decode cX9_plan 18 = .ok (.iconst (-1), 1) := dk_2 (dk_at dksX9_plan_0 18 rfl rfl)
theorem dX9_plan_19 : decode cX9_plan 19 = .ok (.invokevirtual 164, 3) := dk_182 0 164 (dk_at dksX9_plan_0 19 rfl rfl)
theorem dX9_plan_22 : decode cX9_plan 22 = .ok (.ireturn, 1) := dk_172 (dk_at dksX9_plan_0 22 rfl rfl)
theorem dX9_plan_23 : decode cX9_plan 23 = .ok (.iload_n 2, 1) := dk_28 (dk_at dksX9_plan_0 23 rfl rfl)
theorem dX9_plan_24 : decode cX9_plan 24 = .ok (.iconst (-1), 1) := dk_2 (dk_at dksX9_plan_1 0 rfl rfl)
theorem dX9_plan_25 : decode cX9_plan 25 = .ok (.if_icmp .eq 21, 3) := dk_159 0 21 (dk_at dksX9_plan_1 1 rfl rfl)
theorem dX9_plan_28 : decode cX9_plan 28 = .ok (.iload_n 2, 1) := dk_28 (dk_at dksX9_plan_1 4 rfl rfl)
theorem dX9_plan_29 : decode cX9_plan 29 = .ok (.i2l, 1) := dk_133 (dk_at dksX9_plan_1 5 rfl rfl)
theorem dX9_plan_30 : decode cX9_plan 30 = .ok (.lconst 0, 1) := dk_9 (dk_at dksX9_plan_1 6 rfl rfl)
theorem dX9_plan_31 : decode cX9_plan 31 = .ok (.aload_n 0, 1) := dk_42 (dk_at dksX9_plan_1 7 rfl rfl)
theorem dX9_plan_32 : decode cX9_plan 32 = .ok (.getfield 13, 3) := dk_180 0 13 (dk_at dksX9_plan_1 8 rfl rfl)
theorem dX9_plan_35 : decode cX9_plan 35 = .ok (.iconst 1, 1) := dk_4 (dk_at dksX9_plan_1 11 rfl rfl)
theorem dX9_plan_36 : decode cX9_plan 36 = .ok (.iaload, 1) := dk_46 (dk_at dksX9_plan_1 12 rfl rfl)
theorem dX9_plan_37 : decode cX9_plan 37 = .ok (.i2l, 1) := dk_133 (dk_at dksX9_plan_1 13 rfl rfl)
theorem dX9_plan_38 : decode cX9_plan 38 = .ok (.lconst 1, 1) := dk_10 (dk_at dksX9_plan_1 14 rfl rfl)
theorem dX9_plan_39 : decode cX9_plan 39 = .ok (.lsub, 1) := dk_101 (dk_at dksX9_plan_1 15 rfl rfl)
theorem dX9_plan_40 : decode cX9_plan 40 = .ok (.invokestatic 160, 3) := dk_184 0 160 (dk_at dksX9_plan_1 16 rfl rfl)
theorem dX9_plan_43 : decode cX9_plan 43 = .ok (.ifCond .eq 15, 3) := dk_153 0 15 (dk_at dksX9_plan_1 19 rfl rfl)
theorem dX9_plan_46 : decode cX9_plan 46 = .ok (.aload_n 0, 1) := dk_42 (dk_at dksX9_plan_1 22 rfl rfl)
theorem dX9_plan_47 : decode cX9_plan 47 = .ok (.bipush 7, 2) := dk_16 7 (dk_at dksX9_plan_2 0 rfl rfl)
theorem dX9_plan_49 : decode cX9_plan 49 = .ok (.iload_n 1, 1) := dk_27 (dk_at dksX9_plan_2 2 rfl rfl)
theorem dX9_plan_50 : decode cX9_plan 50 = .ok (.iadd, 1) := dk_96 (dk_at dksX9_plan_2 3 rfl rfl)
theorem dX9_plan_51 : decode cX9_plan 51 = .ok (.iload_n 2, 1) := dk_28 (dk_at dksX9_plan_2 4 rfl rfl)
theorem dX9_plan_52 : decode cX9_plan 52 = .ok (.invokevirtual 179, 3) := dk_182 0 179 (dk_at dksX9_plan_2 5 rfl rfl)
theorem dX9_plan_55 : decode cX9_plan 55 = .ok (.goto 9, 3) := dk_167 0 9 (dk_at dksX9_plan_2 8 rfl rfl)
theorem dX9_plan_58 : decode cX9_plan 58 = .ok (.aload_n 0, 1) := dk_42 (dk_at dksX9_plan_2 11 rfl rfl)
theorem dX9_plan_59 : decode cX9_plan 59 = .ok (.bipush (-2), 2) := dk_16 254 (dk_at dksX9_plan_2 12 rfl rfl)
theorem dX9_plan_61 : decode cX9_plan 61 = .ok (.invokevirtual 164, 3) := dk_182 0 164 (dk_at dksX9_plan_2 14 rfl rfl)
theorem dX9_plan_64 : decode cX9_plan 64 = .ok (.ireturn, 1) := dk_172 (dk_at dksX9_plan_2 17 rfl rfl)
abbrev cX9_terms : ByteArray := prog_23_method_24_code
def yX9_terms : MethodName := ⟨RX9, "terms", "(II)I"⟩
def dkwX9_terms_2 : List UInt8 := [153, 0, 14, 42, 8, 27, 96, 28, 182, 0, 179, 167, 0, 8, 42, 2, 182, 0, 164, 172]
abbrev dktX9_terms_2 : List UInt8 := dkwX9_terms_2 ++ []
def dkwX9_terms_1 : List UInt8 := [160, 0, 19, 28, 133, 10, 20, 0, 204, 184, 0, 160, 153, 0, 7, 4, 167, 0, 4, 3, 62, 29]
abbrev dktX9_terms_1 : List UInt8 := dkwX9_terms_1 ++ dktX9_terms_2
def dkwX9_terms_0 : List UInt8 := [42, 3, 181, 0, 150, 27, 154, 0, 15, 28, 133, 10, 20, 0, 202, 184, 0, 160, 167, 0, 25, 27, 4]
abbrev dktX9_terms_0 : List UInt8 := dkwX9_terms_0 ++ dktX9_terms_1
theorem dksX9_terms_0 : cX9_terms.data.toList.drop 0 = dktX9_terms_0 := by decide +kernel
theorem dksX9_terms_1 : cX9_terms.data.toList.drop 23 = dktX9_terms_1 := dk_seg dksX9_terms_0 23 rfl rfl
theorem dksX9_terms_2 : cX9_terms.data.toList.drop 45 = dktX9_terms_2 := dk_seg dksX9_terms_1 22 rfl rfl
theorem dX9_terms_0 : decode cX9_terms 0 = .ok (.aload_n 0, 1) := dk_42 (dk_at dksX9_terms_0 0 rfl rfl)
theorem dX9_terms_1 : decode cX9_terms 1 = .ok (.iconst 0, 1) := dk_3 (dk_at dksX9_terms_0 1 rfl rfl)
theorem dX9_terms_2 : decode cX9_terms 2 = .ok (.putfield 150, 3) := dk_181 0 150 (dk_at dksX9_terms_0 2 rfl rfl)
theorem dX9_terms_5 : decode cX9_terms 5 = .ok (.iload_n 1, 1) := dk_27 (dk_at dksX9_terms_0 5 rfl rfl)
theorem dX9_terms_6 : decode cX9_terms 6 = .ok (.ifCond .ne 15, 3) := dk_154 0 15 (dk_at dksX9_terms_0 6 rfl rfl)
theorem dX9_terms_9 : decode cX9_terms 9 = .ok (.iload_n 2, 1) := dk_28 (dk_at dksX9_terms_0 9 rfl rfl)
theorem dX9_terms_10 : decode cX9_terms 10 = .ok (.i2l, 1) := dk_133 (dk_at dksX9_terms_0 10 rfl rfl)
theorem dX9_terms_11 : decode cX9_terms 11 = .ok (.lconst 1, 1) := dk_10 (dk_at dksX9_terms_0 11 rfl rfl)
theorem dX9_terms_12 : decode cX9_terms 12 = .ok (.ldc2_w 202, 3) := dk_20 0 202 (dk_at dksX9_terms_0 12 rfl rfl)
theorem dX9_terms_15 : decode cX9_terms 15 = .ok (.invokestatic 160, 3) := dk_184 0 160 (dk_at dksX9_terms_0 15 rfl rfl)
theorem dX9_terms_18 : decode cX9_terms 18 = .ok (.goto 25, 3) := dk_167 0 25 (dk_at dksX9_terms_0 18 rfl rfl)
theorem dX9_terms_21 : decode cX9_terms 21 = .ok (.iload_n 1, 1) := dk_27 (dk_at dksX9_terms_0 21 rfl rfl)
theorem dX9_terms_22 : decode cX9_terms 22 = .ok (.iconst 1, 1) := dk_4 (dk_at dksX9_terms_0 22 rfl rfl)
theorem dX9_terms_23 : decode cX9_terms 23 = .ok (.if_icmp .ne 19, 3) := dk_160 0 19 (dk_at dksX9_terms_1 0 rfl rfl)
theorem dX9_terms_26 : decode cX9_terms 26 = .ok (.iload_n 2, 1) := dk_28 (dk_at dksX9_terms_1 3 rfl rfl)
theorem dX9_terms_27 : decode cX9_terms 27 = .ok (.i2l, 1) := dk_133 (dk_at dksX9_terms_1 4 rfl rfl)
theorem dX9_terms_28 : decode cX9_terms 28 = .ok (.lconst 1, 1) := dk_10 (dk_at dksX9_terms_1 5 rfl rfl)
theorem dX9_terms_29 : decode cX9_terms 29 = .ok (.ldc2_w 204, 3) := dk_20 0 204 (dk_at dksX9_terms_1 6 rfl rfl)
theorem dX9_terms_32 : decode cX9_terms 32 = .ok (.invokestatic 160, 3) := dk_184 0 160 (dk_at dksX9_terms_1 9 rfl rfl)
theorem dX9_terms_35 : decode cX9_terms 35 = .ok (.ifCond .eq 7, 3) := dk_153 0 7 (dk_at dksX9_terms_1 12 rfl rfl)
theorem dX9_terms_38 : decode cX9_terms 38 = .ok (.iconst 1, 1) := dk_4 (dk_at dksX9_terms_1 15 rfl rfl)
theorem dX9_terms_39 : decode cX9_terms 39 = .ok (.goto 4, 3) := dk_167 0 4 (dk_at dksX9_terms_1 16 rfl rfl)
theorem dX9_terms_42 : decode cX9_terms 42 = .ok (.iconst 0, 1) := dk_3 (dk_at dksX9_terms_1 19 rfl rfl)
theorem dX9_terms_43 : decode cX9_terms 43 = .ok (.istore_n 3, 1) := dk_62 (dk_at dksX9_terms_1 20 rfl rfl)
theorem dX9_terms_44 : decode cX9_terms 44 = .ok (.iload_n 3, 1) := dk_29 (dk_at dksX9_terms_1 21 rfl rfl)
theorem dX9_terms_45 : decode cX9_terms 45 = .ok (.ifCond .eq 14, 3) := dk_153 0 14 (dk_at dksX9_terms_2 0 rfl rfl)
theorem dX9_terms_48 : decode cX9_terms 48 = .ok (.aload_n 0, 1) := dk_42 (dk_at dksX9_terms_2 3 rfl rfl)
theorem dX9_terms_49 : decode cX9_terms 49 = .ok (.iconst 5, 1) := dk_8 (dk_at dksX9_terms_2 4 rfl rfl)
theorem dX9_terms_50 : decode cX9_terms 50 = .ok (.iload_n 1, 1) := dk_27 (dk_at dksX9_terms_2 5 rfl rfl)
theorem dX9_terms_51 : decode cX9_terms 51 = .ok (.iadd, 1) := dk_96 (dk_at dksX9_terms_2 6 rfl rfl)
theorem dX9_terms_52 : decode cX9_terms 52 = .ok (.iload_n 2, 1) := dk_28 (dk_at dksX9_terms_2 7 rfl rfl)
theorem dX9_terms_53 : decode cX9_terms 53 = .ok (.invokevirtual 179, 3) := dk_182 0 179 (dk_at dksX9_terms_2 8 rfl rfl)
theorem dX9_terms_56 : decode cX9_terms 56 = .ok (.goto 8, 3) := dk_167 0 8 (dk_at dksX9_terms_2 11 rfl rfl)
theorem dX9_terms_59 : decode cX9_terms 59 = .ok (.aload_n 0, 1) := dk_42 (dk_at dksX9_terms_2 14 rfl rfl)
theorem dX9_terms_60 : decode cX9_terms 60 = .ok (.iconst (-1), 1) := dk_2 (dk_at dksX9_terms_2 15 rfl rfl)
theorem dX9_terms_61 : decode cX9_terms 61 = .ok (.invokevirtual 164, 3) := dk_182 0 164 (dk_at dksX9_terms_2 16 rfl rfl)
theorem dX9_terms_64 : decode cX9_terms 64 = .ok (.ireturn, 1) := dk_172 (dk_at dksX9_terms_2 19 rfl rfl)
abbrev cX9_row : ByteArray := prog_23_method_25_code
def yX9_row : MethodName := ⟨RX9, "row", "()I"⟩
def dkwX9_row_7 : List UInt8 := [153, 0, 7, 3, 167, 0, 4, 4, 96, 181, 0, 209, 132, 3, 1, 167, 255, 113, 42, 28, 182, 0, 164, 172]
abbrev dktX9_row_7 : List UInt8 := dkwX9_row_7 ++ []
def dkwX9_row_6 : List UInt8 := [153, 0, 7, 4, 167, 0, 4, 3, 96, 61, 42, 89, 180, 0, 209, 21, 4, 154, 0, 8, 21, 5]
abbrev dktX9_row_6 : List UInt8 := dkwX9_row_6 ++ dktX9_row_7
def dkwX9_row_5 : List UInt8 := [42, 180, 0, 13, 16, 80, 29, 96, 42, 180, 0, 23, 29, 46, 79, 28, 21, 4, 154, 0, 8, 21, 5]
abbrev dktX9_row_5 : List UInt8 := dkwX9_row_5 ++ dktX9_row_6
def dkwX9_row_4 : List UInt8 := [3, 54, 5, 21, 4, 153, 0, 14, 42, 180, 0, 13, 17, 0, 176, 29, 96, 4, 79, 21, 5, 153, 0, 18]
abbrev dktX9_row_4 : List UInt8 := dkwX9_row_4 ++ dktX9_row_5
def dkwX9_row_3 : List UInt8 := [3, 54, 4, 29, 16, 96, 162, 0, 18, 42, 180, 0, 23, 29, 46, 16, 10, 162, 0, 7, 4, 167, 0, 4]
abbrev dktX9_row_3 : List UInt8 := dkwX9_row_3 ++ dktX9_row_4
def dkwX9_row_2 : List UInt8 := [42, 180, 0, 23, 29, 46, 17, 0, 200, 160, 0, 15, 42, 29, 182, 0, 182, 154, 0, 7, 4, 167, 0, 4]
abbrev dktX9_row_2 : List UInt8 := dkwX9_row_2 ++ dktX9_row_3
def dkwX9_row_1 : List UInt8 := [182, 0, 164, 172, 42, 3, 181, 0, 209, 3, 61, 3, 62, 29, 27, 162, 0, 144, 29, 16, 96, 162, 0, 27]
abbrev dktX9_row_1 : List UInt8 := dkwX9_row_1 ++ dktX9_row_2
def dkwX9_row_0 : List UInt8 := [42, 3, 181, 0, 150, 42, 180, 0, 206, 60, 42, 3, 181, 0, 206, 27, 154, 0, 10, 42, 16, 250]
abbrev dktX9_row_0 : List UInt8 := dkwX9_row_0 ++ dktX9_row_1
theorem dksX9_row_0 : cX9_row.data.toList.drop 0 = dktX9_row_0 := by decide +kernel
theorem dksX9_row_1 : cX9_row.data.toList.drop 22 = dktX9_row_1 := dk_seg dksX9_row_0 22 rfl rfl
theorem dksX9_row_2 : cX9_row.data.toList.drop 46 = dktX9_row_2 := dk_seg dksX9_row_1 24 rfl rfl
theorem dksX9_row_3 : cX9_row.data.toList.drop 70 = dktX9_row_3 := dk_seg dksX9_row_2 24 rfl rfl
theorem dksX9_row_4 : cX9_row.data.toList.drop 94 = dktX9_row_4 := dk_seg dksX9_row_3 24 rfl rfl
theorem dksX9_row_5 : cX9_row.data.toList.drop 118 = dktX9_row_5 := dk_seg dksX9_row_4 24 rfl rfl
theorem dksX9_row_6 : cX9_row.data.toList.drop 141 = dktX9_row_6 := dk_seg dksX9_row_5 23 rfl rfl
theorem dksX9_row_7 : cX9_row.data.toList.drop 163 = dktX9_row_7 := dk_seg dksX9_row_6 22 rfl rfl
theorem dX9_row_0 : decode cX9_row 0 = .ok (.aload_n 0, 1) := dk_42 (dk_at dksX9_row_0 0 rfl rfl)
theorem dX9_row_1 : decode cX9_row 1 = .ok (.iconst 0, 1) := dk_3 (dk_at dksX9_row_0 1 rfl rfl)
theorem dX9_row_2 : decode cX9_row 2 = .ok (.putfield 150, 3) := dk_181 0 150 (dk_at dksX9_row_0 2 rfl rfl)
theorem dX9_row_5 : decode cX9_row 5 = .ok (.aload_n 0, 1) := dk_42 (dk_at dksX9_row_0 5 rfl rfl)
theorem dX9_row_6 : decode cX9_row 6 = .ok (.getfield 206, 3) := dk_180 0 206 (dk_at dksX9_row_0 6 rfl rfl)
theorem dX9_row_9 : decode cX9_row 9 = .ok (.istore_n 1, 1) := dk_60 (dk_at dksX9_row_0 9 rfl rfl)
theorem dX9_row_10 : decode cX9_row 10 = .ok (.aload_n 0, 1) := dk_42 (dk_at dksX9_row_0 10 rfl rfl)
theorem dX9_row_11 : decode cX9_row 11 = .ok (.iconst 0, 1) := dk_3 (dk_at dksX9_row_0 11 rfl rfl)
theorem dX9_row_12 : decode cX9_row 12 = .ok (.putfield 206, 3) := dk_181 0 206 (dk_at dksX9_row_0 12 rfl rfl)
theorem dX9_row_15 : decode cX9_row 15 = .ok (.iload_n 1, 1) := dk_27 (dk_at dksX9_row_0 15 rfl rfl)
theorem dX9_row_16 : decode cX9_row 16 = .ok (.ifCond .ne 10, 3) := dk_154 0 10 (dk_at dksX9_row_0 16 rfl rfl)
theorem dX9_row_19 : decode cX9_row 19 = .ok (.aload_n 0, 1) := dk_42 (dk_at dksX9_row_0 19 rfl rfl)
theorem dX9_row_20 : decode cX9_row 20 = .ok (.bipush (-6), 2) := dk_16 250 (dk_at dksX9_row_0 20 rfl rfl)
theorem dX9_row_22 : decode cX9_row 22 = .ok (.invokevirtual 164, 3) := dk_182 0 164 (dk_at dksX9_row_1 0 rfl rfl)
theorem dX9_row_25 : decode cX9_row 25 = .ok (.ireturn, 1) := dk_172 (dk_at dksX9_row_1 3 rfl rfl)
theorem dX9_row_26 : decode cX9_row 26 = .ok (.aload_n 0, 1) := dk_42 (dk_at dksX9_row_1 4 rfl rfl)
theorem dX9_row_27 : decode cX9_row 27 = .ok (.iconst 0, 1) := dk_3 (dk_at dksX9_row_1 5 rfl rfl)
theorem dX9_row_28 : decode cX9_row 28 = .ok (.putfield 209, 3) := dk_181 0 209 (dk_at dksX9_row_1 6 rfl rfl)
theorem dX9_row_31 : decode cX9_row 31 = .ok (.iconst 0, 1) := dk_3 (dk_at dksX9_row_1 9 rfl rfl)
theorem dX9_row_32 : decode cX9_row 32 = .ok (.istore_n 2, 1) := dk_61 (dk_at dksX9_row_1 10 rfl rfl)
theorem dX9_row_33 : decode cX9_row 33 = .ok (.iconst 0, 1) := dk_3 (dk_at dksX9_row_1 11 rfl rfl)
theorem dX9_row_34 : decode cX9_row 34 = .ok (.istore_n 3, 1) := dk_62 (dk_at dksX9_row_1 12 rfl rfl)
theorem dX9_row_35 : decode cX9_row 35 = .ok (.iload_n 3, 1) := dk_29 (dk_at dksX9_row_1 13 rfl rfl)
theorem dX9_row_36 : decode cX9_row 36 = .ok (.iload_n 1, 1) := dk_27 (dk_at dksX9_row_1 14 rfl rfl)
theorem dX9_row_37 : decode cX9_row 37 = .ok (.if_icmp .ge 144, 3) := dk_162 0 144 (dk_at dksX9_row_1 15 rfl rfl)
theorem dX9_row_40 : decode cX9_row 40 = .ok (.iload_n 3, 1) := dk_29 (dk_at dksX9_row_1 18 rfl rfl)
theorem dX9_row_41 : decode cX9_row 41 = .ok (.bipush 96, 2) := dk_16 96 (dk_at dksX9_row_1 19 rfl rfl)
theorem dX9_row_43 : decode cX9_row 43 = .ok (.if_icmp .ge 27, 3) := dk_162 0 27 (dk_at dksX9_row_1 21 rfl rfl)
theorem dX9_row_46 : decode cX9_row 46 = .ok (.aload_n 0, 1) := dk_42 (dk_at dksX9_row_2 0 rfl rfl)
theorem dX9_row_47 : decode cX9_row 47 = .ok (.getfield 23, 3) := dk_180 0 23 (dk_at dksX9_row_2 1 rfl rfl)
theorem dX9_row_50 : decode cX9_row 50 = .ok (.iload_n 3, 1) := dk_29 (dk_at dksX9_row_2 4 rfl rfl)
theorem dX9_row_51 : decode cX9_row 51 = .ok (.iaload, 1) := dk_46 (dk_at dksX9_row_2 5 rfl rfl)
theorem dX9_row_52 : decode cX9_row 52 = .ok (.sipush 200, 3) := dk_17 0 200 (dk_at dksX9_row_2 6 rfl rfl)
theorem dX9_row_55 : decode cX9_row 55 = .ok (.if_icmp .ne 15, 3) := dk_160 0 15 (dk_at dksX9_row_2 9 rfl rfl)
theorem dX9_row_58 : decode cX9_row 58 = .ok (.aload_n 0, 1) := dk_42 (dk_at dksX9_row_2 12 rfl rfl)
theorem dX9_row_59 : decode cX9_row 59 = .ok (.iload_n 3, 1) := dk_29 (dk_at dksX9_row_2 13 rfl rfl)
theorem dX9_row_60 : decode cX9_row 60 = .ok (.invokevirtual 182, 3) := dk_182 0 182 (dk_at dksX9_row_2 14 rfl rfl)
theorem dX9_row_63 : decode cX9_row 63 = .ok (.ifCond .ne 7, 3) := dk_154 0 7 (dk_at dksX9_row_2 17 rfl rfl)
theorem dX9_row_66 : decode cX9_row 66 = .ok (.iconst 1, 1) := dk_4 (dk_at dksX9_row_2 20 rfl rfl)
theorem dX9_row_67 : decode cX9_row 67 = .ok (.goto 4, 3) := dk_167 0 4 (dk_at dksX9_row_2 21 rfl rfl)
theorem dX9_row_70 : decode cX9_row 70 = .ok (.iconst 0, 1) := dk_3 (dk_at dksX9_row_3 0 rfl rfl)
theorem dX9_row_71 : decode cX9_row 71 = .ok (.istore 4, 2) := dk_54 4 (dk_at dksX9_row_3 1 rfl rfl)
theorem dX9_row_73 : decode cX9_row 73 = .ok (.iload_n 3, 1) := dk_29 (dk_at dksX9_row_3 3 rfl rfl)
theorem dX9_row_74 : decode cX9_row 74 = .ok (.bipush 96, 2) := dk_16 96 (dk_at dksX9_row_3 4 rfl rfl)
theorem dX9_row_76 : decode cX9_row 76 = .ok (.if_icmp .ge 18, 3) := dk_162 0 18 (dk_at dksX9_row_3 6 rfl rfl)
theorem dX9_row_79 : decode cX9_row 79 = .ok (.aload_n 0, 1) := dk_42 (dk_at dksX9_row_3 9 rfl rfl)
theorem dX9_row_80 : decode cX9_row 80 = .ok (.getfield 23, 3) := dk_180 0 23 (dk_at dksX9_row_3 10 rfl rfl)
theorem dX9_row_83 : decode cX9_row 83 = .ok (.iload_n 3, 1) := dk_29 (dk_at dksX9_row_3 13 rfl rfl)
theorem dX9_row_84 : decode cX9_row 84 = .ok (.iaload, 1) := dk_46 (dk_at dksX9_row_3 14 rfl rfl)
theorem dX9_row_85 : decode cX9_row 85 = .ok (.bipush 10, 2) := dk_16 10 (dk_at dksX9_row_3 15 rfl rfl)
theorem dX9_row_87 : decode cX9_row 87 = .ok (.if_icmp .ge 7, 3) := dk_162 0 7 (dk_at dksX9_row_3 17 rfl rfl)
theorem dX9_row_90 : decode cX9_row 90 = .ok (.iconst 1, 1) := dk_4 (dk_at dksX9_row_3 20 rfl rfl)
theorem dX9_row_91 : decode cX9_row 91 = .ok (.goto 4, 3) := dk_167 0 4 (dk_at dksX9_row_3 21 rfl rfl)
theorem dX9_row_94 : decode cX9_row 94 = .ok (.iconst 0, 1) := dk_3 (dk_at dksX9_row_4 0 rfl rfl)
theorem dX9_row_95 : decode cX9_row 95 = .ok (.istore 5, 2) := dk_54 5 (dk_at dksX9_row_4 1 rfl rfl)
theorem dX9_row_97 : decode cX9_row 97 = .ok (.iload 4, 2) := dk_21 4 (dk_at dksX9_row_4 3 rfl rfl)
theorem dX9_row_99 : decode cX9_row 99 = .ok (.ifCond .eq 14, 3) := dk_153 0 14 (dk_at dksX9_row_4 5 rfl rfl)
theorem dX9_row_102 : decode cX9_row 102 = .ok (.aload_n 0, 1) := dk_42 (dk_at dksX9_row_4 8 rfl rfl)
theorem dX9_row_103 : decode cX9_row 103 = .ok (.getfield 13, 3) := dk_180 0 13 (dk_at dksX9_row_4 9 rfl rfl)
theorem dX9_row_106 : decode cX9_row 106 = .ok (.sipush 176, 3) := dk_17 0 176 (dk_at dksX9_row_4 12 rfl rfl)
theorem dX9_row_109 : decode cX9_row 109 = .ok (.iload_n 3, 1) := dk_29 (dk_at dksX9_row_4 15 rfl rfl)
theorem dX9_row_110 : decode cX9_row 110 = .ok (.iadd, 1) := dk_96 (dk_at dksX9_row_4 16 rfl rfl)
theorem dX9_row_111 : decode cX9_row 111 = .ok (.iconst 1, 1) := dk_4 (dk_at dksX9_row_4 17 rfl rfl)
theorem dX9_row_112 : decode cX9_row 112 = .ok (.iastore, 1) := dk_79 (dk_at dksX9_row_4 18 rfl rfl)
theorem dX9_row_113 : decode cX9_row 113 = .ok (.iload 5, 2) := dk_21 5 (dk_at dksX9_row_4 19 rfl rfl)
theorem dX9_row_115 : decode cX9_row 115 = .ok (.ifCond .eq 18, 3) := dk_153 0 18 (dk_at dksX9_row_4 21 rfl rfl)
theorem dX9_row_118 : decode cX9_row 118 = .ok (.aload_n 0, 1) := dk_42 (dk_at dksX9_row_5 0 rfl rfl)
theorem dX9_row_119 : decode cX9_row 119 = .ok (.getfield 13, 3) := dk_180 0 13 (dk_at dksX9_row_5 1 rfl rfl)
theorem dX9_row_122 : decode cX9_row 122 = .ok (.bipush 80, 2) := dk_16 80 (dk_at dksX9_row_5 4 rfl rfl)
theorem dX9_row_124 : decode cX9_row 124 = .ok (.iload_n 3, 1) := dk_29 (dk_at dksX9_row_5 6 rfl rfl)
theorem dX9_row_125 : decode cX9_row 125 = .ok (.iadd, 1) := dk_96 (dk_at dksX9_row_5 7 rfl rfl)
theorem dX9_row_126 : decode cX9_row 126 = .ok (.aload_n 0, 1) := dk_42 (dk_at dksX9_row_5 8 rfl rfl)
theorem dX9_row_127 : decode cX9_row 127 = .ok (.getfield 23, 3) := dk_180 0 23 (dk_at dksX9_row_5 9 rfl rfl)
theorem dX9_row_130 : decode cX9_row 130 = .ok (.iload_n 3, 1) := dk_29 (dk_at dksX9_row_5 12 rfl rfl)
theorem dX9_row_131 : decode cX9_row 131 = .ok (.iaload, 1) := dk_46 (dk_at dksX9_row_5 13 rfl rfl)
theorem dX9_row_132 : decode cX9_row 132 = .ok (.iastore, 1) := dk_79 (dk_at dksX9_row_5 14 rfl rfl)
theorem dX9_row_133 : decode cX9_row 133 = .ok (.iload_n 2, 1) := dk_28 (dk_at dksX9_row_5 15 rfl rfl)
theorem dX9_row_134 : decode cX9_row 134 = .ok (.iload 4, 2) := dk_21 4 (dk_at dksX9_row_5 16 rfl rfl)
theorem dX9_row_136 : decode cX9_row 136 = .ok (.ifCond .ne 8, 3) := dk_154 0 8 (dk_at dksX9_row_5 18 rfl rfl)
theorem dX9_row_139 : decode cX9_row 139 = .ok (.iload 5, 2) := dk_21 5 (dk_at dksX9_row_5 21 rfl rfl)
theorem dX9_row_141 : decode cX9_row 141 = .ok (.ifCond .eq 7, 3) := dk_153 0 7 (dk_at dksX9_row_6 0 rfl rfl)
theorem dX9_row_144 : decode cX9_row 144 = .ok (.iconst 1, 1) := dk_4 (dk_at dksX9_row_6 3 rfl rfl)
theorem dX9_row_145 : decode cX9_row 145 = .ok (.goto 4, 3) := dk_167 0 4 (dk_at dksX9_row_6 4 rfl rfl)
theorem dX9_row_148 : decode cX9_row 148 = .ok (.iconst 0, 1) := dk_3 (dk_at dksX9_row_6 7 rfl rfl)
theorem dX9_row_149 : decode cX9_row 149 = .ok (.iadd, 1) := dk_96 (dk_at dksX9_row_6 8 rfl rfl)
theorem dX9_row_150 : decode cX9_row 150 = .ok (.istore_n 2, 1) := dk_61 (dk_at dksX9_row_6 9 rfl rfl)
theorem dX9_row_151 : decode cX9_row 151 = .ok (.aload_n 0, 1) := dk_42 (dk_at dksX9_row_6 10 rfl rfl)
theorem dX9_row_152 : decode cX9_row 152 = .ok (.dup, 1) := dk_89 (dk_at dksX9_row_6 11 rfl rfl)
theorem dX9_row_153 : decode cX9_row 153 = .ok (.getfield 209, 3) := dk_180 0 209 (dk_at dksX9_row_6 12 rfl rfl)
theorem dX9_row_156 : decode cX9_row 156 = .ok (.iload 4, 2) := dk_21 4 (dk_at dksX9_row_6 15 rfl rfl)
theorem dX9_row_158 : decode cX9_row 158 = .ok (.ifCond .ne 8, 3) := dk_154 0 8 (dk_at dksX9_row_6 17 rfl rfl)
theorem dX9_row_161 : decode cX9_row 161 = .ok (.iload 5, 2) := dk_21 5 (dk_at dksX9_row_6 20 rfl rfl)
theorem dX9_row_163 : decode cX9_row 163 = .ok (.ifCond .eq 7, 3) := dk_153 0 7 (dk_at dksX9_row_7 0 rfl rfl)
theorem dX9_row_166 : decode cX9_row 166 = .ok (.iconst 0, 1) := dk_3 (dk_at dksX9_row_7 3 rfl rfl)
theorem dX9_row_167 : decode cX9_row 167 = .ok (.goto 4, 3) := dk_167 0 4 (dk_at dksX9_row_7 4 rfl rfl)
theorem dX9_row_170 : decode cX9_row 170 = .ok (.iconst 1, 1) := dk_4 (dk_at dksX9_row_7 7 rfl rfl)
theorem dX9_row_171 : decode cX9_row 171 = .ok (.iadd, 1) := dk_96 (dk_at dksX9_row_7 8 rfl rfl)
theorem dX9_row_172 : decode cX9_row 172 = .ok (.putfield 209, 3) := dk_181 0 209 (dk_at dksX9_row_7 9 rfl rfl)
theorem dX9_row_175 : decode cX9_row 175 = .ok (.iinc 3 1, 3) := dk_132 3 1 (dk_at dksX9_row_7 12 rfl rfl)
theorem dX9_row_178 : decode cX9_row 178 = .ok (.goto (-143), 3) := dk_167 255 113 (dk_at dksX9_row_7 15 rfl rfl)
theorem dX9_row_181 : decode cX9_row 181 = .ok (.aload_n 0, 1) := dk_42 (dk_at dksX9_row_7 18 rfl rfl)
theorem dX9_row_182 : decode cX9_row 182 = .ok (.iload_n 2, 1) := dk_28 (dk_at dksX9_row_7 19 rfl rfl)
theorem dX9_row_183 : decode cX9_row 183 = .ok (.invokevirtual 164, 3) := dk_182 0 164 (dk_at dksX9_row_7 20 rfl rfl)
theorem dX9_row_186 : decode cX9_row 186 = .ok (.ireturn, 1) := dk_172 (dk_at dksX9_row_7 23 rfl rfl)
abbrev cX9_spilt : ByteArray := prog_23_method_26_code
def yX9_spilt : MethodName := ⟨RX9, "spilt", "()I"⟩
def dkwX9_spilt_0 : List UInt8 := [42, 3, 181, 0, 150, 42, 180, 0, 209, 172]
abbrev dktX9_spilt_0 : List UInt8 := dkwX9_spilt_0 ++ []
theorem dksX9_spilt_0 : cX9_spilt.data.toList.drop 0 = dktX9_spilt_0 := by decide +kernel
theorem dX9_spilt_0 : decode cX9_spilt 0 = .ok (.aload_n 0, 1) := dk_42 (dk_at dksX9_spilt_0 0 rfl rfl)
theorem dX9_spilt_1 : decode cX9_spilt 1 = .ok (.iconst 0, 1) := dk_3 (dk_at dksX9_spilt_0 1 rfl rfl)
theorem dX9_spilt_2 : decode cX9_spilt 2 = .ok (.putfield 150, 3) := dk_181 0 150 (dk_at dksX9_spilt_0 2 rfl rfl)
theorem dX9_spilt_5 : decode cX9_spilt 5 = .ok (.aload_n 0, 1) := dk_42 (dk_at dksX9_spilt_0 5 rfl rfl)
theorem dX9_spilt_6 : decode cX9_spilt 6 = .ok (.getfield 209, 3) := dk_180 0 209 (dk_at dksX9_spilt_0 6 rfl rfl)
theorem dX9_spilt_9 : decode cX9_spilt 9 = .ok (.ireturn, 1) := dk_172 (dk_at dksX9_spilt_0 9 rfl rfl)
abbrev cX9_feed : ByteArray := prog_23_method_28_code
def yX9_feed : MethodName := ⟨RX9, "feed", "(IIIII)I"⟩
def dkwX9_feed_2 : List UInt8 := [182, 0, 212, 42, 180, 0, 206, 172]
abbrev dktX9_feed_2 : List UInt8 := dkwX9_feed_2 ++ []
def dkwX9_feed_1 : List UInt8 := [182, 0, 212, 42, 28, 182, 0, 212, 42, 29, 182, 0, 212, 42, 21, 4, 182, 0, 212, 42, 21, 5]
abbrev dktX9_feed_1 : List UInt8 := dkwX9_feed_1 ++ dktX9_feed_2
def dkwX9_feed_0 : List UInt8 := [42, 3, 181, 0, 150, 42, 180, 0, 206, 16, 20, 96, 17, 1, 144, 164, 0, 5, 2, 172, 42, 27]
abbrev dktX9_feed_0 : List UInt8 := dkwX9_feed_0 ++ dktX9_feed_1
theorem dksX9_feed_0 : cX9_feed.data.toList.drop 0 = dktX9_feed_0 := by decide +kernel
theorem dksX9_feed_1 : cX9_feed.data.toList.drop 22 = dktX9_feed_1 := dk_seg dksX9_feed_0 22 rfl rfl
theorem dksX9_feed_2 : cX9_feed.data.toList.drop 44 = dktX9_feed_2 := dk_seg dksX9_feed_1 22 rfl rfl
theorem dX9_feed_0 : decode cX9_feed 0 = .ok (.aload_n 0, 1) := dk_42 (dk_at dksX9_feed_0 0 rfl rfl)
theorem dX9_feed_1 : decode cX9_feed 1 = .ok (.iconst 0, 1) := dk_3 (dk_at dksX9_feed_0 1 rfl rfl)
theorem dX9_feed_2 : decode cX9_feed 2 = .ok (.putfield 150, 3) := dk_181 0 150 (dk_at dksX9_feed_0 2 rfl rfl)
theorem dX9_feed_5 : decode cX9_feed 5 = .ok (.aload_n 0, 1) := dk_42 (dk_at dksX9_feed_0 5 rfl rfl)
theorem dX9_feed_6 : decode cX9_feed 6 = .ok (.getfield 206, 3) := dk_180 0 206 (dk_at dksX9_feed_0 6 rfl rfl)
theorem dX9_feed_9 : decode cX9_feed 9 = .ok (.bipush 20, 2) := dk_16 20 (dk_at dksX9_feed_0 9 rfl rfl)
theorem dX9_feed_11 : decode cX9_feed 11 = .ok (.iadd, 1) := dk_96 (dk_at dksX9_feed_0 11 rfl rfl)
theorem dX9_feed_12 : decode cX9_feed 12 = .ok (.sipush 400, 3) := dk_17 1 144 (dk_at dksX9_feed_0 12 rfl rfl)
theorem dX9_feed_15 : decode cX9_feed 15 = .ok (.if_icmp .le 5, 3) := dk_164 0 5 (dk_at dksX9_feed_0 15 rfl rfl)
theorem dX9_feed_18 : decode cX9_feed 18 = .ok (.iconst (-1), 1) := dk_2 (dk_at dksX9_feed_0 18 rfl rfl)
theorem dX9_feed_19 : decode cX9_feed 19 = .ok (.ireturn, 1) := dk_172 (dk_at dksX9_feed_0 19 rfl rfl)
theorem dX9_feed_20 : decode cX9_feed 20 = .ok (.aload_n 0, 1) := dk_42 (dk_at dksX9_feed_0 20 rfl rfl)
theorem dX9_feed_21 : decode cX9_feed 21 = .ok (.iload_n 1, 1) := dk_27 (dk_at dksX9_feed_0 21 rfl rfl)
theorem dX9_feed_22 : decode cX9_feed 22 = .ok (.invokevirtual 212, 3) := dk_182 0 212 (dk_at dksX9_feed_1 0 rfl rfl)
theorem dX9_feed_25 : decode cX9_feed 25 = .ok (.aload_n 0, 1) := dk_42 (dk_at dksX9_feed_1 3 rfl rfl)
theorem dX9_feed_26 : decode cX9_feed 26 = .ok (.iload_n 2, 1) := dk_28 (dk_at dksX9_feed_1 4 rfl rfl)
theorem dX9_feed_27 : decode cX9_feed 27 = .ok (.invokevirtual 212, 3) := dk_182 0 212 (dk_at dksX9_feed_1 5 rfl rfl)
theorem dX9_feed_30 : decode cX9_feed 30 = .ok (.aload_n 0, 1) := dk_42 (dk_at dksX9_feed_1 8 rfl rfl)
theorem dX9_feed_31 : decode cX9_feed 31 = .ok (.iload_n 3, 1) := dk_29 (dk_at dksX9_feed_1 9 rfl rfl)
theorem dX9_feed_32 : decode cX9_feed 32 = .ok (.invokevirtual 212, 3) := dk_182 0 212 (dk_at dksX9_feed_1 10 rfl rfl)
theorem dX9_feed_35 : decode cX9_feed 35 = .ok (.aload_n 0, 1) := dk_42 (dk_at dksX9_feed_1 13 rfl rfl)
theorem dX9_feed_36 : decode cX9_feed 36 = .ok (.iload 4, 2) := dk_21 4 (dk_at dksX9_feed_1 14 rfl rfl)
theorem dX9_feed_38 : decode cX9_feed 38 = .ok (.invokevirtual 212, 3) := dk_182 0 212 (dk_at dksX9_feed_1 16 rfl rfl)
theorem dX9_feed_41 : decode cX9_feed 41 = .ok (.aload_n 0, 1) := dk_42 (dk_at dksX9_feed_1 19 rfl rfl)
theorem dX9_feed_42 : decode cX9_feed 42 = .ok (.iload 5, 2) := dk_21 5 (dk_at dksX9_feed_1 20 rfl rfl)
theorem dX9_feed_44 : decode cX9_feed 44 = .ok (.invokevirtual 212, 3) := dk_182 0 212 (dk_at dksX9_feed_2 0 rfl rfl)
theorem dX9_feed_47 : decode cX9_feed 47 = .ok (.aload_n 0, 1) := dk_42 (dk_at dksX9_feed_2 3 rfl rfl)
theorem dX9_feed_48 : decode cX9_feed 48 = .ok (.getfield 206, 3) := dk_180 0 206 (dk_at dksX9_feed_2 4 rfl rfl)
theorem dX9_feed_51 : decode cX9_feed 51 = .ok (.ireturn, 1) := dk_172 (dk_at dksX9_feed_2 7 rfl rfl)
abbrev cX9_four : ByteArray := prog_23_method_27_code
def yX9_four : MethodName := ⟨RX9, "four", "(I)V"⟩
def dkwX9_four_1 : List UInt8 := [89, 180, 0, 206, 4, 96, 181, 0, 206, 132, 2, 248, 167, 255, 223, 177]
abbrev dktX9_four_1 : List UInt8 := dkwX9_four_1 ++ []
def dkwX9_four_0 : List UInt8 := [16, 24, 61, 28, 155, 0, 35, 42, 180, 0, 23, 42, 180, 0, 206, 27, 28, 122, 17, 0, 255, 126, 79, 42]
abbrev dktX9_four_0 : List UInt8 := dkwX9_four_0 ++ dktX9_four_1
theorem dksX9_four_0 : cX9_four.data.toList.drop 0 = dktX9_four_0 := by decide +kernel
theorem dksX9_four_1 : cX9_four.data.toList.drop 24 = dktX9_four_1 := dk_seg dksX9_four_0 24 rfl rfl
theorem dX9_four_0 : decode cX9_four 0 = .ok (.bipush 24, 2) := dk_16 24 (dk_at dksX9_four_0 0 rfl rfl)
theorem dX9_four_2 : decode cX9_four 2 = .ok (.istore_n 2, 1) := dk_61 (dk_at dksX9_four_0 2 rfl rfl)
theorem dX9_four_3 : decode cX9_four 3 = .ok (.iload_n 2, 1) := dk_28 (dk_at dksX9_four_0 3 rfl rfl)
theorem dX9_four_4 : decode cX9_four 4 = .ok (.ifCond .lt 35, 3) := dk_155 0 35 (dk_at dksX9_four_0 4 rfl rfl)
theorem dX9_four_7 : decode cX9_four 7 = .ok (.aload_n 0, 1) := dk_42 (dk_at dksX9_four_0 7 rfl rfl)
theorem dX9_four_8 : decode cX9_four 8 = .ok (.getfield 23, 3) := dk_180 0 23 (dk_at dksX9_four_0 8 rfl rfl)
theorem dX9_four_11 : decode cX9_four 11 = .ok (.aload_n 0, 1) := dk_42 (dk_at dksX9_four_0 11 rfl rfl)
theorem dX9_four_12 : decode cX9_four 12 = .ok (.getfield 206, 3) := dk_180 0 206 (dk_at dksX9_four_0 12 rfl rfl)
theorem dX9_four_15 : decode cX9_four 15 = .ok (.iload_n 1, 1) := dk_27 (dk_at dksX9_four_0 15 rfl rfl)
theorem dX9_four_16 : decode cX9_four 16 = .ok (.iload_n 2, 1) := dk_28 (dk_at dksX9_four_0 16 rfl rfl)
theorem dX9_four_17 : decode cX9_four 17 = .ok (.ishr, 1) := dk_122 (dk_at dksX9_four_0 17 rfl rfl)
theorem dX9_four_18 : decode cX9_four 18 = .ok (.sipush 255, 3) := dk_17 0 255 (dk_at dksX9_four_0 18 rfl rfl)
theorem dX9_four_21 : decode cX9_four 21 = .ok (.iand, 1) := dk_126 (dk_at dksX9_four_0 21 rfl rfl)
theorem dX9_four_22 : decode cX9_four 22 = .ok (.iastore, 1) := dk_79 (dk_at dksX9_four_0 22 rfl rfl)
theorem dX9_four_23 : decode cX9_four 23 = .ok (.aload_n 0, 1) := dk_42 (dk_at dksX9_four_0 23 rfl rfl)
theorem dX9_four_24 : decode cX9_four 24 = .ok (.dup, 1) := dk_89 (dk_at dksX9_four_1 0 rfl rfl)
theorem dX9_four_25 : decode cX9_four 25 = .ok (.getfield 206, 3) := dk_180 0 206 (dk_at dksX9_four_1 1 rfl rfl)
theorem dX9_four_28 : decode cX9_four 28 = .ok (.iconst 1, 1) := dk_4 (dk_at dksX9_four_1 4 rfl rfl)
theorem dX9_four_29 : decode cX9_four 29 = .ok (.iadd, 1) := dk_96 (dk_at dksX9_four_1 5 rfl rfl)
theorem dX9_four_30 : decode cX9_four 30 = .ok (.putfield 206, 3) := dk_181 0 206 (dk_at dksX9_four_1 6 rfl rfl)
theorem dX9_four_33 : decode cX9_four 33 = .ok (.iinc 2 (-8), 3) := dk_132 2 248 (dk_at dksX9_four_1 9 rfl rfl)
theorem dX9_four_36 : decode cX9_four 36 = .ok (.goto (-33), 3) := dk_167 255 223 (dk_at dksX9_four_1 12 rfl rfl)
theorem dX9_four_39 : decode cX9_four 39 = .ok (.return_, 1) := dk_177 (dk_at dksX9_four_1 15 rfl rfl)
abbrev cX9_end : ByteArray := prog_23_method_29_code
def yX9_end : MethodName := ⟨RX9, "end", "(I)I"⟩
def dkwX9_end_1 : List UInt8 := [27, 172]
abbrev dktX9_end_1 : List UInt8 := dkwX9_end_1 ++ []
def dkwX9_end_0 : List UInt8 := [42, 3, 181, 0, 150, 27, 155, 0, 11, 27, 42, 180, 0, 206, 164, 0, 5, 2, 172, 42, 27, 181, 0, 206]
abbrev dktX9_end_0 : List UInt8 := dkwX9_end_0 ++ dktX9_end_1
theorem dksX9_end_0 : cX9_end.data.toList.drop 0 = dktX9_end_0 := by decide +kernel
theorem dksX9_end_1 : cX9_end.data.toList.drop 24 = dktX9_end_1 := dk_seg dksX9_end_0 24 rfl rfl
theorem dX9_end_0 : decode cX9_end 0 = .ok (.aload_n 0, 1) := dk_42 (dk_at dksX9_end_0 0 rfl rfl)
theorem dX9_end_1 : decode cX9_end 1 = .ok (.iconst 0, 1) := dk_3 (dk_at dksX9_end_0 1 rfl rfl)
theorem dX9_end_2 : decode cX9_end 2 = .ok (.putfield 150, 3) := dk_181 0 150 (dk_at dksX9_end_0 2 rfl rfl)
theorem dX9_end_5 : decode cX9_end 5 = .ok (.iload_n 1, 1) := dk_27 (dk_at dksX9_end_0 5 rfl rfl)
theorem dX9_end_6 : decode cX9_end 6 = .ok (.ifCond .lt 11, 3) := dk_155 0 11 (dk_at dksX9_end_0 6 rfl rfl)
theorem dX9_end_9 : decode cX9_end 9 = .ok (.iload_n 1, 1) := dk_27 (dk_at dksX9_end_0 9 rfl rfl)
theorem dX9_end_10 : decode cX9_end 10 = .ok (.aload_n 0, 1) := dk_42 (dk_at dksX9_end_0 10 rfl rfl)
theorem dX9_end_11 : decode cX9_end 11 = .ok (.getfield 206, 3) := dk_180 0 206 (dk_at dksX9_end_0 11 rfl rfl)
theorem dX9_end_14 : decode cX9_end 14 = .ok (.if_icmp .le 5, 3) := dk_164 0 5 (dk_at dksX9_end_0 14 rfl rfl)
theorem dX9_end_17 : decode cX9_end 17 = .ok (.iconst (-1), 1) := dk_2 (dk_at dksX9_end_0 17 rfl rfl)
theorem dX9_end_18 : decode cX9_end 18 = .ok (.ireturn, 1) := dk_172 (dk_at dksX9_end_0 18 rfl rfl)
theorem dX9_end_19 : decode cX9_end 19 = .ok (.aload_n 0, 1) := dk_42 (dk_at dksX9_end_0 19 rfl rfl)
theorem dX9_end_20 : decode cX9_end 20 = .ok (.iload_n 1, 1) := dk_27 (dk_at dksX9_end_0 20 rfl rfl)
theorem dX9_end_21 : decode cX9_end 21 = .ok (.putfield 206, 3) := dk_181 0 206 (dk_at dksX9_end_0 21 rfl rfl)
theorem dX9_end_24 : decode cX9_end 24 = .ok (.iload_n 1, 1) := dk_27 (dk_at dksX9_end_1 0 rfl rfl)
theorem dX9_end_25 : decode cX9_end 25 = .ok (.ireturn, 1) := dk_172 (dk_at dksX9_end_1 1 rfl rfl)
abbrev cX9_fault : ByteArray := prog_23_method_38_code
def yX9_fault : MethodName := ⟨RX9, "fault", "()I"⟩
def dkwX9_fault_0 : List UInt8 := [42, 3, 181, 0, 150, 42, 180, 0, 26, 172]
abbrev dktX9_fault_0 : List UInt8 := dkwX9_fault_0 ++ []
theorem dksX9_fault_0 : cX9_fault.data.toList.drop 0 = dktX9_fault_0 := by decide +kernel
theorem dX9_fault_0 : decode cX9_fault 0 = .ok (.aload_n 0, 1) := dk_42 (dk_at dksX9_fault_0 0 rfl rfl)
theorem dX9_fault_1 : decode cX9_fault 1 = .ok (.iconst 0, 1) := dk_3 (dk_at dksX9_fault_0 1 rfl rfl)
theorem dX9_fault_2 : decode cX9_fault 2 = .ok (.putfield 150, 3) := dk_181 0 150 (dk_at dksX9_fault_0 2 rfl rfl)
theorem dX9_fault_5 : decode cX9_fault 5 = .ok (.aload_n 0, 1) := dk_42 (dk_at dksX9_fault_0 5 rfl rfl)
theorem dX9_fault_6 : decode cX9_fault 6 = .ok (.getfield 26, 3) := dk_180 0 26 (dk_at dksX9_fault_0 6 rfl rfl)
theorem dX9_fault_9 : decode cX9_fault 9 = .ok (.ireturn, 1) := dk_172 (dk_at dksX9_fault_0 9 rfl rfl)
abbrev cX9_law : ByteArray := prog_23_method_54_code
def yX9_law : MethodName := ⟨RX9, "law", "()I"⟩
def dkwX9_law_11 : List UInt8 := [182, 0, 164, 172]
abbrev dktX9_law_11 : List UInt8 := dkwX9_law_11 ++ []
def dkwX9_law_10 : List UInt8 := [167, 255, 205, 42, 180, 0, 13, 5, 92, 46, 4, 96, 79, 42, 42, 180, 0, 13, 5, 46, 4, 100]
abbrev dktX9_law_10 : List UInt8 := dkwX9_law_10 ++ dktX9_law_11
def dkwX9_law_9 : List UInt8 := [180, 0, 13, 27, 16, 98, 96, 5, 28, 104, 96, 4, 96, 42, 180, 0, 36, 28, 46, 79, 132, 2, 1]
abbrev dktX9_law_9 : List UInt8 := dkwX9_law_9 ++ dktX9_law_10
def dkwX9_law_8 : List UInt8 := [162, 0, 49, 42, 180, 0, 13, 27, 16, 98, 96, 5, 28, 104, 96, 42, 180, 0, 33, 28, 46, 79, 42]
abbrev dktX9_law_8 : List UInt8 := dkwX9_law_8 ++ dktX9_law_9
def dkwX9_law_7 : List UInt8 := [28, 96, 42, 180, 0, 30, 28, 46, 79, 132, 2, 1, 167, 255, 226, 3, 61, 28, 42, 180, 1, 2]
abbrev dktX9_law_7 : List UInt8 := dkwX9_law_7 ++ dktX9_law_8
def dkwX9_law_6 : List UInt8 := [180, 1, 77, 79, 3, 61, 28, 16, 8, 42, 180, 1, 77, 104, 162, 0, 25, 42, 180, 0, 13, 27, 5, 96]
abbrev dktX9_law_6 : List UInt8 := dkwX9_law_6 ++ dktX9_law_7
def dkwX9_law_5 : List UInt8 := [17, 1, 24, 17, 3, 132, 42, 180, 0, 13, 5, 46, 104, 96, 60, 42, 180, 0, 13, 27, 4, 96, 42]
abbrev dktX9_law_5 : List UInt8 := dkwX9_law_5 ++ dktX9_law_6
def dkwX9_law_4 : List UInt8 := [182, 0, 254, 42, 3, 181, 0, 206, 42, 180, 0, 219, 153, 0, 10, 42, 16, 250, 182, 0, 164, 172]
abbrev dktX9_law_4 : List UInt8 := dkwX9_law_4 ++ dktX9_law_5
def dkwX9_law_3 : List UInt8 := [182, 1, 88, 167, 255, 232, 42, 180, 0, 219, 154, 0, 15, 42, 180, 0, 239, 153, 0, 8, 42, 3]
abbrev dktX9_law_3 : List UInt8 := dkwX9_law_3 ++ dktX9_law_4
def dkwX9_law_2 : List UInt8 := [182, 1, 88, 42, 180, 0, 219, 154, 0, 23, 42, 16, 59, 182, 1, 32, 153, 0, 14, 42, 182, 0, 223, 42]
abbrev dktX9_law_2 : List UInt8 := dkwX9_law_2 ++ dktX9_law_3
def dkwX9_law_1 : List UInt8 := [182, 0, 164, 172, 42, 182, 1, 85, 42, 3, 181, 1, 77, 42, 3, 181, 1, 2, 42, 3, 181, 1, 29, 42]
abbrev dktX9_law_1 : List UInt8 := dkwX9_law_1 ++ dktX9_law_2
def dkwX9_law_0 : List UInt8 := [42, 3, 181, 0, 150, 42, 180, 0, 13, 5, 46, 16, 6, 160, 0, 15, 42, 3, 181, 0, 206, 42, 16, 251]
abbrev dktX9_law_0 : List UInt8 := dkwX9_law_0 ++ dktX9_law_1
theorem dksX9_law_0 : cX9_law.data.toList.drop 0 = dktX9_law_0 := by decide +kernel
theorem dksX9_law_1 : cX9_law.data.toList.drop 24 = dktX9_law_1 := dk_seg dksX9_law_0 24 rfl rfl
theorem dksX9_law_2 : cX9_law.data.toList.drop 48 = dktX9_law_2 := dk_seg dksX9_law_1 24 rfl rfl
theorem dksX9_law_3 : cX9_law.data.toList.drop 72 = dktX9_law_3 := dk_seg dksX9_law_2 24 rfl rfl
theorem dksX9_law_4 : cX9_law.data.toList.drop 94 = dktX9_law_4 := dk_seg dksX9_law_3 22 rfl rfl
theorem dksX9_law_5 : cX9_law.data.toList.drop 116 = dktX9_law_5 := dk_seg dksX9_law_4 22 rfl rfl
theorem dksX9_law_6 : cX9_law.data.toList.drop 139 = dktX9_law_6 := dk_seg dksX9_law_5 23 rfl rfl
theorem dksX9_law_7 : cX9_law.data.toList.drop 163 = dktX9_law_7 := dk_seg dksX9_law_6 24 rfl rfl
theorem dksX9_law_8 : cX9_law.data.toList.drop 185 = dktX9_law_8 := dk_seg dksX9_law_7 22 rfl rfl
theorem dksX9_law_9 : cX9_law.data.toList.drop 208 = dktX9_law_9 := dk_seg dksX9_law_8 23 rfl rfl
theorem dksX9_law_10 : cX9_law.data.toList.drop 231 = dktX9_law_10 := dk_seg dksX9_law_9 23 rfl rfl
theorem dksX9_law_11 : cX9_law.data.toList.drop 253 = dktX9_law_11 := dk_seg dksX9_law_10 22 rfl rfl
theorem dX9_law_0 : decode cX9_law 0 = .ok (.aload_n 0, 1) := dk_42 (dk_at dksX9_law_0 0 rfl rfl)
theorem dX9_law_1 : decode cX9_law 1 = .ok (.iconst 0, 1) := dk_3 (dk_at dksX9_law_0 1 rfl rfl)
theorem dX9_law_2 : decode cX9_law 2 = .ok (.putfield 150, 3) := dk_181 0 150 (dk_at dksX9_law_0 2 rfl rfl)
theorem dX9_law_5 : decode cX9_law 5 = .ok (.aload_n 0, 1) := dk_42 (dk_at dksX9_law_0 5 rfl rfl)
theorem dX9_law_6 : decode cX9_law 6 = .ok (.getfield 13, 3) := dk_180 0 13 (dk_at dksX9_law_0 6 rfl rfl)
theorem dX9_law_9 : decode cX9_law 9 = .ok (.iconst 2, 1) := dk_5 (dk_at dksX9_law_0 9 rfl rfl)
theorem dX9_law_10 : decode cX9_law 10 = .ok (.iaload, 1) := dk_46 (dk_at dksX9_law_0 10 rfl rfl)
theorem dX9_law_11 : decode cX9_law 11 = .ok (.bipush 6, 2) := dk_16 6 (dk_at dksX9_law_0 11 rfl rfl)
theorem dX9_law_13 : decode cX9_law 13 = .ok (.if_icmp .ne 15, 3) := dk_160 0 15 (dk_at dksX9_law_0 13 rfl rfl)
theorem dX9_law_16 : decode cX9_law 16 = .ok (.aload_n 0, 1) := dk_42 (dk_at dksX9_law_0 16 rfl rfl)
theorem dX9_law_17 : decode cX9_law 17 = .ok (.iconst 0, 1) := dk_3 (dk_at dksX9_law_0 17 rfl rfl)
theorem dX9_law_18 : decode cX9_law 18 = .ok (.putfield 206, 3) := dk_181 0 206 (dk_at dksX9_law_0 18 rfl rfl)
theorem dX9_law_21 : decode cX9_law 21 = .ok (.aload_n 0, 1) := dk_42 (dk_at dksX9_law_0 21 rfl rfl)
theorem dX9_law_22 : decode cX9_law 22 = .ok (.bipush (-5), 2) := dk_16 251 (dk_at dksX9_law_0 22 rfl rfl)
theorem dX9_law_24 : decode cX9_law 24 = .ok (.invokevirtual 164, 3) := dk_182 0 164 (dk_at dksX9_law_1 0 rfl rfl)
theorem dX9_law_27 : decode cX9_law 27 = .ok (.ireturn, 1) := dk_172 (dk_at dksX9_law_1 3 rfl rfl)
theorem dX9_law_28 : decode cX9_law 28 = .ok (.aload_n 0, 1) := dk_42 (dk_at dksX9_law_1 4 rfl rfl)
theorem dX9_law_29 : decode cX9_law 29 = .ok (.invokevirtual 341, 3) := dk_182 1 85 (dk_at dksX9_law_1 5 rfl rfl)
theorem dX9_law_32 : decode cX9_law 32 = .ok (.aload_n 0, 1) := dk_42 (dk_at dksX9_law_1 8 rfl rfl)
theorem dX9_law_33 : decode cX9_law 33 = .ok (.iconst 0, 1) := dk_3 (dk_at dksX9_law_1 9 rfl rfl)
theorem dX9_law_34 : decode cX9_law 34 = .ok (.putfield 333, 3) := dk_181 1 77 (dk_at dksX9_law_1 10 rfl rfl)
theorem dX9_law_37 : decode cX9_law 37 = .ok (.aload_n 0, 1) := dk_42 (dk_at dksX9_law_1 13 rfl rfl)
theorem dX9_law_38 : decode cX9_law 38 = .ok (.iconst 0, 1) := dk_3 (dk_at dksX9_law_1 14 rfl rfl)
theorem dX9_law_39 : decode cX9_law 39 = .ok (.putfield 258, 3) := dk_181 1 2 (dk_at dksX9_law_1 15 rfl rfl)
theorem dX9_law_42 : decode cX9_law 42 = .ok (.aload_n 0, 1) := dk_42 (dk_at dksX9_law_1 18 rfl rfl)
theorem dX9_law_43 : decode cX9_law 43 = .ok (.iconst 0, 1) := dk_3 (dk_at dksX9_law_1 19 rfl rfl)
theorem dX9_law_44 : decode cX9_law 44 = .ok (.putfield 285, 3) := dk_181 1 29 (dk_at dksX9_law_1 20 rfl rfl)
theorem dX9_law_47 : decode cX9_law 47 = .ok (.aload_n 0, 1) := dk_42 (dk_at dksX9_law_1 23 rfl rfl)
theorem dX9_law_48 : decode cX9_law 48 = .ok (.invokevirtual 344, 3) := dk_182 1 88 (dk_at dksX9_law_2 0 rfl rfl)
theorem dX9_law_51 : decode cX9_law 51 = .ok (.aload_n 0, 1) := dk_42 (dk_at dksX9_law_2 3 rfl rfl)
theorem dX9_law_52 : decode cX9_law 52 = .ok (.getfield 219, 3) := dk_180 0 219 (dk_at dksX9_law_2 4 rfl rfl)
theorem dX9_law_55 : decode cX9_law 55 = .ok (.ifCond .ne 23, 3) := dk_154 0 23 (dk_at dksX9_law_2 7 rfl rfl)
theorem dX9_law_58 : decode cX9_law 58 = .ok (.aload_n 0, 1) := dk_42 (dk_at dksX9_law_2 10 rfl rfl)
theorem dX9_law_59 : decode cX9_law 59 = .ok (.bipush 59, 2) := dk_16 59 (dk_at dksX9_law_2 11 rfl rfl)
theorem dX9_law_61 : decode cX9_law 61 = .ok (.invokevirtual 288, 3) := dk_182 1 32 (dk_at dksX9_law_2 13 rfl rfl)
theorem dX9_law_64 : decode cX9_law 64 = .ok (.ifCond .eq 14, 3) := dk_153 0 14 (dk_at dksX9_law_2 16 rfl rfl)
theorem dX9_law_67 : decode cX9_law 67 = .ok (.aload_n 0, 1) := dk_42 (dk_at dksX9_law_2 19 rfl rfl)
theorem dX9_law_68 : decode cX9_law 68 = .ok (.invokevirtual 223, 3) := dk_182 0 223 (dk_at dksX9_law_2 20 rfl rfl)
theorem dX9_law_71 : decode cX9_law 71 = .ok (.aload_n 0, 1) := dk_42 (dk_at dksX9_law_2 23 rfl rfl)
theorem dX9_law_72 : decode cX9_law 72 = .ok (.invokevirtual 344, 3) := dk_182 1 88 (dk_at dksX9_law_3 0 rfl rfl)
theorem dX9_law_75 : decode cX9_law 75 = .ok (.goto (-24), 3) := dk_167 255 232 (dk_at dksX9_law_3 3 rfl rfl)
theorem dX9_law_78 : decode cX9_law 78 = .ok (.aload_n 0, 1) := dk_42 (dk_at dksX9_law_3 6 rfl rfl)
theorem dX9_law_79 : decode cX9_law 79 = .ok (.getfield 219, 3) := dk_180 0 219 (dk_at dksX9_law_3 7 rfl rfl)
theorem dX9_law_82 : decode cX9_law 82 = .ok (.ifCond .ne 15, 3) := dk_154 0 15 (dk_at dksX9_law_3 10 rfl rfl)
theorem dX9_law_85 : decode cX9_law 85 = .ok (.aload_n 0, 1) := dk_42 (dk_at dksX9_law_3 13 rfl rfl)
theorem dX9_law_86 : decode cX9_law 86 = .ok (.getfield 239, 3) := dk_180 0 239 (dk_at dksX9_law_3 14 rfl rfl)
theorem dX9_law_89 : decode cX9_law 89 = .ok (.ifCond .eq 8, 3) := dk_153 0 8 (dk_at dksX9_law_3 17 rfl rfl)
theorem dX9_law_92 : decode cX9_law 92 = .ok (.aload_n 0, 1) := dk_42 (dk_at dksX9_law_3 20 rfl rfl)
theorem dX9_law_93 : decode cX9_law 93 = .ok (.iconst 0, 1) := dk_3 (dk_at dksX9_law_3 21 rfl rfl)
theorem dX9_law_94 : decode cX9_law 94 = .ok (.invokevirtual 254, 3) := dk_182 0 254 (dk_at dksX9_law_4 0 rfl rfl)
theorem dX9_law_97 : decode cX9_law 97 = .ok (.aload_n 0, 1) := dk_42 (dk_at dksX9_law_4 3 rfl rfl)
theorem dX9_law_98 : decode cX9_law 98 = .ok (.iconst 0, 1) := dk_3 (dk_at dksX9_law_4 4 rfl rfl)
theorem dX9_law_99 : decode cX9_law 99 = .ok (.putfield 206, 3) := dk_181 0 206 (dk_at dksX9_law_4 5 rfl rfl)
theorem dX9_law_102 : decode cX9_law 102 = .ok (.aload_n 0, 1) := dk_42 (dk_at dksX9_law_4 8 rfl rfl)
theorem dX9_law_103 : decode cX9_law 103 = .ok (.getfield 219, 3) := dk_180 0 219 (dk_at dksX9_law_4 9 rfl rfl)
theorem dX9_law_106 : decode cX9_law 106 = .ok (.ifCond .eq 10, 3) := dk_153 0 10 (dk_at dksX9_law_4 12 rfl rfl)
theorem dX9_law_109 : decode cX9_law 109 = .ok (.aload_n 0, 1) := dk_42 (dk_at dksX9_law_4 15 rfl rfl)
theorem dX9_law_110 : decode cX9_law 110 = .ok (.bipush (-6), 2) := dk_16 250 (dk_at dksX9_law_4 16 rfl rfl)
theorem dX9_law_112 : decode cX9_law 112 = .ok (.invokevirtual 164, 3) := dk_182 0 164 (dk_at dksX9_law_4 18 rfl rfl)
theorem dX9_law_115 : decode cX9_law 115 = .ok (.ireturn, 1) := dk_172 (dk_at dksX9_law_4 21 rfl rfl)
theorem dX9_law_116 : decode cX9_law 116 = .ok (.sipush 280, 3) := dk_17 1 24 (dk_at dksX9_law_5 0 rfl rfl)
theorem dX9_law_119 : decode cX9_law 119 = .ok (.sipush 900, 3) := dk_17 3 132 (dk_at dksX9_law_5 3 rfl rfl)
theorem dX9_law_122 : decode cX9_law 122 = .ok (.aload_n 0, 1) := dk_42 (dk_at dksX9_law_5 6 rfl rfl)
theorem dX9_law_123 : decode cX9_law 123 = .ok (.getfield 13, 3) := dk_180 0 13 (dk_at dksX9_law_5 7 rfl rfl)
theorem dX9_law_126 : decode cX9_law 126 = .ok (.iconst 2, 1) := dk_5 (dk_at dksX9_law_5 10 rfl rfl)
theorem dX9_law_127 : decode cX9_law 127 = .ok (.iaload, 1) := dk_46 (dk_at dksX9_law_5 11 rfl rfl)
theorem dX9_law_128 : decode cX9_law 128 = .ok (.imul, 1) := dk_104 (dk_at dksX9_law_5 12 rfl rfl)
theorem dX9_law_129 : decode cX9_law 129 = .ok (.iadd, 1) := dk_96 (dk_at dksX9_law_5 13 rfl rfl)
theorem dX9_law_130 : decode cX9_law 130 = .ok (.istore_n 1, 1) := dk_60 (dk_at dksX9_law_5 14 rfl rfl)
theorem dX9_law_131 : decode cX9_law 131 = .ok (.aload_n 0, 1) := dk_42 (dk_at dksX9_law_5 15 rfl rfl)
theorem dX9_law_132 : decode cX9_law 132 = .ok (.getfield 13, 3) := dk_180 0 13 (dk_at dksX9_law_5 16 rfl rfl)
theorem dX9_law_135 : decode cX9_law 135 = .ok (.iload_n 1, 1) := dk_27 (dk_at dksX9_law_5 19 rfl rfl)
theorem dX9_law_136 : decode cX9_law 136 = .ok (.iconst 1, 1) := dk_4 (dk_at dksX9_law_5 20 rfl rfl)
theorem dX9_law_137 : decode cX9_law 137 = .ok (.iadd, 1) := dk_96 (dk_at dksX9_law_5 21 rfl rfl)
theorem dX9_law_138 : decode cX9_law 138 = .ok (.aload_n 0, 1) := dk_42 (dk_at dksX9_law_5 22 rfl rfl)
theorem dX9_law_139 : decode cX9_law 139 = .ok (.getfield 333, 3) := dk_180 1 77 (dk_at dksX9_law_6 0 rfl rfl)
theorem dX9_law_142 : decode cX9_law 142 = .ok (.iastore, 1) := dk_79 (dk_at dksX9_law_6 3 rfl rfl)
theorem dX9_law_143 : decode cX9_law 143 = .ok (.iconst 0, 1) := dk_3 (dk_at dksX9_law_6 4 rfl rfl)
theorem dX9_law_144 : decode cX9_law 144 = .ok (.istore_n 2, 1) := dk_61 (dk_at dksX9_law_6 5 rfl rfl)
theorem dX9_law_145 : decode cX9_law 145 = .ok (.iload_n 2, 1) := dk_28 (dk_at dksX9_law_6 6 rfl rfl)
theorem dX9_law_146 : decode cX9_law 146 = .ok (.bipush 8, 2) := dk_16 8 (dk_at dksX9_law_6 7 rfl rfl)
theorem dX9_law_148 : decode cX9_law 148 = .ok (.aload_n 0, 1) := dk_42 (dk_at dksX9_law_6 9 rfl rfl)
theorem dX9_law_149 : decode cX9_law 149 = .ok (.getfield 333, 3) := dk_180 1 77 (dk_at dksX9_law_6 10 rfl rfl)
theorem dX9_law_152 : decode cX9_law 152 = .ok (.imul, 1) := dk_104 (dk_at dksX9_law_6 13 rfl rfl)
theorem dX9_law_153 : decode cX9_law 153 = .ok (.if_icmp .ge 25, 3) := dk_162 0 25 (dk_at dksX9_law_6 14 rfl rfl)
theorem dX9_law_156 : decode cX9_law 156 = .ok (.aload_n 0, 1) := dk_42 (dk_at dksX9_law_6 17 rfl rfl)
theorem dX9_law_157 : decode cX9_law 157 = .ok (.getfield 13, 3) := dk_180 0 13 (dk_at dksX9_law_6 18 rfl rfl)
theorem dX9_law_160 : decode cX9_law 160 = .ok (.iload_n 1, 1) := dk_27 (dk_at dksX9_law_6 21 rfl rfl)
theorem dX9_law_161 : decode cX9_law 161 = .ok (.iconst 2, 1) := dk_5 (dk_at dksX9_law_6 22 rfl rfl)
theorem dX9_law_162 : decode cX9_law 162 = .ok (.iadd, 1) := dk_96 (dk_at dksX9_law_6 23 rfl rfl)
theorem dX9_law_163 : decode cX9_law 163 = .ok (.iload_n 2, 1) := dk_28 (dk_at dksX9_law_7 0 rfl rfl)
theorem dX9_law_164 : decode cX9_law 164 = .ok (.iadd, 1) := dk_96 (dk_at dksX9_law_7 1 rfl rfl)
theorem dX9_law_165 : decode cX9_law 165 = .ok (.aload_n 0, 1) := dk_42 (dk_at dksX9_law_7 2 rfl rfl)
theorem dX9_law_166 : decode cX9_law 166 = .ok (.getfield 30, 3) := dk_180 0 30 (dk_at dksX9_law_7 3 rfl rfl)
theorem dX9_law_169 : decode cX9_law 169 = .ok (.iload_n 2, 1) := dk_28 (dk_at dksX9_law_7 6 rfl rfl)
theorem dX9_law_170 : decode cX9_law 170 = .ok (.iaload, 1) := dk_46 (dk_at dksX9_law_7 7 rfl rfl)
theorem dX9_law_171 : decode cX9_law 171 = .ok (.iastore, 1) := dk_79 (dk_at dksX9_law_7 8 rfl rfl)
theorem dX9_law_172 : decode cX9_law 172 = .ok (.iinc 2 1, 3) := dk_132 2 1 (dk_at dksX9_law_7 9 rfl rfl)
theorem dX9_law_175 : decode cX9_law 175 = .ok (.goto (-30), 3) := dk_167 255 226 (dk_at dksX9_law_7 12 rfl rfl)
theorem dX9_law_178 : decode cX9_law 178 = .ok (.iconst 0, 1) := dk_3 (dk_at dksX9_law_7 15 rfl rfl)
theorem dX9_law_179 : decode cX9_law 179 = .ok (.istore_n 2, 1) := dk_61 (dk_at dksX9_law_7 16 rfl rfl)
theorem dX9_law_180 : decode cX9_law 180 = .ok (.iload_n 2, 1) := dk_28 (dk_at dksX9_law_7 17 rfl rfl)
theorem dX9_law_181 : decode cX9_law 181 = .ok (.aload_n 0, 1) := dk_42 (dk_at dksX9_law_7 18 rfl rfl)
theorem dX9_law_182 : decode cX9_law 182 = .ok (.getfield 258, 3) := dk_180 1 2 (dk_at dksX9_law_7 19 rfl rfl)
theorem dX9_law_185 : decode cX9_law 185 = .ok (.if_icmp .ge 49, 3) := dk_162 0 49 (dk_at dksX9_law_8 0 rfl rfl)
theorem dX9_law_188 : decode cX9_law 188 = .ok (.aload_n 0, 1) := dk_42 (dk_at dksX9_law_8 3 rfl rfl)
theorem dX9_law_189 : decode cX9_law 189 = .ok (.getfield 13, 3) := dk_180 0 13 (dk_at dksX9_law_8 4 rfl rfl)
theorem dX9_law_192 : decode cX9_law 192 = .ok (.iload_n 1, 1) := dk_27 (dk_at dksX9_law_8 7 rfl rfl)
theorem dX9_law_193 : decode cX9_law 193 = .ok (.bipush 98, 2) := dk_16 98 (dk_at dksX9_law_8 8 rfl rfl)
theorem dX9_law_195 : decode cX9_law 195 = .ok (.iadd, 1) := dk_96 (dk_at dksX9_law_8 10 rfl rfl)
theorem dX9_law_196 : decode cX9_law 196 = .ok (.iconst 2, 1) := dk_5 (dk_at dksX9_law_8 11 rfl rfl)
theorem dX9_law_197 : decode cX9_law 197 = .ok (.iload_n 2, 1) := dk_28 (dk_at dksX9_law_8 12 rfl rfl)
theorem dX9_law_198 : decode cX9_law 198 = .ok (.imul, 1) := dk_104 (dk_at dksX9_law_8 13 rfl rfl)
theorem dX9_law_199 : decode cX9_law 199 = .ok (.iadd, 1) := dk_96 (dk_at dksX9_law_8 14 rfl rfl)
theorem dX9_law_200 : decode cX9_law 200 = .ok (.aload_n 0, 1) := dk_42 (dk_at dksX9_law_8 15 rfl rfl)
theorem dX9_law_201 : decode cX9_law 201 = .ok (.getfield 33, 3) := dk_180 0 33 (dk_at dksX9_law_8 16 rfl rfl)
theorem dX9_law_204 : decode cX9_law 204 = .ok (.iload_n 2, 1) := dk_28 (dk_at dksX9_law_8 19 rfl rfl)
theorem dX9_law_205 : decode cX9_law 205 = .ok (.iaload, 1) := dk_46 (dk_at dksX9_law_8 20 rfl rfl)
theorem dX9_law_206 : decode cX9_law 206 = .ok (.iastore, 1) := dk_79 (dk_at dksX9_law_8 21 rfl rfl)
theorem dX9_law_207 : decode cX9_law 207 = .ok (.aload_n 0, 1) := dk_42 (dk_at dksX9_law_8 22 rfl rfl)
theorem dX9_law_208 : decode cX9_law 208 = .ok (.getfield 13, 3) := dk_180 0 13 (dk_at dksX9_law_9 0 rfl rfl)
theorem dX9_law_211 : decode cX9_law 211 = .ok (.iload_n 1, 1) := dk_27 (dk_at dksX9_law_9 3 rfl rfl)
theorem dX9_law_212 : decode cX9_law 212 = .ok (.bipush 98, 2) := dk_16 98 (dk_at dksX9_law_9 4 rfl rfl)
theorem dX9_law_214 : decode cX9_law 214 = .ok (.iadd, 1) := dk_96 (dk_at dksX9_law_9 6 rfl rfl)
theorem dX9_law_215 : decode cX9_law 215 = .ok (.iconst 2, 1) := dk_5 (dk_at dksX9_law_9 7 rfl rfl)
theorem dX9_law_216 : decode cX9_law 216 = .ok (.iload_n 2, 1) := dk_28 (dk_at dksX9_law_9 8 rfl rfl)
theorem dX9_law_217 : decode cX9_law 217 = .ok (.imul, 1) := dk_104 (dk_at dksX9_law_9 9 rfl rfl)
theorem dX9_law_218 : decode cX9_law 218 = .ok (.iadd, 1) := dk_96 (dk_at dksX9_law_9 10 rfl rfl)
theorem dX9_law_219 : decode cX9_law 219 = .ok (.iconst 1, 1) := dk_4 (dk_at dksX9_law_9 11 rfl rfl)
theorem dX9_law_220 : decode cX9_law 220 = .ok (.iadd, 1) := dk_96 (dk_at dksX9_law_9 12 rfl rfl)
theorem dX9_law_221 : decode cX9_law 221 = .ok (.aload_n 0, 1) := dk_42 (dk_at dksX9_law_9 13 rfl rfl)
theorem dX9_law_222 : decode cX9_law 222 = .ok (.getfield 36, 3) := dk_180 0 36 (dk_at dksX9_law_9 14 rfl rfl)
theorem dX9_law_225 : decode cX9_law 225 = .ok (.iload_n 2, 1) := dk_28 (dk_at dksX9_law_9 17 rfl rfl)
theorem dX9_law_226 : decode cX9_law 226 = .ok (.iaload, 1) := dk_46 (dk_at dksX9_law_9 18 rfl rfl)
theorem dX9_law_227 : decode cX9_law 227 = .ok (.iastore, 1) := dk_79 (dk_at dksX9_law_9 19 rfl rfl)
theorem dX9_law_228 : decode cX9_law 228 = .ok (.iinc 2 1, 3) := dk_132 2 1 (dk_at dksX9_law_9 20 rfl rfl)
theorem dX9_law_231 : decode cX9_law 231 = .ok (.goto (-51), 3) := dk_167 255 205 (dk_at dksX9_law_10 0 rfl rfl)
theorem dX9_law_234 : decode cX9_law 234 = .ok (.aload_n 0, 1) := dk_42 (dk_at dksX9_law_10 3 rfl rfl)
theorem dX9_law_235 : decode cX9_law 235 = .ok (.getfield 13, 3) := dk_180 0 13 (dk_at dksX9_law_10 4 rfl rfl)
theorem dX9_law_238 : decode cX9_law 238 = .ok (.iconst 2, 1) := dk_5 (dk_at dksX9_law_10 7 rfl rfl)
theorem dX9_law_239 : decode cX9_law 239 = .ok (.dup2, 1) := dk_92 (dk_at dksX9_law_10 8 rfl rfl)
theorem dX9_law_240 : decode cX9_law 240 = .ok (.iaload, 1) := dk_46 (dk_at dksX9_law_10 9 rfl rfl)
theorem dX9_law_241 : decode cX9_law 241 = .ok (.iconst 1, 1) := dk_4 (dk_at dksX9_law_10 10 rfl rfl)
theorem dX9_law_242 : decode cX9_law 242 = .ok (.iadd, 1) := dk_96 (dk_at dksX9_law_10 11 rfl rfl)
theorem dX9_law_243 : decode cX9_law 243 = .ok (.iastore, 1) := dk_79 (dk_at dksX9_law_10 12 rfl rfl)
theorem dX9_law_244 : decode cX9_law 244 = .ok (.aload_n 0, 1) := dk_42 (dk_at dksX9_law_10 13 rfl rfl)
theorem dX9_law_245 : decode cX9_law 245 = .ok (.aload_n 0, 1) := dk_42 (dk_at dksX9_law_10 14 rfl rfl)
theorem dX9_law_246 : decode cX9_law 246 = .ok (.getfield 13, 3) := dk_180 0 13 (dk_at dksX9_law_10 15 rfl rfl)
theorem dX9_law_249 : decode cX9_law 249 = .ok (.iconst 2, 1) := dk_5 (dk_at dksX9_law_10 18 rfl rfl)
theorem dX9_law_250 : decode cX9_law 250 = .ok (.iaload, 1) := dk_46 (dk_at dksX9_law_10 19 rfl rfl)
theorem dX9_law_251 : decode cX9_law 251 = .ok (.iconst 1, 1) := dk_4 (dk_at dksX9_law_10 20 rfl rfl)
theorem dX9_law_252 : decode cX9_law 252 = .ok (.isub, 1) := dk_100 (dk_at dksX9_law_10 21 rfl rfl)
theorem dX9_law_253 : decode cX9_law 253 = .ok (.invokevirtual 164, 3) := dk_182 0 164 (dk_at dksX9_law_11 0 rfl rfl)
theorem dX9_law_256 : decode cX9_law 256 = .ok (.ireturn, 1) := dk_172 (dk_at dksX9_law_11 3 rfl rfl)
abbrev cX9_begin : ByteArray := prog_23_method_32_code
def yX9_begin : MethodName := ⟨RX9, "begin", "()V"⟩
def dkwX9_begin_0 : List UInt8 := [42, 3, 181, 0, 216, 42, 3, 181, 0, 219, 42, 2, 181, 0, 26, 42, 182, 0, 223, 177]
abbrev dktX9_begin_0 : List UInt8 := dkwX9_begin_0 ++ []
theorem dksX9_begin_0 : cX9_begin.data.toList.drop 0 = dktX9_begin_0 := by decide +kernel
theorem dX9_begin_0 : decode cX9_begin 0 = .ok (.aload_n 0, 1) := dk_42 (dk_at dksX9_begin_0 0 rfl rfl)
theorem dX9_begin_1 : decode cX9_begin 1 = .ok (.iconst 0, 1) := dk_3 (dk_at dksX9_begin_0 1 rfl rfl)
theorem dX9_begin_2 : decode cX9_begin 2 = .ok (.putfield 216, 3) := dk_181 0 216 (dk_at dksX9_begin_0 2 rfl rfl)
theorem dX9_begin_5 : decode cX9_begin 5 = .ok (.aload_n 0, 1) := dk_42 (dk_at dksX9_begin_0 5 rfl rfl)
theorem dX9_begin_6 : decode cX9_begin 6 = .ok (.iconst 0, 1) := dk_3 (dk_at dksX9_begin_0 6 rfl rfl)
theorem dX9_begin_7 : decode cX9_begin 7 = .ok (.putfield 219, 3) := dk_181 0 219 (dk_at dksX9_begin_0 7 rfl rfl)
theorem dX9_begin_10 : decode cX9_begin 10 = .ok (.aload_n 0, 1) := dk_42 (dk_at dksX9_begin_0 10 rfl rfl)
theorem dX9_begin_11 : decode cX9_begin 11 = .ok (.iconst (-1), 1) := dk_2 (dk_at dksX9_begin_0 11 rfl rfl)
theorem dX9_begin_12 : decode cX9_begin 12 = .ok (.putfield 26, 3) := dk_181 0 26 (dk_at dksX9_begin_0 12 rfl rfl)
theorem dX9_begin_15 : decode cX9_begin 15 = .ok (.aload_n 0, 1) := dk_42 (dk_at dksX9_begin_0 15 rfl rfl)
theorem dX9_begin_16 : decode cX9_begin 16 = .ok (.invokevirtual 223, 3) := dk_182 0 223 (dk_at dksX9_begin_0 16 rfl rfl)
theorem dX9_begin_19 : decode cX9_begin 19 = .ok (.return_, 1) := dk_177 (dk_at dksX9_begin_0 19 rfl rfl)
abbrev cX9_next : ByteArray := prog_23_method_33_code
def yX9_next : MethodName := ⟨RX9, "next", "()V"⟩
def dkwX9_next_14 : List UInt8 := [181, 0, 216, 167, 255, 167, 177]
abbrev dktX9_next_14 : List UInt8 := dkwX9_next_14 ++ []
def dkwX9_next_13 : List UInt8 := [180, 0, 23, 42, 180, 0, 216, 46, 133, 97, 20, 0, 252, 101, 181, 0, 229, 42, 89, 180, 0, 216, 4, 96]
abbrev dktX9_next_13 : List UInt8 := dkwX9_next_13 ++ dktX9_next_14
def dkwX9_next_12 : List UInt8 := [20, 0, 248, 148, 158, 0, 10, 42, 180, 0, 229, 167, 0, 26, 42, 180, 0, 229, 20, 0, 250, 105, 42]
abbrev dktX9_next_12 : List UInt8 := dkwX9_next_12 ++ dktX9_next_13
def dkwX9_next_11 : List UInt8 := [162, 0, 76, 42, 180, 0, 23, 42, 180, 0, 216, 46, 184, 0, 236, 153, 0, 61, 42, 42, 180, 0, 229]
abbrev dktX9_next_11 : List UInt8 := dkwX9_next_11 ++ dktX9_next_12
def dkwX9_next_10 : List UInt8 := [4, 96, 181, 0, 216, 167, 255, 165, 42, 180, 0, 239, 5, 160, 0, 87, 42, 180, 0, 216, 42, 180, 0, 206]
abbrev dktX9_next_10 : List UInt8 := dkwX9_next_10 ++ dktX9_next_11
def dkwX9_next_9 : List UInt8 := [180, 0, 216, 46, 133, 97, 20, 0, 244, 101, 167, 0, 6, 20, 0, 246, 181, 0, 229, 42, 89, 180, 0, 216]
abbrev dktX9_next_9 : List UInt8 := dkwX9_next_9 ++ dktX9_next_10
def dkwX9_next_8 : List UInt8 := [180, 0, 226, 100, 16, 10, 162, 0, 29, 42, 180, 0, 229, 20, 0, 242, 105, 42, 180, 0, 23, 42]
abbrev dktX9_next_8 : List UInt8 := dkwX9_next_8 ++ dktX9_next_9
def dkwX9_next_7 : List UInt8 := [162, 0, 78, 42, 180, 0, 23, 42, 180, 0, 216, 46, 184, 0, 233, 153, 0, 63, 42, 42, 180, 0, 216, 42]
abbrev dktX9_next_7 : List UInt8 := dkwX9_next_7 ++ dktX9_next_8
def dkwX9_next_6 : List UInt8 := [180, 0, 216, 4, 96, 181, 0, 216, 42, 180, 0, 239, 4, 160, 0, 89, 42, 180, 0, 216, 42, 180, 0, 206]
abbrev dktX9_next_6 : List UInt8 := dkwX9_next_6 ++ dktX9_next_7
def dkwX9_next_5 : List UInt8 := [180, 0, 239, 6, 160, 0, 27, 42, 42, 180, 0, 23, 42, 180, 0, 226, 46, 133, 181, 0, 229, 42, 89]
abbrev dktX9_next_5 : List UInt8 := dkwX9_next_5 ++ dktX9_next_6
def dkwX9_next_4 : List UInt8 := [180, 0, 23, 42, 180, 0, 226, 46, 184, 0, 236, 153, 0, 7, 5, 167, 0, 4, 6, 181, 0, 239, 42]
abbrev dktX9_next_4 : List UInt8 := dkwX9_next_4 ++ dktX9_next_5
def dkwX9_next_3 : List UInt8 := [167, 0, 42, 42, 180, 0, 23, 42, 180, 0, 226, 46, 184, 0, 233, 153, 0, 7, 4, 167, 0, 23, 42]
abbrev dktX9_next_3 : List UInt8 := dkwX9_next_3 ++ dktX9_next_4
def dkwX9_next_2 : List UInt8 := [180, 0, 226, 181, 0, 216, 42, 9, 181, 0, 229, 42, 42, 180, 0, 226, 42, 180, 0, 206, 160, 0, 7, 3]
abbrev dktX9_next_2 : List UInt8 := dkwX9_next_2 ++ dktX9_next_3
def dkwX9_next_1 : List UInt8 := [180, 0, 226, 46, 16, 32, 160, 0, 16, 42, 89, 180, 0, 226, 4, 96, 181, 0, 226, 167, 255, 221, 42, 42]
abbrev dktX9_next_1 : List UInt8 := dkwX9_next_1 ++ dktX9_next_2
def dkwX9_next_0 : List UInt8 := [42, 42, 180, 0, 216, 181, 0, 226, 42, 180, 0, 226, 42, 180, 0, 206, 162, 0, 30, 42, 180, 0, 23, 42]
abbrev dktX9_next_0 : List UInt8 := dkwX9_next_0 ++ dktX9_next_1
theorem dksX9_next_0 : cX9_next.data.toList.drop 0 = dktX9_next_0 := by decide +kernel
theorem dksX9_next_1 : cX9_next.data.toList.drop 24 = dktX9_next_1 := dk_seg dksX9_next_0 24 rfl rfl
theorem dksX9_next_2 : cX9_next.data.toList.drop 48 = dktX9_next_2 := dk_seg dksX9_next_1 24 rfl rfl
theorem dksX9_next_3 : cX9_next.data.toList.drop 72 = dktX9_next_3 := dk_seg dksX9_next_2 24 rfl rfl
theorem dksX9_next_4 : cX9_next.data.toList.drop 95 = dktX9_next_4 := dk_seg dksX9_next_3 23 rfl rfl
theorem dksX9_next_5 : cX9_next.data.toList.drop 118 = dktX9_next_5 := dk_seg dksX9_next_4 23 rfl rfl
theorem dksX9_next_6 : cX9_next.data.toList.drop 141 = dktX9_next_6 := dk_seg dksX9_next_5 23 rfl rfl
theorem dksX9_next_7 : cX9_next.data.toList.drop 165 = dktX9_next_7 := dk_seg dksX9_next_6 24 rfl rfl
theorem dksX9_next_8 : cX9_next.data.toList.drop 189 = dktX9_next_8 := dk_seg dksX9_next_7 24 rfl rfl
theorem dksX9_next_9 : cX9_next.data.toList.drop 211 = dktX9_next_9 := dk_seg dksX9_next_8 22 rfl rfl
theorem dksX9_next_10 : cX9_next.data.toList.drop 235 = dktX9_next_10 := dk_seg dksX9_next_9 24 rfl rfl
theorem dksX9_next_11 : cX9_next.data.toList.drop 259 = dktX9_next_11 := dk_seg dksX9_next_10 24 rfl rfl
theorem dksX9_next_12 : cX9_next.data.toList.drop 282 = dktX9_next_12 := dk_seg dksX9_next_11 23 rfl rfl
theorem dksX9_next_13 : cX9_next.data.toList.drop 305 = dktX9_next_13 := dk_seg dksX9_next_12 23 rfl rfl
theorem dksX9_next_14 : cX9_next.data.toList.drop 329 = dktX9_next_14 := dk_seg dksX9_next_13 24 rfl rfl
theorem dX9_next_0 : decode cX9_next 0 = .ok (.aload_n 0, 1) := dk_42 (dk_at dksX9_next_0 0 rfl rfl)
theorem dX9_next_1 : decode cX9_next 1 = .ok (.aload_n 0, 1) := dk_42 (dk_at dksX9_next_0 1 rfl rfl)
theorem dX9_next_2 : decode cX9_next 2 = .ok (.getfield 216, 3) := dk_180 0 216 (dk_at dksX9_next_0 2 rfl rfl)
theorem dX9_next_5 : decode cX9_next 5 = .ok (.putfield 226, 3) := dk_181 0 226 (dk_at dksX9_next_0 5 rfl rfl)
theorem dX9_next_8 : decode cX9_next 8 = .ok (.aload_n 0, 1) := dk_42 (dk_at dksX9_next_0 8 rfl rfl)
theorem dX9_next_9 : decode cX9_next 9 = .ok (.getfield 226, 3) := dk_180 0 226 (dk_at dksX9_next_0 9 rfl rfl)
theorem dX9_next_12 : decode cX9_next 12 = .ok (.aload_n 0, 1) := dk_42 (dk_at dksX9_next_0 12 rfl rfl)
theorem dX9_next_13 : decode cX9_next 13 = .ok (.getfield 206, 3) := dk_180 0 206 (dk_at dksX9_next_0 13 rfl rfl)
theorem dX9_next_16 : decode cX9_next 16 = .ok (.if_icmp .ge 30, 3) := dk_162 0 30 (dk_at dksX9_next_0 16 rfl rfl)
theorem dX9_next_19 : decode cX9_next 19 = .ok (.aload_n 0, 1) := dk_42 (dk_at dksX9_next_0 19 rfl rfl)
theorem dX9_next_20 : decode cX9_next 20 = .ok (.getfield 23, 3) := dk_180 0 23 (dk_at dksX9_next_0 20 rfl rfl)
theorem dX9_next_23 : decode cX9_next 23 = .ok (.aload_n 0, 1) := dk_42 (dk_at dksX9_next_0 23 rfl rfl)
theorem dX9_next_24 : decode cX9_next 24 = .ok (.getfield 226, 3) := dk_180 0 226 (dk_at dksX9_next_1 0 rfl rfl)
theorem dX9_next_27 : decode cX9_next 27 = .ok (.iaload, 1) := dk_46 (dk_at dksX9_next_1 3 rfl rfl)
theorem dX9_next_28 : decode cX9_next 28 = .ok (.bipush 32, 2) := dk_16 32 (dk_at dksX9_next_1 4 rfl rfl)
theorem dX9_next_30 : decode cX9_next 30 = .ok (.if_icmp .ne 16, 3) := dk_160 0 16 (dk_at dksX9_next_1 6 rfl rfl)
theorem dX9_next_33 : decode cX9_next 33 = .ok (.aload_n 0, 1) := dk_42 (dk_at dksX9_next_1 9 rfl rfl)
theorem dX9_next_34 : decode cX9_next 34 = .ok (.dup, 1) := dk_89 (dk_at dksX9_next_1 10 rfl rfl)
theorem dX9_next_35 : decode cX9_next 35 = .ok (.getfield 226, 3) := dk_180 0 226 (dk_at dksX9_next_1 11 rfl rfl)
theorem dX9_next_38 : decode cX9_next 38 = .ok (.iconst 1, 1) := dk_4 (dk_at dksX9_next_1 14 rfl rfl)
theorem dX9_next_39 : decode cX9_next 39 = .ok (.iadd, 1) := dk_96 (dk_at dksX9_next_1 15 rfl rfl)
theorem dX9_next_40 : decode cX9_next 40 = .ok (.putfield 226, 3) := dk_181 0 226 (dk_at dksX9_next_1 16 rfl rfl)
theorem dX9_next_43 : decode cX9_next 43 = .ok (.goto (-35), 3) := dk_167 255 221 (dk_at dksX9_next_1 19 rfl rfl)
theorem dX9_next_46 : decode cX9_next 46 = .ok (.aload_n 0, 1) := dk_42 (dk_at dksX9_next_1 22 rfl rfl)
theorem dX9_next_47 : decode cX9_next 47 = .ok (.aload_n 0, 1) := dk_42 (dk_at dksX9_next_1 23 rfl rfl)
theorem dX9_next_48 : decode cX9_next 48 = .ok (.getfield 226, 3) := dk_180 0 226 (dk_at dksX9_next_2 0 rfl rfl)
theorem dX9_next_51 : decode cX9_next 51 = .ok (.putfield 216, 3) := dk_181 0 216 (dk_at dksX9_next_2 3 rfl rfl)
theorem dX9_next_54 : decode cX9_next 54 = .ok (.aload_n 0, 1) := dk_42 (dk_at dksX9_next_2 6 rfl rfl)
theorem dX9_next_55 : decode cX9_next 55 = .ok (.lconst 0, 1) := dk_9 (dk_at dksX9_next_2 7 rfl rfl)
theorem dX9_next_56 : decode cX9_next 56 = .ok (.putfield 229, 3) := dk_181 0 229 (dk_at dksX9_next_2 8 rfl rfl)
theorem dX9_next_59 : decode cX9_next 59 = .ok (.aload_n 0, 1) := dk_42 (dk_at dksX9_next_2 11 rfl rfl)
theorem dX9_next_60 : decode cX9_next 60 = .ok (.aload_n 0, 1) := dk_42 (dk_at dksX9_next_2 12 rfl rfl)
theorem dX9_next_61 : decode cX9_next 61 = .ok (.getfield 226, 3) := dk_180 0 226 (dk_at dksX9_next_2 13 rfl rfl)
theorem dX9_next_64 : decode cX9_next 64 = .ok (.aload_n 0, 1) := dk_42 (dk_at dksX9_next_2 16 rfl rfl)
theorem dX9_next_65 : decode cX9_next 65 = .ok (.getfield 206, 3) := dk_180 0 206 (dk_at dksX9_next_2 17 rfl rfl)
theorem dX9_next_68 : decode cX9_next 68 = .ok (.if_icmp .ne 7, 3) := dk_160 0 7 (dk_at dksX9_next_2 20 rfl rfl)
theorem dX9_next_71 : decode cX9_next 71 = .ok (.iconst 0, 1) := dk_3 (dk_at dksX9_next_2 23 rfl rfl)
theorem dX9_next_72 : decode cX9_next 72 = .ok (.goto 42, 3) := dk_167 0 42 (dk_at dksX9_next_3 0 rfl rfl)
theorem dX9_next_75 : decode cX9_next 75 = .ok (.aload_n 0, 1) := dk_42 (dk_at dksX9_next_3 3 rfl rfl)
theorem dX9_next_76 : decode cX9_next 76 = .ok (.getfield 23, 3) := dk_180 0 23 (dk_at dksX9_next_3 4 rfl rfl)
theorem dX9_next_79 : decode cX9_next 79 = .ok (.aload_n 0, 1) := dk_42 (dk_at dksX9_next_3 7 rfl rfl)
theorem dX9_next_80 : decode cX9_next 80 = .ok (.getfield 226, 3) := dk_180 0 226 (dk_at dksX9_next_3 8 rfl rfl)
theorem dX9_next_83 : decode cX9_next 83 = .ok (.iaload, 1) := dk_46 (dk_at dksX9_next_3 11 rfl rfl)
theorem dX9_next_84 : decode cX9_next 84 = .ok (.invokestatic 233, 3) := dk_184 0 233 (dk_at dksX9_next_3 12 rfl rfl)
theorem dX9_next_87 : decode cX9_next 87 = .ok (.ifCond .eq 7, 3) := dk_153 0 7 (dk_at dksX9_next_3 15 rfl rfl)
theorem dX9_next_90 : decode cX9_next 90 = .ok (.iconst 1, 1) := dk_4 (dk_at dksX9_next_3 18 rfl rfl)
theorem dX9_next_91 : decode cX9_next 91 = .ok (.goto 23, 3) := dk_167 0 23 (dk_at dksX9_next_3 19 rfl rfl)
theorem dX9_next_94 : decode cX9_next 94 = .ok (.aload_n 0, 1) := dk_42 (dk_at dksX9_next_3 22 rfl rfl)
theorem dX9_next_95 : decode cX9_next 95 = .ok (.getfield 23, 3) := dk_180 0 23 (dk_at dksX9_next_4 0 rfl rfl)
theorem dX9_next_98 : decode cX9_next 98 = .ok (.aload_n 0, 1) := dk_42 (dk_at dksX9_next_4 3 rfl rfl)
theorem dX9_next_99 : decode cX9_next 99 = .ok (.getfield 226, 3) := dk_180 0 226 (dk_at dksX9_next_4 4 rfl rfl)
theorem dX9_next_102 : decode cX9_next 102 = .ok (.iaload, 1) := dk_46 (dk_at dksX9_next_4 7 rfl rfl)
theorem dX9_next_103 : decode cX9_next 103 = .ok (.invokestatic 236, 3) := dk_184 0 236 (dk_at dksX9_next_4 8 rfl rfl)
theorem dX9_next_106 : decode cX9_next 106 = .ok (.ifCond .eq 7, 3) := dk_153 0 7 (dk_at dksX9_next_4 11 rfl rfl)
theorem dX9_next_109 : decode cX9_next 109 = .ok (.iconst 2, 1) := dk_5 (dk_at dksX9_next_4 14 rfl rfl)
theorem dX9_next_110 : decode cX9_next 110 = .ok (.goto 4, 3) := dk_167 0 4 (dk_at dksX9_next_4 15 rfl rfl)
theorem dX9_next_113 : decode cX9_next 113 = .ok (.iconst 3, 1) := dk_6 (dk_at dksX9_next_4 18 rfl rfl)
theorem dX9_next_114 : decode cX9_next 114 = .ok (.putfield 239, 3) := dk_181 0 239 (dk_at dksX9_next_4 19 rfl rfl)
theorem dX9_next_117 : decode cX9_next 117 = .ok (.aload_n 0, 1) := dk_42 (dk_at dksX9_next_4 22 rfl rfl)
theorem dX9_next_118 : decode cX9_next 118 = .ok (.getfield 239, 3) := dk_180 0 239 (dk_at dksX9_next_5 0 rfl rfl)
theorem dX9_next_121 : decode cX9_next 121 = .ok (.iconst 3, 1) := dk_6 (dk_at dksX9_next_5 3 rfl rfl)
theorem dX9_next_122 : decode cX9_next 122 = .ok (.if_icmp .ne 27, 3) := dk_160 0 27 (dk_at dksX9_next_5 4 rfl rfl)
theorem dX9_next_125 : decode cX9_next 125 = .ok (.aload_n 0, 1) := dk_42 (dk_at dksX9_next_5 7 rfl rfl)
theorem dX9_next_126 : decode cX9_next 126 = .ok (.aload_n 0, 1) := dk_42 (dk_at dksX9_next_5 8 rfl rfl)
theorem dX9_next_127 : decode cX9_next 127 = .ok (.getfield 23, 3) := dk_180 0 23 (dk_at dksX9_next_5 9 rfl rfl)
theorem dX9_next_130 : decode cX9_next 130 = .ok (.aload_n 0, 1) := dk_42 (dk_at dksX9_next_5 12 rfl rfl)
theorem dX9_next_131 : decode cX9_next 131 = .ok (.getfield 226, 3) := dk_180 0 226 (dk_at dksX9_next_5 13 rfl rfl)
theorem dX9_next_134 : decode cX9_next 134 = .ok (.iaload, 1) := dk_46 (dk_at dksX9_next_5 16 rfl rfl)
theorem dX9_next_135 : decode cX9_next 135 = .ok (.i2l, 1) := dk_133 (dk_at dksX9_next_5 17 rfl rfl)
theorem dX9_next_136 : decode cX9_next 136 = .ok (.putfield 229, 3) := dk_181 0 229 (dk_at dksX9_next_5 18 rfl rfl)
theorem dX9_next_139 : decode cX9_next 139 = .ok (.aload_n 0, 1) := dk_42 (dk_at dksX9_next_5 21 rfl rfl)
theorem dX9_next_140 : decode cX9_next 140 = .ok (.dup, 1) := dk_89 (dk_at dksX9_next_5 22 rfl rfl)
theorem dX9_next_141 : decode cX9_next 141 = .ok (.getfield 216, 3) := dk_180 0 216 (dk_at dksX9_next_6 0 rfl rfl)
theorem dX9_next_144 : decode cX9_next 144 = .ok (.iconst 1, 1) := dk_4 (dk_at dksX9_next_6 3 rfl rfl)
theorem dX9_next_145 : decode cX9_next 145 = .ok (.iadd, 1) := dk_96 (dk_at dksX9_next_6 4 rfl rfl)
theorem dX9_next_146 : decode cX9_next 146 = .ok (.putfield 216, 3) := dk_181 0 216 (dk_at dksX9_next_6 5 rfl rfl)
theorem dX9_next_149 : decode cX9_next 149 = .ok (.aload_n 0, 1) := dk_42 (dk_at dksX9_next_6 8 rfl rfl)
theorem dX9_next_150 : decode cX9_next 150 = .ok (.getfield 239, 3) := dk_180 0 239 (dk_at dksX9_next_6 9 rfl rfl)
theorem dX9_next_153 : decode cX9_next 153 = .ok (.iconst 1, 1) := dk_4 (dk_at dksX9_next_6 12 rfl rfl)
theorem dX9_next_154 : decode cX9_next 154 = .ok (.if_icmp .ne 89, 3) := dk_160 0 89 (dk_at dksX9_next_6 13 rfl rfl)
theorem dX9_next_157 : decode cX9_next 157 = .ok (.aload_n 0, 1) := dk_42 (dk_at dksX9_next_6 16 rfl rfl)
theorem dX9_next_158 : decode cX9_next 158 = .ok (.getfield 216, 3) := dk_180 0 216 (dk_at dksX9_next_6 17 rfl rfl)
theorem dX9_next_161 : decode cX9_next 161 = .ok (.aload_n 0, 1) := dk_42 (dk_at dksX9_next_6 20 rfl rfl)
theorem dX9_next_162 : decode cX9_next 162 = .ok (.getfield 206, 3) := dk_180 0 206 (dk_at dksX9_next_6 21 rfl rfl)
theorem dX9_next_165 : decode cX9_next 165 = .ok (.if_icmp .ge 78, 3) := dk_162 0 78 (dk_at dksX9_next_7 0 rfl rfl)
theorem dX9_next_168 : decode cX9_next 168 = .ok (.aload_n 0, 1) := dk_42 (dk_at dksX9_next_7 3 rfl rfl)
theorem dX9_next_169 : decode cX9_next 169 = .ok (.getfield 23, 3) := dk_180 0 23 (dk_at dksX9_next_7 4 rfl rfl)
theorem dX9_next_172 : decode cX9_next 172 = .ok (.aload_n 0, 1) := dk_42 (dk_at dksX9_next_7 7 rfl rfl)
theorem dX9_next_173 : decode cX9_next 173 = .ok (.getfield 216, 3) := dk_180 0 216 (dk_at dksX9_next_7 8 rfl rfl)
theorem dX9_next_176 : decode cX9_next 176 = .ok (.iaload, 1) := dk_46 (dk_at dksX9_next_7 11 rfl rfl)
theorem dX9_next_177 : decode cX9_next 177 = .ok (.invokestatic 233, 3) := dk_184 0 233 (dk_at dksX9_next_7 12 rfl rfl)
theorem dX9_next_180 : decode cX9_next 180 = .ok (.ifCond .eq 63, 3) := dk_153 0 63 (dk_at dksX9_next_7 15 rfl rfl)
theorem dX9_next_183 : decode cX9_next 183 = .ok (.aload_n 0, 1) := dk_42 (dk_at dksX9_next_7 18 rfl rfl)
theorem dX9_next_184 : decode cX9_next 184 = .ok (.aload_n 0, 1) := dk_42 (dk_at dksX9_next_7 19 rfl rfl)
theorem dX9_next_185 : decode cX9_next 185 = .ok (.getfield 216, 3) := dk_180 0 216 (dk_at dksX9_next_7 20 rfl rfl)
theorem dX9_next_188 : decode cX9_next 188 = .ok (.aload_n 0, 1) := dk_42 (dk_at dksX9_next_7 23 rfl rfl)
theorem dX9_next_189 : decode cX9_next 189 = .ok (.getfield 226, 3) := dk_180 0 226 (dk_at dksX9_next_8 0 rfl rfl)
theorem dX9_next_192 : decode cX9_next 192 = .ok (.isub, 1) := dk_100 (dk_at dksX9_next_8 3 rfl rfl)
theorem dX9_next_193 : decode cX9_next 193 = .ok (.bipush 10, 2) := dk_16 10 (dk_at dksX9_next_8 4 rfl rfl)
theorem dX9_next_195 : decode cX9_next 195 = .ok (.if_icmp .ge 29, 3) := dk_162 0 29 (dk_at dksX9_next_8 6 rfl rfl)
theorem dX9_next_198 : decode cX9_next 198 = .ok (.aload_n 0, 1) := dk_42 (dk_at dksX9_next_8 9 rfl rfl)
theorem dX9_next_199 : decode cX9_next 199 = .ok (.getfield 229, 3) := dk_180 0 229 (dk_at dksX9_next_8 10 rfl rfl)
theorem dX9_next_202 : decode cX9_next 202 = .ok (.ldc2_w 242, 3) := dk_20 0 242 (dk_at dksX9_next_8 13 rfl rfl)
theorem dX9_next_205 : decode cX9_next 205 = .ok (.lmul, 1) := dk_105 (dk_at dksX9_next_8 16 rfl rfl)
theorem dX9_next_206 : decode cX9_next 206 = .ok (.aload_n 0, 1) := dk_42 (dk_at dksX9_next_8 17 rfl rfl)
theorem dX9_next_207 : decode cX9_next 207 = .ok (.getfield 23, 3) := dk_180 0 23 (dk_at dksX9_next_8 18 rfl rfl)
theorem dX9_next_210 : decode cX9_next 210 = .ok (.aload_n 0, 1) := dk_42 (dk_at dksX9_next_8 21 rfl rfl)
theorem dX9_next_211 : decode cX9_next 211 = .ok (.getfield 216, 3) := dk_180 0 216 (dk_at dksX9_next_9 0 rfl rfl)
theorem dX9_next_214 : decode cX9_next 214 = .ok (.iaload, 1) := dk_46 (dk_at dksX9_next_9 3 rfl rfl)
theorem dX9_next_215 : decode cX9_next 215 = .ok (.i2l, 1) := dk_133 (dk_at dksX9_next_9 4 rfl rfl)
theorem dX9_next_216 : decode cX9_next 216 = .ok (.ladd, 1) := dk_97 (dk_at dksX9_next_9 5 rfl rfl)
theorem dX9_next_217 : decode cX9_next 217 = .ok (.ldc2_w 244, 3) := dk_20 0 244 (dk_at dksX9_next_9 6 rfl rfl)
theorem dX9_next_220 : decode cX9_next 220 = .ok (.lsub, 1) := dk_101 (dk_at dksX9_next_9 9 rfl rfl)
theorem dX9_next_221 : decode cX9_next 221 = .ok (.goto 6, 3) := dk_167 0 6 (dk_at dksX9_next_9 10 rfl rfl)
theorem dX9_next_224 : decode cX9_next 224 = .ok (.ldc2_w 246, 3) := dk_20 0 246 (dk_at dksX9_next_9 13 rfl rfl)
theorem dX9_next_227 : decode cX9_next 227 = .ok (.putfield 229, 3) := dk_181 0 229 (dk_at dksX9_next_9 16 rfl rfl)
theorem dX9_next_230 : decode cX9_next 230 = .ok (.aload_n 0, 1) := dk_42 (dk_at dksX9_next_9 19 rfl rfl)
theorem dX9_next_231 : decode cX9_next 231 = .ok (.dup, 1) := dk_89 (dk_at dksX9_next_9 20 rfl rfl)
theorem dX9_next_232 : decode cX9_next 232 = .ok (.getfield 216, 3) := dk_180 0 216 (dk_at dksX9_next_9 21 rfl rfl)
theorem dX9_next_235 : decode cX9_next 235 = .ok (.iconst 1, 1) := dk_4 (dk_at dksX9_next_10 0 rfl rfl)
theorem dX9_next_236 : decode cX9_next 236 = .ok (.iadd, 1) := dk_96 (dk_at dksX9_next_10 1 rfl rfl)
theorem dX9_next_237 : decode cX9_next 237 = .ok (.putfield 216, 3) := dk_181 0 216 (dk_at dksX9_next_10 2 rfl rfl)
theorem dX9_next_240 : decode cX9_next 240 = .ok (.goto (-91), 3) := dk_167 255 165 (dk_at dksX9_next_10 5 rfl rfl)
theorem dX9_next_243 : decode cX9_next 243 = .ok (.aload_n 0, 1) := dk_42 (dk_at dksX9_next_10 8 rfl rfl)
theorem dX9_next_244 : decode cX9_next 244 = .ok (.getfield 239, 3) := dk_180 0 239 (dk_at dksX9_next_10 9 rfl rfl)
theorem dX9_next_247 : decode cX9_next 247 = .ok (.iconst 2, 1) := dk_5 (dk_at dksX9_next_10 12 rfl rfl)
theorem dX9_next_248 : decode cX9_next 248 = .ok (.if_icmp .ne 87, 3) := dk_160 0 87 (dk_at dksX9_next_10 13 rfl rfl)
theorem dX9_next_251 : decode cX9_next 251 = .ok (.aload_n 0, 1) := dk_42 (dk_at dksX9_next_10 16 rfl rfl)
theorem dX9_next_252 : decode cX9_next 252 = .ok (.getfield 216, 3) := dk_180 0 216 (dk_at dksX9_next_10 17 rfl rfl)
theorem dX9_next_255 : decode cX9_next 255 = .ok (.aload_n 0, 1) := dk_42 (dk_at dksX9_next_10 20 rfl rfl)
theorem dX9_next_256 : decode cX9_next 256 = .ok (.getfield 206, 3) := dk_180 0 206 (dk_at dksX9_next_10 21 rfl rfl)
theorem dX9_next_259 : decode cX9_next 259 = .ok (.if_icmp .ge 76, 3) := dk_162 0 76 (dk_at dksX9_next_11 0 rfl rfl)
theorem dX9_next_262 : decode cX9_next 262 = .ok (.aload_n 0, 1) := dk_42 (dk_at dksX9_next_11 3 rfl rfl)
theorem dX9_next_263 : decode cX9_next 263 = .ok (.getfield 23, 3) := dk_180 0 23 (dk_at dksX9_next_11 4 rfl rfl)
theorem dX9_next_266 : decode cX9_next 266 = .ok (.aload_n 0, 1) := dk_42 (dk_at dksX9_next_11 7 rfl rfl)
theorem dX9_next_267 : decode cX9_next 267 = .ok (.getfield 216, 3) := dk_180 0 216 (dk_at dksX9_next_11 8 rfl rfl)
theorem dX9_next_270 : decode cX9_next 270 = .ok (.iaload, 1) := dk_46 (dk_at dksX9_next_11 11 rfl rfl)
theorem dX9_next_271 : decode cX9_next 271 = .ok (.invokestatic 236, 3) := dk_184 0 236 (dk_at dksX9_next_11 12 rfl rfl)
theorem dX9_next_274 : decode cX9_next 274 = .ok (.ifCond .eq 61, 3) := dk_153 0 61 (dk_at dksX9_next_11 15 rfl rfl)
theorem dX9_next_277 : decode cX9_next 277 = .ok (.aload_n 0, 1) := dk_42 (dk_at dksX9_next_11 18 rfl rfl)
theorem dX9_next_278 : decode cX9_next 278 = .ok (.aload_n 0, 1) := dk_42 (dk_at dksX9_next_11 19 rfl rfl)
theorem dX9_next_279 : decode cX9_next 279 = .ok (.getfield 229, 3) := dk_180 0 229 (dk_at dksX9_next_11 20 rfl rfl)
theorem dX9_next_282 : decode cX9_next 282 = .ok (.ldc2_w 248, 3) := dk_20 0 248 (dk_at dksX9_next_12 0 rfl rfl)
theorem dX9_next_285 : decode cX9_next 285 = .ok (.lcmp, 1) := dk_148 (dk_at dksX9_next_12 3 rfl rfl)
theorem dX9_next_286 : decode cX9_next 286 = .ok (.ifCond .le 10, 3) := dk_158 0 10 (dk_at dksX9_next_12 4 rfl rfl)
theorem dX9_next_289 : decode cX9_next 289 = .ok (.aload_n 0, 1) := dk_42 (dk_at dksX9_next_12 7 rfl rfl)
theorem dX9_next_290 : decode cX9_next 290 = .ok (.getfield 229, 3) := dk_180 0 229 (dk_at dksX9_next_12 8 rfl rfl)
theorem dX9_next_293 : decode cX9_next 293 = .ok (.goto 26, 3) := dk_167 0 26 (dk_at dksX9_next_12 11 rfl rfl)
theorem dX9_next_296 : decode cX9_next 296 = .ok (.aload_n 0, 1) := dk_42 (dk_at dksX9_next_12 14 rfl rfl)
theorem dX9_next_297 : decode cX9_next 297 = .ok (.getfield 229, 3) := dk_180 0 229 (dk_at dksX9_next_12 15 rfl rfl)
theorem dX9_next_300 : decode cX9_next 300 = .ok (.ldc2_w 250, 3) := dk_20 0 250 (dk_at dksX9_next_12 18 rfl rfl)
theorem dX9_next_303 : decode cX9_next 303 = .ok (.lmul, 1) := dk_105 (dk_at dksX9_next_12 21 rfl rfl)
theorem dX9_next_304 : decode cX9_next 304 = .ok (.aload_n 0, 1) := dk_42 (dk_at dksX9_next_12 22 rfl rfl)
theorem dX9_next_305 : decode cX9_next 305 = .ok (.getfield 23, 3) := dk_180 0 23 (dk_at dksX9_next_13 0 rfl rfl)
theorem dX9_next_308 : decode cX9_next 308 = .ok (.aload_n 0, 1) := dk_42 (dk_at dksX9_next_13 3 rfl rfl)
theorem dX9_next_309 : decode cX9_next 309 = .ok (.getfield 216, 3) := dk_180 0 216 (dk_at dksX9_next_13 4 rfl rfl)
theorem dX9_next_312 : decode cX9_next 312 = .ok (.iaload, 1) := dk_46 (dk_at dksX9_next_13 7 rfl rfl)
theorem dX9_next_313 : decode cX9_next 313 = .ok (.i2l, 1) := dk_133 (dk_at dksX9_next_13 8 rfl rfl)
theorem dX9_next_314 : decode cX9_next 314 = .ok (.ladd, 1) := dk_97 (dk_at dksX9_next_13 9 rfl rfl)
theorem dX9_next_315 : decode cX9_next 315 = .ok (.ldc2_w 252, 3) := dk_20 0 252 (dk_at dksX9_next_13 10 rfl rfl)
theorem dX9_next_318 : decode cX9_next 318 = .ok (.lsub, 1) := dk_101 (dk_at dksX9_next_13 13 rfl rfl)
theorem dX9_next_319 : decode cX9_next 319 = .ok (.putfield 229, 3) := dk_181 0 229 (dk_at dksX9_next_13 14 rfl rfl)
theorem dX9_next_322 : decode cX9_next 322 = .ok (.aload_n 0, 1) := dk_42 (dk_at dksX9_next_13 17 rfl rfl)
theorem dX9_next_323 : decode cX9_next 323 = .ok (.dup, 1) := dk_89 (dk_at dksX9_next_13 18 rfl rfl)
theorem dX9_next_324 : decode cX9_next 324 = .ok (.getfield 216, 3) := dk_180 0 216 (dk_at dksX9_next_13 19 rfl rfl)
theorem dX9_next_327 : decode cX9_next 327 = .ok (.iconst 1, 1) := dk_4 (dk_at dksX9_next_13 22 rfl rfl)
theorem dX9_next_328 : decode cX9_next 328 = .ok (.iadd, 1) := dk_96 (dk_at dksX9_next_13 23 rfl rfl)
theorem dX9_next_329 : decode cX9_next 329 = .ok (.putfield 216, 3) := dk_181 0 216 (dk_at dksX9_next_14 0 rfl rfl)
theorem dX9_next_332 : decode cX9_next 332 = .ok (.goto (-89), 3) := dk_167 255 167 (dk_at dksX9_next_14 3 rfl rfl)
theorem dX9_next_335 : decode cX9_next 335 = .ok (.return_, 1) := dk_177 (dk_at dksX9_next_14 6 rfl rfl)
abbrev cX9_isSmall : ByteArray := prog_23_method_30_code
def yX9_isSmall : MethodName := ⟨RX9, "isSmall", "(I)Z"⟩
def dkwX9_isSmall_0 : List UInt8 := [26, 16, 97, 161, 0, 13, 26, 16, 122, 163, 0, 7, 4, 167, 0, 4, 3, 172]
abbrev dktX9_isSmall_0 : List UInt8 := dkwX9_isSmall_0 ++ []
theorem dksX9_isSmall_0 : cX9_isSmall.data.toList.drop 0 = dktX9_isSmall_0 := by decide +kernel
theorem dX9_isSmall_0 : decode cX9_isSmall 0 = .ok (.iload_n 0, 1) := dk_26 (dk_at dksX9_isSmall_0 0 rfl rfl)
theorem dX9_isSmall_1 : decode cX9_isSmall 1 = .ok (.bipush 97, 2) := dk_16 97 (dk_at dksX9_isSmall_0 1 rfl rfl)
theorem dX9_isSmall_3 : decode cX9_isSmall 3 = .ok (.if_icmp .lt 13, 3) := dk_161 0 13 (dk_at dksX9_isSmall_0 3 rfl rfl)
theorem dX9_isSmall_6 : decode cX9_isSmall 6 = .ok (.iload_n 0, 1) := dk_26 (dk_at dksX9_isSmall_0 6 rfl rfl)
theorem dX9_isSmall_7 : decode cX9_isSmall 7 = .ok (.bipush 122, 2) := dk_16 122 (dk_at dksX9_isSmall_0 7 rfl rfl)
theorem dX9_isSmall_9 : decode cX9_isSmall 9 = .ok (.if_icmp .gt 7, 3) := dk_163 0 7 (dk_at dksX9_isSmall_0 9 rfl rfl)
theorem dX9_isSmall_12 : decode cX9_isSmall 12 = .ok (.iconst 1, 1) := dk_4 (dk_at dksX9_isSmall_0 12 rfl rfl)
theorem dX9_isSmall_13 : decode cX9_isSmall 13 = .ok (.goto 4, 3) := dk_167 0 4 (dk_at dksX9_isSmall_0 13 rfl rfl)
theorem dX9_isSmall_16 : decode cX9_isSmall 16 = .ok (.iconst 0, 1) := dk_3 (dk_at dksX9_isSmall_0 16 rfl rfl)
theorem dX9_isSmall_17 : decode cX9_isSmall 17 = .ok (.ireturn, 1) := dk_172 (dk_at dksX9_isSmall_0 17 rfl rfl)
abbrev cX9_isDigit : ByteArray := prog_23_method_31_code
def yX9_isDigit : MethodName := ⟨RX9, "isDigit", "(I)Z"⟩
def dkwX9_isDigit_0 : List UInt8 := [26, 16, 48, 161, 0, 13, 26, 16, 57, 163, 0, 7, 4, 167, 0, 4, 3, 172]
abbrev dktX9_isDigit_0 : List UInt8 := dkwX9_isDigit_0 ++ []
theorem dksX9_isDigit_0 : cX9_isDigit.data.toList.drop 0 = dktX9_isDigit_0 := by decide +kernel
theorem dX9_isDigit_0 : decode cX9_isDigit 0 = .ok (.iload_n 0, 1) := dk_26 (dk_at dksX9_isDigit_0 0 rfl rfl)
theorem dX9_isDigit_1 : decode cX9_isDigit 1 = .ok (.bipush 48, 2) := dk_16 48 (dk_at dksX9_isDigit_0 1 rfl rfl)
theorem dX9_isDigit_3 : decode cX9_isDigit 3 = .ok (.if_icmp .lt 13, 3) := dk_161 0 13 (dk_at dksX9_isDigit_0 3 rfl rfl)
theorem dX9_isDigit_6 : decode cX9_isDigit 6 = .ok (.iload_n 0, 1) := dk_26 (dk_at dksX9_isDigit_0 6 rfl rfl)
theorem dX9_isDigit_7 : decode cX9_isDigit 7 = .ok (.bipush 57, 2) := dk_16 57 (dk_at dksX9_isDigit_0 7 rfl rfl)
theorem dX9_isDigit_9 : decode cX9_isDigit 9 = .ok (.if_icmp .gt 7, 3) := dk_163 0 7 (dk_at dksX9_isDigit_0 9 rfl rfl)
theorem dX9_isDigit_12 : decode cX9_isDigit 12 = .ok (.iconst 1, 1) := dk_4 (dk_at dksX9_isDigit_0 12 rfl rfl)
theorem dX9_isDigit_13 : decode cX9_isDigit 13 = .ok (.goto 4, 3) := dk_167 0 4 (dk_at dksX9_isDigit_0 13 rfl rfl)
theorem dX9_isDigit_16 : decode cX9_isDigit 16 = .ok (.iconst 0, 1) := dk_3 (dk_at dksX9_isDigit_0 16 rfl rfl)
theorem dX9_isDigit_17 : decode cX9_isDigit 17 = .ok (.ireturn, 1) := dk_172 (dk_at dksX9_isDigit_0 17 rfl rfl)
abbrev cX9_readClause : ByteArray := prog_23_method_53_code
def yX9_readClause : MethodName := ⟨RX9, "readClause", "()V"⟩
def dkwX9_readClause_8 : List UInt8 := [182, 1, 80, 42, 180, 0, 30, 28, 16, 6, 96, 42, 180, 1, 2, 79, 177]
abbrev dktX9_readClause_8 : List UInt8 := dkwX9_readClause_8 ++ []
def dkwX9_readClause_7 : List UInt8 := [180, 0, 219, 154, 0, 22, 42, 20, 1, 83, 182, 1, 19, 153, 0, 12, 42, 182, 0, 223, 42, 4]
abbrev dktX9_readClause_7 : List UInt8 := dkwX9_readClause_7 ++ dktX9_readClause_8
def dkwX9_readClause_6 : List UInt8 := [180, 0, 30, 28, 7, 96, 42, 180, 1, 2, 79, 42, 180, 0, 30, 28, 8, 96, 42, 180, 1, 2, 79, 42]
abbrev dktX9_readClause_6 : List UInt8 := dkwX9_readClause_6 ++ dktX9_readClause_7
def dkwX9_readClause_5 : List UInt8 := [180, 0, 30, 28, 6, 96, 42, 180, 1, 2, 79, 27, 5, 162, 0, 8, 42, 3, 182, 1, 80, 42]
abbrev dktX9_readClause_5 : List UInt8 := dkwX9_readClause_5 ++ dktX9_readClause_6
def dkwX9_readClause_4 : List UInt8 := [132, 3, 1, 167, 255, 238, 42, 180, 0, 30, 28, 27, 79, 42, 89, 180, 1, 77, 4, 96, 181, 1, 77, 42]
abbrev dktX9_readClause_4 : List UInt8 := dkwX9_readClause_4 ++ dktX9_readClause_5
def dkwX9_readClause_3 : List UInt8 := [180, 1, 77, 104, 61, 3, 62, 29, 16, 8, 162, 0, 18, 42, 180, 0, 30, 28, 29, 96, 3, 79]
abbrev dktX9_readClause_3 : List UInt8 := dkwX9_readClause_3 ++ dktX9_readClause_4
def dkwX9_readClause_2 : List UInt8 := [162, 0, 7, 4, 167, 0, 4, 3, 182, 0, 254, 42, 180, 0, 219, 153, 0, 4, 177, 16, 8, 42]
abbrev dktX9_readClause_2 : List UInt8 := dkwX9_readClause_2 ++ dktX9_readClause_3
def dkwX9_readClause_1 : List UInt8 := [167, 0, 4, 27, 60, 132, 2, 1, 167, 255, 229, 42, 27, 2, 159, 0, 16, 42, 180, 1, 77, 16, 12]
abbrev dktX9_readClause_1 : List UInt8 := dkwX9_readClause_1 ++ dktX9_readClause_2
def dkwX9_readClause_0 : List UInt8 := [2, 60, 3, 61, 28, 6, 162, 0, 28, 42, 42, 180, 0, 75, 28, 47, 182, 1, 19, 153, 0, 7, 28]
abbrev dktX9_readClause_0 : List UInt8 := dkwX9_readClause_0 ++ dktX9_readClause_1
theorem dksX9_readClause_0 : cX9_readClause.data.toList.drop 0 = dktX9_readClause_0 := by decide +kernel
theorem dksX9_readClause_1 : cX9_readClause.data.toList.drop 23 = dktX9_readClause_1 := dk_seg dksX9_readClause_0 23 rfl rfl
theorem dksX9_readClause_2 : cX9_readClause.data.toList.drop 46 = dktX9_readClause_2 := dk_seg dksX9_readClause_1 23 rfl rfl
theorem dksX9_readClause_3 : cX9_readClause.data.toList.drop 68 = dktX9_readClause_3 := dk_seg dksX9_readClause_2 22 rfl rfl
theorem dksX9_readClause_4 : cX9_readClause.data.toList.drop 90 = dktX9_readClause_4 := dk_seg dksX9_readClause_3 22 rfl rfl
theorem dksX9_readClause_5 : cX9_readClause.data.toList.drop 114 = dktX9_readClause_5 := dk_seg dksX9_readClause_4 24 rfl rfl
theorem dksX9_readClause_6 : cX9_readClause.data.toList.drop 136 = dktX9_readClause_6 := dk_seg dksX9_readClause_5 22 rfl rfl
theorem dksX9_readClause_7 : cX9_readClause.data.toList.drop 160 = dktX9_readClause_7 := dk_seg dksX9_readClause_6 24 rfl rfl
theorem dksX9_readClause_8 : cX9_readClause.data.toList.drop 182 = dktX9_readClause_8 := dk_seg dksX9_readClause_7 22 rfl rfl
theorem dX9_readClause_0 : decode cX9_readClause 0 = .ok (.iconst (-1), 1) := dk_2 (dk_at dksX9_readClause_0 0 rfl rfl)
theorem dX9_readClause_1 : decode cX9_readClause 1 = .ok (.istore_n 1, 1) := dk_60 (dk_at dksX9_readClause_0 1 rfl rfl)
theorem dX9_readClause_2 : decode cX9_readClause 2 = .ok (.iconst 0, 1) := dk_3 (dk_at dksX9_readClause_0 2 rfl rfl)
theorem dX9_readClause_3 : decode cX9_readClause 3 = .ok (.istore_n 2, 1) := dk_61 (dk_at dksX9_readClause_0 3 rfl rfl)
theorem dX9_readClause_4 : decode cX9_readClause 4 = .ok (.iload_n 2, 1) := dk_28 (dk_at dksX9_readClause_0 4 rfl rfl)
theorem dX9_readClause_5 : decode cX9_readClause 5 = .ok (.iconst 3, 1) := dk_6 (dk_at dksX9_readClause_0 5 rfl rfl)
theorem dX9_readClause_6 : decode cX9_readClause 6 = .ok (.if_icmp .ge 28, 3) := dk_162 0 28 (dk_at dksX9_readClause_0 6 rfl rfl)
theorem dX9_readClause_9 : decode cX9_readClause 9 = .ok (.aload_n 0, 1) := dk_42 (dk_at dksX9_readClause_0 9 rfl rfl)
theorem dX9_readClause_10 : decode cX9_readClause 10 = .ok (.aload_n 0, 1) := dk_42 (dk_at dksX9_readClause_0 10 rfl rfl)
theorem dX9_readClause_11 : decode cX9_readClause 11 = .ok (.getfield 75, 3) := dk_180 0 75 (dk_at dksX9_readClause_0 11 rfl rfl)
theorem dX9_readClause_14 : decode cX9_readClause 14 = .ok (.iload_n 2, 1) := dk_28 (dk_at dksX9_readClause_0 14 rfl rfl)
theorem dX9_readClause_15 : decode cX9_readClause 15 = .ok (.laload, 1) := dk_47 (dk_at dksX9_readClause_0 15 rfl rfl)
theorem dX9_readClause_16 : decode cX9_readClause 16 = .ok (.invokevirtual 275, 3) := dk_182 1 19 (dk_at dksX9_readClause_0 16 rfl rfl)
theorem dX9_readClause_19 : decode cX9_readClause 19 = .ok (.ifCond .eq 7, 3) := dk_153 0 7 (dk_at dksX9_readClause_0 19 rfl rfl)
theorem dX9_readClause_22 : decode cX9_readClause 22 = .ok (.iload_n 2, 1) := dk_28 (dk_at dksX9_readClause_0 22 rfl rfl)
theorem dX9_readClause_23 : decode cX9_readClause 23 = .ok (.goto 4, 3) := dk_167 0 4 (dk_at dksX9_readClause_1 0 rfl rfl)
theorem dX9_readClause_26 : decode cX9_readClause 26 = .ok (.iload_n 1, 1) := dk_27 (dk_at dksX9_readClause_1 3 rfl rfl)
theorem dX9_readClause_27 : decode cX9_readClause 27 = .ok (.istore_n 1, 1) := dk_60 (dk_at dksX9_readClause_1 4 rfl rfl)
theorem dX9_readClause_28 : decode cX9_readClause 28 = .ok (.iinc 2 1, 3) := dk_132 2 1 (dk_at dksX9_readClause_1 5 rfl rfl)
theorem dX9_readClause_31 : decode cX9_readClause 31 = .ok (.goto (-27), 3) := dk_167 255 229 (dk_at dksX9_readClause_1 8 rfl rfl)
theorem dX9_readClause_34 : decode cX9_readClause 34 = .ok (.aload_n 0, 1) := dk_42 (dk_at dksX9_readClause_1 11 rfl rfl)
theorem dX9_readClause_35 : decode cX9_readClause 35 = .ok (.iload_n 1, 1) := dk_27 (dk_at dksX9_readClause_1 12 rfl rfl)
theorem dX9_readClause_36 : decode cX9_readClause 36 = .ok (.iconst (-1), 1) := dk_2 (dk_at dksX9_readClause_1 13 rfl rfl)
theorem dX9_readClause_37 : decode cX9_readClause 37 = .ok (.if_icmp .eq 16, 3) := dk_159 0 16 (dk_at dksX9_readClause_1 14 rfl rfl)
theorem dX9_readClause_40 : decode cX9_readClause 40 = .ok (.aload_n 0, 1) := dk_42 (dk_at dksX9_readClause_1 17 rfl rfl)
theorem dX9_readClause_41 : decode cX9_readClause 41 = .ok (.getfield 333, 3) := dk_180 1 77 (dk_at dksX9_readClause_1 18 rfl rfl)
theorem dX9_readClause_44 : decode cX9_readClause 44 = .ok (.bipush 12, 2) := dk_16 12 (dk_at dksX9_readClause_1 21 rfl rfl)
theorem dX9_readClause_46 : decode cX9_readClause 46 = .ok (.if_icmp .ge 7, 3) := dk_162 0 7 (dk_at dksX9_readClause_2 0 rfl rfl)
theorem dX9_readClause_49 : decode cX9_readClause 49 = .ok (.iconst 1, 1) := dk_4 (dk_at dksX9_readClause_2 3 rfl rfl)
theorem dX9_readClause_50 : decode cX9_readClause 50 = .ok (.goto 4, 3) := dk_167 0 4 (dk_at dksX9_readClause_2 4 rfl rfl)
theorem dX9_readClause_53 : decode cX9_readClause 53 = .ok (.iconst 0, 1) := dk_3 (dk_at dksX9_readClause_2 7 rfl rfl)
theorem dX9_readClause_54 : decode cX9_readClause 54 = .ok (.invokevirtual 254, 3) := dk_182 0 254 (dk_at dksX9_readClause_2 8 rfl rfl)
theorem dX9_readClause_57 : decode cX9_readClause 57 = .ok (.aload_n 0, 1) := dk_42 (dk_at dksX9_readClause_2 11 rfl rfl)
theorem dX9_readClause_58 : decode cX9_readClause 58 = .ok (.getfield 219, 3) := dk_180 0 219 (dk_at dksX9_readClause_2 12 rfl rfl)
theorem dX9_readClause_61 : decode cX9_readClause 61 = .ok (.ifCond .eq 4, 3) := dk_153 0 4 (dk_at dksX9_readClause_2 15 rfl rfl)
theorem dX9_readClause_64 : decode cX9_readClause 64 = .ok (.return_, 1) := dk_177 (dk_at dksX9_readClause_2 18 rfl rfl)
theorem dX9_readClause_65 : decode cX9_readClause 65 = .ok (.bipush 8, 2) := dk_16 8 (dk_at dksX9_readClause_2 19 rfl rfl)
theorem dX9_readClause_67 : decode cX9_readClause 67 = .ok (.aload_n 0, 1) := dk_42 (dk_at dksX9_readClause_2 21 rfl rfl)
theorem dX9_readClause_68 : decode cX9_readClause 68 = .ok (.getfield 333, 3) := dk_180 1 77 (dk_at dksX9_readClause_3 0 rfl rfl)
theorem dX9_readClause_71 : decode cX9_readClause 71 = .ok (.imul, 1) := dk_104 (dk_at dksX9_readClause_3 3 rfl rfl)
theorem dX9_readClause_72 : decode cX9_readClause 72 = .ok (.istore_n 2, 1) := dk_61 (dk_at dksX9_readClause_3 4 rfl rfl)
theorem dX9_readClause_73 : decode cX9_readClause 73 = .ok (.iconst 0, 1) := dk_3 (dk_at dksX9_readClause_3 5 rfl rfl)
theorem dX9_readClause_74 : decode cX9_readClause 74 = .ok (.istore_n 3, 1) := dk_62 (dk_at dksX9_readClause_3 6 rfl rfl)
theorem dX9_readClause_75 : decode cX9_readClause 75 = .ok (.iload_n 3, 1) := dk_29 (dk_at dksX9_readClause_3 7 rfl rfl)
theorem dX9_readClause_76 : decode cX9_readClause 76 = .ok (.bipush 8, 2) := dk_16 8 (dk_at dksX9_readClause_3 8 rfl rfl)
theorem dX9_readClause_78 : decode cX9_readClause 78 = .ok (.if_icmp .ge 18, 3) := dk_162 0 18 (dk_at dksX9_readClause_3 10 rfl rfl)
theorem dX9_readClause_81 : decode cX9_readClause 81 = .ok (.aload_n 0, 1) := dk_42 (dk_at dksX9_readClause_3 13 rfl rfl)
theorem dX9_readClause_82 : decode cX9_readClause 82 = .ok (.getfield 30, 3) := dk_180 0 30 (dk_at dksX9_readClause_3 14 rfl rfl)
theorem dX9_readClause_85 : decode cX9_readClause 85 = .ok (.iload_n 2, 1) := dk_28 (dk_at dksX9_readClause_3 17 rfl rfl)
theorem dX9_readClause_86 : decode cX9_readClause 86 = .ok (.iload_n 3, 1) := dk_29 (dk_at dksX9_readClause_3 18 rfl rfl)
theorem dX9_readClause_87 : decode cX9_readClause 87 = .ok (.iadd, 1) := dk_96 (dk_at dksX9_readClause_3 19 rfl rfl)
theorem dX9_readClause_88 : decode cX9_readClause 88 = .ok (.iconst 0, 1) := dk_3 (dk_at dksX9_readClause_3 20 rfl rfl)
theorem dX9_readClause_89 : decode cX9_readClause 89 = .ok (.iastore, 1) := dk_79 (dk_at dksX9_readClause_3 21 rfl rfl)
theorem dX9_readClause_90 : decode cX9_readClause 90 = .ok (.iinc 3 1, 3) := dk_132 3 1 (dk_at dksX9_readClause_4 0 rfl rfl)
theorem dX9_readClause_93 : decode cX9_readClause 93 = .ok (.goto (-18), 3) := dk_167 255 238 (dk_at dksX9_readClause_4 3 rfl rfl)
theorem dX9_readClause_96 : decode cX9_readClause 96 = .ok (.aload_n 0, 1) := dk_42 (dk_at dksX9_readClause_4 6 rfl rfl)
theorem dX9_readClause_97 : decode cX9_readClause 97 = .ok (.getfield 30, 3) := dk_180 0 30 (dk_at dksX9_readClause_4 7 rfl rfl)
theorem dX9_readClause_100 : decode cX9_readClause 100 = .ok (.iload_n 2, 1) := dk_28 (dk_at dksX9_readClause_4 10 rfl rfl)
theorem dX9_readClause_101 : decode cX9_readClause 101 = .ok (.iload_n 1, 1) := dk_27 (dk_at dksX9_readClause_4 11 rfl rfl)
theorem dX9_readClause_102 : decode cX9_readClause 102 = .ok (.iastore, 1) := dk_79 (dk_at dksX9_readClause_4 12 rfl rfl)
theorem dX9_readClause_103 : decode cX9_readClause 103 = .ok (.aload_n 0, 1) := dk_42 (dk_at dksX9_readClause_4 13 rfl rfl)
theorem dX9_readClause_104 : decode cX9_readClause 104 = .ok (.dup, 1) := dk_89 (dk_at dksX9_readClause_4 14 rfl rfl)
theorem dX9_readClause_105 : decode cX9_readClause 105 = .ok (.getfield 333, 3) := dk_180 1 77 (dk_at dksX9_readClause_4 15 rfl rfl)
theorem dX9_readClause_108 : decode cX9_readClause 108 = .ok (.iconst 1, 1) := dk_4 (dk_at dksX9_readClause_4 18 rfl rfl)
theorem dX9_readClause_109 : decode cX9_readClause 109 = .ok (.iadd, 1) := dk_96 (dk_at dksX9_readClause_4 19 rfl rfl)
theorem dX9_readClause_110 : decode cX9_readClause 110 = .ok (.putfield 333, 3) := dk_181 1 77 (dk_at dksX9_readClause_4 20 rfl rfl)
theorem dX9_readClause_113 : decode cX9_readClause 113 = .ok (.aload_n 0, 1) := dk_42 (dk_at dksX9_readClause_4 23 rfl rfl)
theorem dX9_readClause_114 : decode cX9_readClause 114 = .ok (.getfield 30, 3) := dk_180 0 30 (dk_at dksX9_readClause_5 0 rfl rfl)
theorem dX9_readClause_117 : decode cX9_readClause 117 = .ok (.iload_n 2, 1) := dk_28 (dk_at dksX9_readClause_5 3 rfl rfl)
theorem dX9_readClause_118 : decode cX9_readClause 118 = .ok (.iconst 3, 1) := dk_6 (dk_at dksX9_readClause_5 4 rfl rfl)
theorem dX9_readClause_119 : decode cX9_readClause 119 = .ok (.iadd, 1) := dk_96 (dk_at dksX9_readClause_5 5 rfl rfl)
theorem dX9_readClause_120 : decode cX9_readClause 120 = .ok (.aload_n 0, 1) := dk_42 (dk_at dksX9_readClause_5 6 rfl rfl)
theorem dX9_readClause_121 : decode cX9_readClause 121 = .ok (.getfield 258, 3) := dk_180 1 2 (dk_at dksX9_readClause_5 7 rfl rfl)
theorem dX9_readClause_124 : decode cX9_readClause 124 = .ok (.iastore, 1) := dk_79 (dk_at dksX9_readClause_5 10 rfl rfl)
theorem dX9_readClause_125 : decode cX9_readClause 125 = .ok (.iload_n 1, 1) := dk_27 (dk_at dksX9_readClause_5 11 rfl rfl)
theorem dX9_readClause_126 : decode cX9_readClause 126 = .ok (.iconst 2, 1) := dk_5 (dk_at dksX9_readClause_5 12 rfl rfl)
theorem dX9_readClause_127 : decode cX9_readClause 127 = .ok (.if_icmp .ge 8, 3) := dk_162 0 8 (dk_at dksX9_readClause_5 13 rfl rfl)
theorem dX9_readClause_130 : decode cX9_readClause 130 = .ok (.aload_n 0, 1) := dk_42 (dk_at dksX9_readClause_5 16 rfl rfl)
theorem dX9_readClause_131 : decode cX9_readClause 131 = .ok (.iconst 0, 1) := dk_3 (dk_at dksX9_readClause_5 17 rfl rfl)
theorem dX9_readClause_132 : decode cX9_readClause 132 = .ok (.invokevirtual 336, 3) := dk_182 1 80 (dk_at dksX9_readClause_5 18 rfl rfl)
theorem dX9_readClause_135 : decode cX9_readClause 135 = .ok (.aload_n 0, 1) := dk_42 (dk_at dksX9_readClause_5 21 rfl rfl)
theorem dX9_readClause_136 : decode cX9_readClause 136 = .ok (.getfield 30, 3) := dk_180 0 30 (dk_at dksX9_readClause_6 0 rfl rfl)
theorem dX9_readClause_139 : decode cX9_readClause 139 = .ok (.iload_n 2, 1) := dk_28 (dk_at dksX9_readClause_6 3 rfl rfl)
theorem dX9_readClause_140 : decode cX9_readClause 140 = .ok (.iconst 4, 1) := dk_7 (dk_at dksX9_readClause_6 4 rfl rfl)
theorem dX9_readClause_141 : decode cX9_readClause 141 = .ok (.iadd, 1) := dk_96 (dk_at dksX9_readClause_6 5 rfl rfl)
theorem dX9_readClause_142 : decode cX9_readClause 142 = .ok (.aload_n 0, 1) := dk_42 (dk_at dksX9_readClause_6 6 rfl rfl)
theorem dX9_readClause_143 : decode cX9_readClause 143 = .ok (.getfield 258, 3) := dk_180 1 2 (dk_at dksX9_readClause_6 7 rfl rfl)
theorem dX9_readClause_146 : decode cX9_readClause 146 = .ok (.iastore, 1) := dk_79 (dk_at dksX9_readClause_6 10 rfl rfl)
theorem dX9_readClause_147 : decode cX9_readClause 147 = .ok (.aload_n 0, 1) := dk_42 (dk_at dksX9_readClause_6 11 rfl rfl)
theorem dX9_readClause_148 : decode cX9_readClause 148 = .ok (.getfield 30, 3) := dk_180 0 30 (dk_at dksX9_readClause_6 12 rfl rfl)
theorem dX9_readClause_151 : decode cX9_readClause 151 = .ok (.iload_n 2, 1) := dk_28 (dk_at dksX9_readClause_6 15 rfl rfl)
theorem dX9_readClause_152 : decode cX9_readClause 152 = .ok (.iconst 5, 1) := dk_8 (dk_at dksX9_readClause_6 16 rfl rfl)
theorem dX9_readClause_153 : decode cX9_readClause 153 = .ok (.iadd, 1) := dk_96 (dk_at dksX9_readClause_6 17 rfl rfl)
theorem dX9_readClause_154 : decode cX9_readClause 154 = .ok (.aload_n 0, 1) := dk_42 (dk_at dksX9_readClause_6 18 rfl rfl)
theorem dX9_readClause_155 : decode cX9_readClause 155 = .ok (.getfield 258, 3) := dk_180 1 2 (dk_at dksX9_readClause_6 19 rfl rfl)
theorem dX9_readClause_158 : decode cX9_readClause 158 = .ok (.iastore, 1) := dk_79 (dk_at dksX9_readClause_6 22 rfl rfl)
theorem dX9_readClause_159 : decode cX9_readClause 159 = .ok (.aload_n 0, 1) := dk_42 (dk_at dksX9_readClause_6 23 rfl rfl)
theorem dX9_readClause_160 : decode cX9_readClause 160 = .ok (.getfield 219, 3) := dk_180 0 219 (dk_at dksX9_readClause_7 0 rfl rfl)
theorem dX9_readClause_163 : decode cX9_readClause 163 = .ok (.ifCond .ne 22, 3) := dk_154 0 22 (dk_at dksX9_readClause_7 3 rfl rfl)
theorem dX9_readClause_166 : decode cX9_readClause 166 = .ok (.aload_n 0, 1) := dk_42 (dk_at dksX9_readClause_7 6 rfl rfl)
theorem dX9_readClause_167 : decode cX9_readClause 167 = .ok (.ldc2_w 339, 3) := dk_20 1 83 (dk_at dksX9_readClause_7 7 rfl rfl)
theorem dX9_readClause_170 : decode cX9_readClause 170 = .ok (.invokevirtual 275, 3) := dk_182 1 19 (dk_at dksX9_readClause_7 10 rfl rfl)
theorem dX9_readClause_173 : decode cX9_readClause 173 = .ok (.ifCond .eq 12, 3) := dk_153 0 12 (dk_at dksX9_readClause_7 13 rfl rfl)
theorem dX9_readClause_176 : decode cX9_readClause 176 = .ok (.aload_n 0, 1) := dk_42 (dk_at dksX9_readClause_7 16 rfl rfl)
theorem dX9_readClause_177 : decode cX9_readClause 177 = .ok (.invokevirtual 223, 3) := dk_182 0 223 (dk_at dksX9_readClause_7 17 rfl rfl)
theorem dX9_readClause_180 : decode cX9_readClause 180 = .ok (.aload_n 0, 1) := dk_42 (dk_at dksX9_readClause_7 20 rfl rfl)
theorem dX9_readClause_181 : decode cX9_readClause 181 = .ok (.iconst 1, 1) := dk_4 (dk_at dksX9_readClause_7 21 rfl rfl)
theorem dX9_readClause_182 : decode cX9_readClause 182 = .ok (.invokevirtual 336, 3) := dk_182 1 80 (dk_at dksX9_readClause_8 0 rfl rfl)
theorem dX9_readClause_185 : decode cX9_readClause 185 = .ok (.aload_n 0, 1) := dk_42 (dk_at dksX9_readClause_8 3 rfl rfl)
theorem dX9_readClause_186 : decode cX9_readClause 186 = .ok (.getfield 30, 3) := dk_180 0 30 (dk_at dksX9_readClause_8 4 rfl rfl)
theorem dX9_readClause_189 : decode cX9_readClause 189 = .ok (.iload_n 2, 1) := dk_28 (dk_at dksX9_readClause_8 7 rfl rfl)
theorem dX9_readClause_190 : decode cX9_readClause 190 = .ok (.bipush 6, 2) := dk_16 6 (dk_at dksX9_readClause_8 8 rfl rfl)
theorem dX9_readClause_192 : decode cX9_readClause 192 = .ok (.iadd, 1) := dk_96 (dk_at dksX9_readClause_8 10 rfl rfl)
theorem dX9_readClause_193 : decode cX9_readClause 193 = .ok (.aload_n 0, 1) := dk_42 (dk_at dksX9_readClause_8 11 rfl rfl)
theorem dX9_readClause_194 : decode cX9_readClause 194 = .ok (.getfield 258, 3) := dk_180 1 2 (dk_at dksX9_readClause_8 12 rfl rfl)
theorem dX9_readClause_197 : decode cX9_readClause 197 = .ok (.iastore, 1) := dk_79 (dk_at dksX9_readClause_8 15 rfl rfl)
theorem dX9_readClause_198 : decode cX9_readClause 198 = .ok (.return_, 1) := dk_177 (dk_at dksX9_readClause_8 16 rfl rfl)
abbrev cX9_isWord : ByteArray := prog_23_method_34_code
def yX9_isWord : MethodName := ⟨RX9, "isWord", "(J)Z"⟩
def dkwX9_isWord_0 : List UInt8 := [42, 180, 0, 239, 4, 160, 0, 16, 42, 180, 0, 229, 31, 148, 154, 0, 7, 4, 167, 0, 4, 3, 172]
abbrev dktX9_isWord_0 : List UInt8 := dkwX9_isWord_0 ++ []
theorem dksX9_isWord_0 : cX9_isWord.data.toList.drop 0 = dktX9_isWord_0 := by decide +kernel
theorem dX9_isWord_0 : decode cX9_isWord 0 = .ok (.aload_n 0, 1) := dk_42 (dk_at dksX9_isWord_0 0 rfl rfl)
theorem dX9_isWord_1 : decode cX9_isWord 1 = .ok (.getfield 239, 3) := dk_180 0 239 (dk_at dksX9_isWord_0 1 rfl rfl)
theorem dX9_isWord_4 : decode cX9_isWord 4 = .ok (.iconst 1, 1) := dk_4 (dk_at dksX9_isWord_0 4 rfl rfl)
theorem dX9_isWord_5 : decode cX9_isWord 5 = .ok (.if_icmp .ne 16, 3) := dk_160 0 16 (dk_at dksX9_isWord_0 5 rfl rfl)
theorem dX9_isWord_8 : decode cX9_isWord 8 = .ok (.aload_n 0, 1) := dk_42 (dk_at dksX9_isWord_0 8 rfl rfl)
theorem dX9_isWord_9 : decode cX9_isWord 9 = .ok (.getfield 229, 3) := dk_180 0 229 (dk_at dksX9_isWord_0 9 rfl rfl)
theorem dX9_isWord_12 : decode cX9_isWord 12 = .ok (.lload_n 1, 1) := dk_31 (dk_at dksX9_isWord_0 12 rfl rfl)
theorem dX9_isWord_13 : decode cX9_isWord 13 = .ok (.lcmp, 1) := dk_148 (dk_at dksX9_isWord_0 13 rfl rfl)
theorem dX9_isWord_14 : decode cX9_isWord 14 = .ok (.ifCond .ne 7, 3) := dk_154 0 7 (dk_at dksX9_isWord_0 14 rfl rfl)
theorem dX9_isWord_17 : decode cX9_isWord 17 = .ok (.iconst 1, 1) := dk_4 (dk_at dksX9_isWord_0 17 rfl rfl)
theorem dX9_isWord_18 : decode cX9_isWord 18 = .ok (.goto 4, 3) := dk_167 0 4 (dk_at dksX9_isWord_0 18 rfl rfl)
theorem dX9_isWord_21 : decode cX9_isWord 21 = .ok (.iconst 0, 1) := dk_3 (dk_at dksX9_isWord_0 21 rfl rfl)
theorem dX9_isWord_22 : decode cX9_isWord 22 = .ok (.ireturn, 1) := dk_172 (dk_at dksX9_isWord_0 22 rfl rfl)
abbrev cX9_must : ByteArray := prog_23_method_36_code
def yX9_must : MethodName := ⟨RX9, "must", "(Z)V"⟩
def dkwX9_must_1 : List UInt8 := [42, 180, 0, 219, 154, 0, 7, 42, 182, 0, 223, 177]
abbrev dktX9_must_1 : List UInt8 := dkwX9_must_1 ++ []
def dkwX9_must_0 : List UInt8 := [42, 180, 0, 219, 154, 0, 20, 27, 154, 0, 16, 42, 4, 181, 0, 219, 42, 42, 180, 0, 226, 181, 0, 26]
abbrev dktX9_must_0 : List UInt8 := dkwX9_must_0 ++ dktX9_must_1
theorem dksX9_must_0 : cX9_must.data.toList.drop 0 = dktX9_must_0 := by decide +kernel
theorem dksX9_must_1 : cX9_must.data.toList.drop 24 = dktX9_must_1 := dk_seg dksX9_must_0 24 rfl rfl
theorem dX9_must_0 : decode cX9_must 0 = .ok (.aload_n 0, 1) := dk_42 (dk_at dksX9_must_0 0 rfl rfl)
theorem dX9_must_1 : decode cX9_must 1 = .ok (.getfield 219, 3) := dk_180 0 219 (dk_at dksX9_must_0 1 rfl rfl)
theorem dX9_must_4 : decode cX9_must 4 = .ok (.ifCond .ne 20, 3) := dk_154 0 20 (dk_at dksX9_must_0 4 rfl rfl)
theorem dX9_must_7 : decode cX9_must 7 = .ok (.iload_n 1, 1) := dk_27 (dk_at dksX9_must_0 7 rfl rfl)
theorem dX9_must_8 : decode cX9_must 8 = .ok (.ifCond .ne 16, 3) := dk_154 0 16 (dk_at dksX9_must_0 8 rfl rfl)
theorem dX9_must_11 : decode cX9_must 11 = .ok (.aload_n 0, 1) := dk_42 (dk_at dksX9_must_0 11 rfl rfl)
theorem dX9_must_12 : decode cX9_must 12 = .ok (.iconst 1, 1) := dk_4 (dk_at dksX9_must_0 12 rfl rfl)
theorem dX9_must_13 : decode cX9_must 13 = .ok (.putfield 219, 3) := dk_181 0 219 (dk_at dksX9_must_0 13 rfl rfl)
theorem dX9_must_16 : decode cX9_must 16 = .ok (.aload_n 0, 1) := dk_42 (dk_at dksX9_must_0 16 rfl rfl)
theorem dX9_must_17 : decode cX9_must 17 = .ok (.aload_n 0, 1) := dk_42 (dk_at dksX9_must_0 17 rfl rfl)
theorem dX9_must_18 : decode cX9_must 18 = .ok (.getfield 226, 3) := dk_180 0 226 (dk_at dksX9_must_0 18 rfl rfl)
theorem dX9_must_21 : decode cX9_must 21 = .ok (.putfield 26, 3) := dk_181 0 26 (dk_at dksX9_must_0 21 rfl rfl)
theorem dX9_must_24 : decode cX9_must 24 = .ok (.aload_n 0, 1) := dk_42 (dk_at dksX9_must_1 0 rfl rfl)
theorem dX9_must_25 : decode cX9_must 25 = .ok (.getfield 219, 3) := dk_180 0 219 (dk_at dksX9_must_1 1 rfl rfl)
theorem dX9_must_28 : decode cX9_must 28 = .ok (.ifCond .ne 7, 3) := dk_154 0 7 (dk_at dksX9_must_1 4 rfl rfl)
theorem dX9_must_31 : decode cX9_must 31 = .ok (.aload_n 0, 1) := dk_42 (dk_at dksX9_must_1 7 rfl rfl)
theorem dX9_must_32 : decode cX9_must 32 = .ok (.invokevirtual 223, 3) := dk_182 0 223 (dk_at dksX9_must_1 8 rfl rfl)
theorem dX9_must_35 : decode cX9_must 35 = .ok (.return_, 1) := dk_177 (dk_at dksX9_must_1 11 rfl rfl)
abbrev cX9_readExpression : ByteArray := prog_23_method_52_code
def yX9_readExpression : MethodName := ⟨RX9, "readExpression", "(Z)V"⟩
def dkwX9_readExpression_3 : List UInt8 := [61, 167, 255, 203, 42, 4, 182, 1, 53, 177]
abbrev dktX9_readExpression_3 : List UInt8 := dkwX9_readExpression_3 ++ []
def dkwX9_readExpression_2 : List UInt8 := [42, 182, 1, 50, 167, 0, 20, 28, 6, 160, 0, 11, 42, 27, 182, 1, 70, 167, 0, 7, 42, 182, 1, 74]
abbrev dktX9_readExpression_2 : List UInt8 := dkwX9_readExpression_2 ++ dktX9_readExpression_3
def dkwX9_readExpression_1 : List UInt8 := [154, 0, 52, 28, 7, 159, 0, 47, 28, 154, 0, 10, 42, 182, 1, 67, 167, 0, 32, 28, 4, 160, 0, 10]
abbrev dktX9_readExpression_1 : List UInt8 := dkwX9_readExpression_1 ++ dktX9_readExpression_2
def dkwX9_readExpression_0 : List UInt8 := [42, 3, 181, 1, 5, 42, 3, 181, 1, 23, 27, 153, 0, 7, 3, 167, 0, 4, 4, 61, 42, 180, 0, 219]
abbrev dktX9_readExpression_0 : List UInt8 := dkwX9_readExpression_0 ++ dktX9_readExpression_1
theorem dksX9_readExpression_0 : cX9_readExpression.data.toList.drop 0 = dktX9_readExpression_0 := by decide +kernel
theorem dksX9_readExpression_1 : cX9_readExpression.data.toList.drop 24 = dktX9_readExpression_1 := dk_seg dksX9_readExpression_0 24 rfl rfl
theorem dksX9_readExpression_2 : cX9_readExpression.data.toList.drop 48 = dktX9_readExpression_2 := dk_seg dksX9_readExpression_1 24 rfl rfl
theorem dksX9_readExpression_3 : cX9_readExpression.data.toList.drop 72 = dktX9_readExpression_3 := dk_seg dksX9_readExpression_2 24 rfl rfl
theorem dX9_readExpression_0 : decode cX9_readExpression 0 = .ok (.aload_n 0, 1) := dk_42 (dk_at dksX9_readExpression_0 0 rfl rfl)
theorem dX9_readExpression_1 : decode cX9_readExpression 1 = .ok (.iconst 0, 1) := dk_3 (dk_at dksX9_readExpression_0 1 rfl rfl)
theorem dX9_readExpression_2 : decode cX9_readExpression 2 = .ok (.putfield 261, 3) := dk_181 1 5 (dk_at dksX9_readExpression_0 2 rfl rfl)
theorem dX9_readExpression_5 : decode cX9_readExpression 5 = .ok (.aload_n 0, 1) := dk_42 (dk_at dksX9_readExpression_0 5 rfl rfl)
theorem dX9_readExpression_6 : decode cX9_readExpression 6 = .ok (.iconst 0, 1) := dk_3 (dk_at dksX9_readExpression_0 6 rfl rfl)
theorem dX9_readExpression_7 : decode cX9_readExpression 7 = .ok (.putfield 279, 3) := dk_181 1 23 (dk_at dksX9_readExpression_0 7 rfl rfl)
theorem dX9_readExpression_10 : decode cX9_readExpression 10 = .ok (.iload_n 1, 1) := dk_27 (dk_at dksX9_readExpression_0 10 rfl rfl)
theorem dX9_readExpression_11 : decode cX9_readExpression 11 = .ok (.ifCond .eq 7, 3) := dk_153 0 7 (dk_at dksX9_readExpression_0 11 rfl rfl)
theorem dX9_readExpression_14 : decode cX9_readExpression 14 = .ok (.iconst 0, 1) := dk_3 (dk_at dksX9_readExpression_0 14 rfl rfl)
theorem dX9_readExpression_15 : decode cX9_readExpression 15 = .ok (.goto 4, 3) := dk_167 0 4 (dk_at dksX9_readExpression_0 15 rfl rfl)
theorem dX9_readExpression_18 : decode cX9_readExpression 18 = .ok (.iconst 1, 1) := dk_4 (dk_at dksX9_readExpression_0 18 rfl rfl)
theorem dX9_readExpression_19 : decode cX9_readExpression 19 = .ok (.istore_n 2, 1) := dk_61 (dk_at dksX9_readExpression_0 19 rfl rfl)
theorem dX9_readExpression_20 : decode cX9_readExpression 20 = .ok (.aload_n 0, 1) := dk_42 (dk_at dksX9_readExpression_0 20 rfl rfl)
theorem dX9_readExpression_21 : decode cX9_readExpression 21 = .ok (.getfield 219, 3) := dk_180 0 219 (dk_at dksX9_readExpression_0 21 rfl rfl)
theorem dX9_readExpression_24 : decode cX9_readExpression 24 = .ok (.ifCond .ne 52, 3) := dk_154 0 52 (dk_at dksX9_readExpression_1 0 rfl rfl)
theorem dX9_readExpression_27 : decode cX9_readExpression 27 = .ok (.iload_n 2, 1) := dk_28 (dk_at dksX9_readExpression_1 3 rfl rfl)
theorem dX9_readExpression_28 : decode cX9_readExpression 28 = .ok (.iconst 4, 1) := dk_7 (dk_at dksX9_readExpression_1 4 rfl rfl)
theorem dX9_readExpression_29 : decode cX9_readExpression 29 = .ok (.if_icmp .eq 47, 3) := dk_159 0 47 (dk_at dksX9_readExpression_1 5 rfl rfl)
theorem dX9_readExpression_32 : decode cX9_readExpression 32 = .ok (.iload_n 2, 1) := dk_28 (dk_at dksX9_readExpression_1 8 rfl rfl)
theorem dX9_readExpression_33 : decode cX9_readExpression 33 = .ok (.ifCond .ne 10, 3) := dk_154 0 10 (dk_at dksX9_readExpression_1 9 rfl rfl)
theorem dX9_readExpression_36 : decode cX9_readExpression 36 = .ok (.aload_n 0, 1) := dk_42 (dk_at dksX9_readExpression_1 12 rfl rfl)
theorem dX9_readExpression_37 : decode cX9_readExpression 37 = .ok (.invokevirtual 323, 3) := dk_182 1 67 (dk_at dksX9_readExpression_1 13 rfl rfl)
theorem dX9_readExpression_40 : decode cX9_readExpression 40 = .ok (.goto 32, 3) := dk_167 0 32 (dk_at dksX9_readExpression_1 16 rfl rfl)
theorem dX9_readExpression_43 : decode cX9_readExpression 43 = .ok (.iload_n 2, 1) := dk_28 (dk_at dksX9_readExpression_1 19 rfl rfl)
theorem dX9_readExpression_44 : decode cX9_readExpression 44 = .ok (.iconst 1, 1) := dk_4 (dk_at dksX9_readExpression_1 20 rfl rfl)
theorem dX9_readExpression_45 : decode cX9_readExpression 45 = .ok (.if_icmp .ne 10, 3) := dk_160 0 10 (dk_at dksX9_readExpression_1 21 rfl rfl)
theorem dX9_readExpression_48 : decode cX9_readExpression 48 = .ok (.aload_n 0, 1) := dk_42 (dk_at dksX9_readExpression_2 0 rfl rfl)
theorem dX9_readExpression_49 : decode cX9_readExpression 49 = .ok (.invokevirtual 306, 3) := dk_182 1 50 (dk_at dksX9_readExpression_2 1 rfl rfl)
theorem dX9_readExpression_52 : decode cX9_readExpression 52 = .ok (.goto 20, 3) := dk_167 0 20 (dk_at dksX9_readExpression_2 4 rfl rfl)
theorem dX9_readExpression_55 : decode cX9_readExpression 55 = .ok (.iload_n 2, 1) := dk_28 (dk_at dksX9_readExpression_2 7 rfl rfl)
theorem dX9_readExpression_56 : decode cX9_readExpression 56 = .ok (.iconst 3, 1) := dk_6 (dk_at dksX9_readExpression_2 8 rfl rfl)
theorem dX9_readExpression_57 : decode cX9_readExpression 57 = .ok (.if_icmp .ne 11, 3) := dk_160 0 11 (dk_at dksX9_readExpression_2 9 rfl rfl)
theorem dX9_readExpression_60 : decode cX9_readExpression 60 = .ok (.aload_n 0, 1) := dk_42 (dk_at dksX9_readExpression_2 12 rfl rfl)
theorem dX9_readExpression_61 : decode cX9_readExpression 61 = .ok (.iload_n 1, 1) := dk_27 (dk_at dksX9_readExpression_2 13 rfl rfl)
theorem dX9_readExpression_62 : decode cX9_readExpression 62 = .ok (.invokevirtual 326, 3) := dk_182 1 70 (dk_at dksX9_readExpression_2 14 rfl rfl)
theorem dX9_readExpression_65 : decode cX9_readExpression 65 = .ok (.goto 7, 3) := dk_167 0 7 (dk_at dksX9_readExpression_2 17 rfl rfl)
theorem dX9_readExpression_68 : decode cX9_readExpression 68 = .ok (.aload_n 0, 1) := dk_42 (dk_at dksX9_readExpression_2 20 rfl rfl)
theorem dX9_readExpression_69 : decode cX9_readExpression 69 = .ok (.invokevirtual 330, 3) := dk_182 1 74 (dk_at dksX9_readExpression_2 21 rfl rfl)
theorem dX9_readExpression_72 : decode cX9_readExpression 72 = .ok (.istore_n 2, 1) := dk_61 (dk_at dksX9_readExpression_3 0 rfl rfl)
theorem dX9_readExpression_73 : decode cX9_readExpression 73 = .ok (.goto (-53), 3) := dk_167 255 203 (dk_at dksX9_readExpression_3 1 rfl rfl)
theorem dX9_readExpression_76 : decode cX9_readExpression 76 = .ok (.aload_n 0, 1) := dk_42 (dk_at dksX9_readExpression_3 4 rfl rfl)
theorem dX9_readExpression_77 : decode cX9_readExpression 77 = .ok (.iconst 1, 1) := dk_4 (dk_at dksX9_readExpression_3 5 rfl rfl)
theorem dX9_readExpression_78 : decode cX9_readExpression 78 = .ok (.invokevirtual 309, 3) := dk_182 1 53 (dk_at dksX9_readExpression_3 6 rfl rfl)
theorem dX9_readExpression_81 : decode cX9_readExpression 81 = .ok (.return_, 1) := dk_177 (dk_at dksX9_readExpression_3 9 rfl rfl)
abbrev cX9_readPlain : ByteArray := prog_23_method_49_code
def yX9_readPlain : MethodName := ⟨RX9, "readPlain", "()I"⟩
def dkwX9_readPlain_1 : List UInt8 := [16, 40, 182, 1, 32, 153, 0, 11, 42, 16, 30, 182, 1, 35, 3, 172, 42, 182, 1, 50, 172]
abbrev dktX9_readPlain_1 : List UInt8 := dkwX9_readPlain_1 ++ []
def dkwX9_readPlain_0 : List UInt8 := [42, 20, 1, 48, 182, 1, 19, 153, 0, 16, 42, 16, 27, 3, 182, 1, 26, 42, 182, 0, 223, 3, 172, 42]
abbrev dktX9_readPlain_0 : List UInt8 := dkwX9_readPlain_0 ++ dktX9_readPlain_1
theorem dksX9_readPlain_0 : cX9_readPlain.data.toList.drop 0 = dktX9_readPlain_0 := by decide +kernel
theorem dksX9_readPlain_1 : cX9_readPlain.data.toList.drop 24 = dktX9_readPlain_1 := dk_seg dksX9_readPlain_0 24 rfl rfl
theorem dX9_readPlain_0 : decode cX9_readPlain 0 = .ok (.aload_n 0, 1) := dk_42 (dk_at dksX9_readPlain_0 0 rfl rfl)
theorem dX9_readPlain_1 : decode cX9_readPlain 1 = .ok (.ldc2_w 304, 3) := dk_20 1 48 (dk_at dksX9_readPlain_0 1 rfl rfl)
theorem dX9_readPlain_4 : decode cX9_readPlain 4 = .ok (.invokevirtual 275, 3) := dk_182 1 19 (dk_at dksX9_readPlain_0 4 rfl rfl)
theorem dX9_readPlain_7 : decode cX9_readPlain 7 = .ok (.ifCond .eq 16, 3) := dk_153 0 16 (dk_at dksX9_readPlain_0 7 rfl rfl)
theorem dX9_readPlain_10 : decode cX9_readPlain 10 = .ok (.aload_n 0, 1) := dk_42 (dk_at dksX9_readPlain_0 10 rfl rfl)
theorem dX9_readPlain_11 : decode cX9_readPlain 11 = .ok (.bipush 27, 2) := dk_16 27 (dk_at dksX9_readPlain_0 11 rfl rfl)
theorem dX9_readPlain_13 : decode cX9_readPlain 13 = .ok (.iconst 0, 1) := dk_3 (dk_at dksX9_readPlain_0 13 rfl rfl)
theorem dX9_readPlain_14 : decode cX9_readPlain 14 = .ok (.invokevirtual 282, 3) := dk_182 1 26 (dk_at dksX9_readPlain_0 14 rfl rfl)
theorem dX9_readPlain_17 : decode cX9_readPlain 17 = .ok (.aload_n 0, 1) := dk_42 (dk_at dksX9_readPlain_0 17 rfl rfl)
theorem dX9_readPlain_18 : decode cX9_readPlain 18 = .ok (.invokevirtual 223, 3) := dk_182 0 223 (dk_at dksX9_readPlain_0 18 rfl rfl)
theorem dX9_readPlain_21 : decode cX9_readPlain 21 = .ok (.iconst 0, 1) := dk_3 (dk_at dksX9_readPlain_0 21 rfl rfl)
theorem dX9_readPlain_22 : decode cX9_readPlain 22 = .ok (.ireturn, 1) := dk_172 (dk_at dksX9_readPlain_0 22 rfl rfl)
theorem dX9_readPlain_23 : decode cX9_readPlain 23 = .ok (.aload_n 0, 1) := dk_42 (dk_at dksX9_readPlain_0 23 rfl rfl)
theorem dX9_readPlain_24 : decode cX9_readPlain 24 = .ok (.bipush 40, 2) := dk_16 40 (dk_at dksX9_readPlain_1 0 rfl rfl)
theorem dX9_readPlain_26 : decode cX9_readPlain 26 = .ok (.invokevirtual 288, 3) := dk_182 1 32 (dk_at dksX9_readPlain_1 2 rfl rfl)
theorem dX9_readPlain_29 : decode cX9_readPlain 29 = .ok (.ifCond .eq 11, 3) := dk_153 0 11 (dk_at dksX9_readPlain_1 5 rfl rfl)
theorem dX9_readPlain_32 : decode cX9_readPlain 32 = .ok (.aload_n 0, 1) := dk_42 (dk_at dksX9_readPlain_1 8 rfl rfl)
theorem dX9_readPlain_33 : decode cX9_readPlain 33 = .ok (.bipush 30, 2) := dk_16 30 (dk_at dksX9_readPlain_1 9 rfl rfl)
theorem dX9_readPlain_35 : decode cX9_readPlain 35 = .ok (.invokevirtual 291, 3) := dk_182 1 35 (dk_at dksX9_readPlain_1 11 rfl rfl)
theorem dX9_readPlain_38 : decode cX9_readPlain 38 = .ok (.iconst 0, 1) := dk_3 (dk_at dksX9_readPlain_1 14 rfl rfl)
theorem dX9_readPlain_39 : decode cX9_readPlain 39 = .ok (.ireturn, 1) := dk_172 (dk_at dksX9_readPlain_1 15 rfl rfl)
theorem dX9_readPlain_40 : decode cX9_readPlain 40 = .ok (.aload_n 0, 1) := dk_42 (dk_at dksX9_readPlain_1 16 rfl rfl)
theorem dX9_readPlain_41 : decode cX9_readPlain 41 = .ok (.invokevirtual 306, 3) := dk_182 1 50 (dk_at dksX9_readPlain_1 17 rfl rfl)
theorem dX9_readPlain_44 : decode cX9_readPlain 44 = .ok (.ireturn, 1) := dk_172 (dk_at dksX9_readPlain_1 20 rfl rfl)
abbrev cX9_push : ByteArray := prog_23_method_40_code
def yX9_push : MethodName := ⟨RX9, "push", "(II)V"⟩
def dkwX9_push_1 : List UInt8 := [180, 1, 5, 4, 96, 181, 1, 5, 177]
abbrev dktX9_push_1 : List UInt8 := dkwX9_push_1 ++ []
def dkwX9_push_0 : List UInt8 := [42, 180, 0, 39, 42, 180, 1, 5, 27, 79, 42, 180, 0, 42, 42, 180, 1, 5, 28, 79, 42, 89]
abbrev dktX9_push_0 : List UInt8 := dkwX9_push_0 ++ dktX9_push_1
theorem dksX9_push_0 : cX9_push.data.toList.drop 0 = dktX9_push_0 := by decide +kernel
theorem dksX9_push_1 : cX9_push.data.toList.drop 22 = dktX9_push_1 := dk_seg dksX9_push_0 22 rfl rfl
theorem dX9_push_0 : decode cX9_push 0 = .ok (.aload_n 0, 1) := dk_42 (dk_at dksX9_push_0 0 rfl rfl)
theorem dX9_push_1 : decode cX9_push 1 = .ok (.getfield 39, 3) := dk_180 0 39 (dk_at dksX9_push_0 1 rfl rfl)
theorem dX9_push_4 : decode cX9_push 4 = .ok (.aload_n 0, 1) := dk_42 (dk_at dksX9_push_0 4 rfl rfl)
theorem dX9_push_5 : decode cX9_push 5 = .ok (.getfield 261, 3) := dk_180 1 5 (dk_at dksX9_push_0 5 rfl rfl)
theorem dX9_push_8 : decode cX9_push 8 = .ok (.iload_n 1, 1) := dk_27 (dk_at dksX9_push_0 8 rfl rfl)
theorem dX9_push_9 : decode cX9_push 9 = .ok (.iastore, 1) := dk_79 (dk_at dksX9_push_0 9 rfl rfl)
theorem dX9_push_10 : decode cX9_push 10 = .ok (.aload_n 0, 1) := dk_42 (dk_at dksX9_push_0 10 rfl rfl)
theorem dX9_push_11 : decode cX9_push 11 = .ok (.getfield 42, 3) := dk_180 0 42 (dk_at dksX9_push_0 11 rfl rfl)
theorem dX9_push_14 : decode cX9_push 14 = .ok (.aload_n 0, 1) := dk_42 (dk_at dksX9_push_0 14 rfl rfl)
theorem dX9_push_15 : decode cX9_push 15 = .ok (.getfield 261, 3) := dk_180 1 5 (dk_at dksX9_push_0 15 rfl rfl)
theorem dX9_push_18 : decode cX9_push 18 = .ok (.iload_n 2, 1) := dk_28 (dk_at dksX9_push_0 18 rfl rfl)
theorem dX9_push_19 : decode cX9_push 19 = .ok (.iastore, 1) := dk_79 (dk_at dksX9_push_0 19 rfl rfl)
theorem dX9_push_20 : decode cX9_push 20 = .ok (.aload_n 0, 1) := dk_42 (dk_at dksX9_push_0 20 rfl rfl)
theorem dX9_push_21 : decode cX9_push 21 = .ok (.dup, 1) := dk_89 (dk_at dksX9_push_0 21 rfl rfl)
theorem dX9_push_22 : decode cX9_push 22 = .ok (.getfield 261, 3) := dk_180 1 5 (dk_at dksX9_push_1 0 rfl rfl)
theorem dX9_push_25 : decode cX9_push 25 = .ok (.iconst 1, 1) := dk_4 (dk_at dksX9_push_1 3 rfl rfl)
theorem dX9_push_26 : decode cX9_push 26 = .ok (.iadd, 1) := dk_96 (dk_at dksX9_push_1 4 rfl rfl)
theorem dX9_push_27 : decode cX9_push 27 = .ok (.putfield 261, 3) := dk_181 1 5 (dk_at dksX9_push_1 5 rfl rfl)
theorem dX9_push_30 : decode cX9_push 30 = .ok (.return_, 1) := dk_177 (dk_at dksX9_push_1 8 rfl rfl)
abbrev cX9_isSign : ByteArray := prog_23_method_35_code
def yX9_isSign : MethodName := ⟨RX9, "isSign", "(I)Z"⟩
def dkwX9_isSign_0 : List UInt8 := [42, 180, 0, 239, 6, 160, 0, 17, 42, 180, 0, 229, 27, 133, 148, 154, 0, 7, 4, 167, 0, 4, 3, 172]
abbrev dktX9_isSign_0 : List UInt8 := dkwX9_isSign_0 ++ []
theorem dksX9_isSign_0 : cX9_isSign.data.toList.drop 0 = dktX9_isSign_0 := by decide +kernel
theorem dX9_isSign_0 : decode cX9_isSign 0 = .ok (.aload_n 0, 1) := dk_42 (dk_at dksX9_isSign_0 0 rfl rfl)
theorem dX9_isSign_1 : decode cX9_isSign 1 = .ok (.getfield 239, 3) := dk_180 0 239 (dk_at dksX9_isSign_0 1 rfl rfl)
theorem dX9_isSign_4 : decode cX9_isSign 4 = .ok (.iconst 3, 1) := dk_6 (dk_at dksX9_isSign_0 4 rfl rfl)
theorem dX9_isSign_5 : decode cX9_isSign 5 = .ok (.if_icmp .ne 17, 3) := dk_160 0 17 (dk_at dksX9_isSign_0 5 rfl rfl)
theorem dX9_isSign_8 : decode cX9_isSign 8 = .ok (.aload_n 0, 1) := dk_42 (dk_at dksX9_isSign_0 8 rfl rfl)
theorem dX9_isSign_9 : decode cX9_isSign 9 = .ok (.getfield 229, 3) := dk_180 0 229 (dk_at dksX9_isSign_0 9 rfl rfl)
theorem dX9_isSign_12 : decode cX9_isSign 12 = .ok (.iload_n 1, 1) := dk_27 (dk_at dksX9_isSign_0 12 rfl rfl)
theorem dX9_isSign_13 : decode cX9_isSign 13 = .ok (.i2l, 1) := dk_133 (dk_at dksX9_isSign_0 13 rfl rfl)
theorem dX9_isSign_14 : decode cX9_isSign 14 = .ok (.lcmp, 1) := dk_148 (dk_at dksX9_isSign_0 14 rfl rfl)
theorem dX9_isSign_15 : decode cX9_isSign 15 = .ok (.ifCond .ne 7, 3) := dk_154 0 7 (dk_at dksX9_isSign_0 15 rfl rfl)
theorem dX9_isSign_18 : decode cX9_isSign 18 = .ok (.iconst 1, 1) := dk_4 (dk_at dksX9_isSign_0 18 rfl rfl)
theorem dX9_isSign_19 : decode cX9_isSign 19 = .ok (.goto 4, 3) := dk_167 0 4 (dk_at dksX9_isSign_0 19 rfl rfl)
theorem dX9_isSign_22 : decode cX9_isSign 22 = .ok (.iconst 0, 1) := dk_3 (dk_at dksX9_isSign_0 22 rfl rfl)
theorem dX9_isSign_23 : decode cX9_isSign 23 = .ok (.ireturn, 1) := dk_172 (dk_at dksX9_isSign_0 23 rfl rfl)
abbrev cX9_openBracket : ByteArray := prog_23_method_46_code
def yX9_openBracket : MethodName := ⟨RX9, "openBracket", "(I)V"⟩
def dkwX9_openBracket_1 : List UInt8 := [154, 0, 19, 42, 89, 180, 1, 23, 4, 96, 181, 1, 23, 42, 27, 3, 182, 1, 26, 177]
abbrev dktX9_openBracket_1 : List UInt8 := dkwX9_openBracket_1 ++ []
def dkwX9_openBracket_0 : List UInt8 := [42, 42, 180, 1, 23, 16, 8, 162, 0, 7, 4, 167, 0, 4, 3, 182, 0, 254, 42, 180, 0, 219]
abbrev dktX9_openBracket_0 : List UInt8 := dkwX9_openBracket_0 ++ dktX9_openBracket_1
theorem dksX9_openBracket_0 : cX9_openBracket.data.toList.drop 0 = dktX9_openBracket_0 := by decide +kernel
theorem dksX9_openBracket_1 : cX9_openBracket.data.toList.drop 22 = dktX9_openBracket_1 := dk_seg dksX9_openBracket_0 22 rfl rfl
theorem dX9_openBracket_0 : decode cX9_openBracket 0 = .ok (.aload_n 0, 1) := dk_42 (dk_at dksX9_openBracket_0 0 rfl rfl)
theorem dX9_openBracket_1 : decode cX9_openBracket 1 = .ok (.aload_n 0, 1) := dk_42 (dk_at dksX9_openBracket_0 1 rfl rfl)
theorem dX9_openBracket_2 : decode cX9_openBracket 2 = .ok (.getfield 279, 3) := dk_180 1 23 (dk_at dksX9_openBracket_0 2 rfl rfl)
theorem dX9_openBracket_5 : decode cX9_openBracket 5 = .ok (.bipush 8, 2) := dk_16 8 (dk_at dksX9_openBracket_0 5 rfl rfl)
theorem dX9_openBracket_7 : decode cX9_openBracket 7 = .ok (.if_icmp .ge 7, 3) := dk_162 0 7 (dk_at dksX9_openBracket_0 7 rfl rfl)
theorem dX9_openBracket_10 : decode cX9_openBracket 10 = .ok (.iconst 1, 1) := dk_4 (dk_at dksX9_openBracket_0 10 rfl rfl)
theorem dX9_openBracket_11 : decode cX9_openBracket 11 = .ok (.goto 4, 3) := dk_167 0 4 (dk_at dksX9_openBracket_0 11 rfl rfl)
theorem dX9_openBracket_14 : decode cX9_openBracket 14 = .ok (.iconst 0, 1) := dk_3 (dk_at dksX9_openBracket_0 14 rfl rfl)
theorem dX9_openBracket_15 : decode cX9_openBracket 15 = .ok (.invokevirtual 254, 3) := dk_182 0 254 (dk_at dksX9_openBracket_0 15 rfl rfl)
theorem dX9_openBracket_18 : decode cX9_openBracket 18 = .ok (.aload_n 0, 1) := dk_42 (dk_at dksX9_openBracket_0 18 rfl rfl)
theorem dX9_openBracket_19 : decode cX9_openBracket 19 = .ok (.getfield 219, 3) := dk_180 0 219 (dk_at dksX9_openBracket_0 19 rfl rfl)
theorem dX9_openBracket_22 : decode cX9_openBracket 22 = .ok (.ifCond .ne 19, 3) := dk_154 0 19 (dk_at dksX9_openBracket_1 0 rfl rfl)
theorem dX9_openBracket_25 : decode cX9_openBracket 25 = .ok (.aload_n 0, 1) := dk_42 (dk_at dksX9_openBracket_1 3 rfl rfl)
theorem dX9_openBracket_26 : decode cX9_openBracket 26 = .ok (.dup, 1) := dk_89 (dk_at dksX9_openBracket_1 4 rfl rfl)
theorem dX9_openBracket_27 : decode cX9_openBracket 27 = .ok (.getfield 279, 3) := dk_180 1 23 (dk_at dksX9_openBracket_1 5 rfl rfl)
theorem dX9_openBracket_30 : decode cX9_openBracket 30 = .ok (.iconst 1, 1) := dk_4 (dk_at dksX9_openBracket_1 8 rfl rfl)
theorem dX9_openBracket_31 : decode cX9_openBracket 31 = .ok (.iadd, 1) := dk_96 (dk_at dksX9_openBracket_1 9 rfl rfl)
theorem dX9_openBracket_32 : decode cX9_openBracket 32 = .ok (.putfield 279, 3) := dk_181 1 23 (dk_at dksX9_openBracket_1 10 rfl rfl)
theorem dX9_openBracket_35 : decode cX9_openBracket 35 = .ok (.aload_n 0, 1) := dk_42 (dk_at dksX9_openBracket_1 13 rfl rfl)
theorem dX9_openBracket_36 : decode cX9_openBracket 36 = .ok (.iload_n 1, 1) := dk_27 (dk_at dksX9_openBracket_1 14 rfl rfl)
theorem dX9_openBracket_37 : decode cX9_openBracket 37 = .ok (.iconst 0, 1) := dk_3 (dk_at dksX9_openBracket_1 15 rfl rfl)
theorem dX9_openBracket_38 : decode cX9_openBracket 38 = .ok (.invokevirtual 282, 3) := dk_182 1 26 (dk_at dksX9_openBracket_1 16 rfl rfl)
theorem dX9_openBracket_41 : decode cX9_openBracket 41 = .ok (.return_, 1) := dk_177 (dk_at dksX9_openBracket_1 19 rfl rfl)
abbrev cX9_readPart : ByteArray := prog_23_method_48_code
def yX9_readPart : MethodName := ⟨RX9, "readPart", "()I"⟩
def dkwX9_readPart_3 : List UInt8 := [27, 28, 153, 0, 11, 42, 180, 0, 229, 136, 167, 0, 4, 3, 182, 1, 44, 6, 172]
abbrev dktX9_readPart_3 : List UInt8 := dkwX9_readPart_3 ++ []
def dkwX9_readPart_2 : List UInt8 := [42, 27, 2, 160, 0, 7, 28, 153, 0, 7, 4, 167, 0, 4, 3, 27, 2, 160, 0, 7, 3, 167, 0, 4]
abbrev dktX9_readPart_2 : List UInt8 := dkwX9_readPart_2 ++ dktX9_readPart_3
def dkwX9_readPart_1 : List UInt8 := [180, 0, 239, 5, 160, 0, 18, 42, 180, 0, 229, 20, 1, 42, 148, 157, 0, 7, 4, 167, 0, 4, 3, 61]
abbrev dktX9_readPart_1 : List UInt8 := dkwX9_readPart_1 ++ dktX9_readPart_2
def dkwX9_readPart_0 : List UInt8 := [42, 16, 91, 182, 1, 32, 153, 0, 11, 42, 16, 31, 182, 1, 35, 4, 172, 42, 182, 1, 38, 60, 42]
abbrev dktX9_readPart_0 : List UInt8 := dkwX9_readPart_0 ++ dktX9_readPart_1
theorem dksX9_readPart_0 : cX9_readPart.data.toList.drop 0 = dktX9_readPart_0 := by decide +kernel
theorem dksX9_readPart_1 : cX9_readPart.data.toList.drop 23 = dktX9_readPart_1 := dk_seg dksX9_readPart_0 23 rfl rfl
theorem dksX9_readPart_2 : cX9_readPart.data.toList.drop 47 = dktX9_readPart_2 := dk_seg dksX9_readPart_1 24 rfl rfl
theorem dksX9_readPart_3 : cX9_readPart.data.toList.drop 71 = dktX9_readPart_3 := dk_seg dksX9_readPart_2 24 rfl rfl
theorem dX9_readPart_0 : decode cX9_readPart 0 = .ok (.aload_n 0, 1) := dk_42 (dk_at dksX9_readPart_0 0 rfl rfl)
theorem dX9_readPart_1 : decode cX9_readPart 1 = .ok (.bipush 91, 2) := dk_16 91 (dk_at dksX9_readPart_0 1 rfl rfl)
theorem dX9_readPart_3 : decode cX9_readPart 3 = .ok (.invokevirtual 288, 3) := dk_182 1 32 (dk_at dksX9_readPart_0 3 rfl rfl)
theorem dX9_readPart_6 : decode cX9_readPart 6 = .ok (.ifCond .eq 11, 3) := dk_153 0 11 (dk_at dksX9_readPart_0 6 rfl rfl)
theorem dX9_readPart_9 : decode cX9_readPart 9 = .ok (.aload_n 0, 1) := dk_42 (dk_at dksX9_readPart_0 9 rfl rfl)
theorem dX9_readPart_10 : decode cX9_readPart 10 = .ok (.bipush 31, 2) := dk_16 31 (dk_at dksX9_readPart_0 10 rfl rfl)
theorem dX9_readPart_12 : decode cX9_readPart 12 = .ok (.invokevirtual 291, 3) := dk_182 1 35 (dk_at dksX9_readPart_0 12 rfl rfl)
theorem dX9_readPart_15 : decode cX9_readPart 15 = .ok (.iconst 1, 1) := dk_4 (dk_at dksX9_readPart_0 15 rfl rfl)
theorem dX9_readPart_16 : decode cX9_readPart 16 = .ok (.ireturn, 1) := dk_172 (dk_at dksX9_readPart_0 16 rfl rfl)
theorem dX9_readPart_17 : decode cX9_readPart 17 = .ok (.aload_n 0, 1) := dk_42 (dk_at dksX9_readPart_0 17 rfl rfl)
theorem dX9_readPart_18 : decode cX9_readPart 18 = .ok (.invokevirtual 294, 3) := dk_182 1 38 (dk_at dksX9_readPart_0 18 rfl rfl)
theorem dX9_readPart_21 : decode cX9_readPart 21 = .ok (.istore_n 1, 1) := dk_60 (dk_at dksX9_readPart_0 21 rfl rfl)
theorem dX9_readPart_22 : decode cX9_readPart 22 = .ok (.aload_n 0, 1) := dk_42 (dk_at dksX9_readPart_0 22 rfl rfl)
theorem dX9_readPart_23 : decode cX9_readPart 23 = .ok (.getfield 239, 3) := dk_180 0 239 (dk_at dksX9_readPart_1 0 rfl rfl)
theorem dX9_readPart_26 : decode cX9_readPart 26 = .ok (.iconst 2, 1) := dk_5 (dk_at dksX9_readPart_1 3 rfl rfl)
theorem dX9_readPart_27 : decode cX9_readPart 27 = .ok (.if_icmp .ne 18, 3) := dk_160 0 18 (dk_at dksX9_readPart_1 4 rfl rfl)
theorem dX9_readPart_30 : decode cX9_readPart 30 = .ok (.aload_n 0, 1) := dk_42 (dk_at dksX9_readPart_1 7 rfl rfl)
theorem dX9_readPart_31 : decode cX9_readPart 31 = .ok (.getfield 229, 3) := dk_180 0 229 (dk_at dksX9_readPart_1 8 rfl rfl)
theorem dX9_readPart_34 : decode cX9_readPart 34 = .ok (.ldc2_w 298, 3) := dk_20 1 42 (dk_at dksX9_readPart_1 11 rfl rfl)
theorem dX9_readPart_37 : decode cX9_readPart 37 = .ok (.lcmp, 1) := dk_148 (dk_at dksX9_readPart_1 14 rfl rfl)
theorem dX9_readPart_38 : decode cX9_readPart 38 = .ok (.ifCond .gt 7, 3) := dk_157 0 7 (dk_at dksX9_readPart_1 15 rfl rfl)
theorem dX9_readPart_41 : decode cX9_readPart 41 = .ok (.iconst 1, 1) := dk_4 (dk_at dksX9_readPart_1 18 rfl rfl)
theorem dX9_readPart_42 : decode cX9_readPart 42 = .ok (.goto 4, 3) := dk_167 0 4 (dk_at dksX9_readPart_1 19 rfl rfl)
theorem dX9_readPart_45 : decode cX9_readPart 45 = .ok (.iconst 0, 1) := dk_3 (dk_at dksX9_readPart_1 22 rfl rfl)
theorem dX9_readPart_46 : decode cX9_readPart 46 = .ok (.istore_n 2, 1) := dk_61 (dk_at dksX9_readPart_1 23 rfl rfl)
theorem dX9_readPart_47 : decode cX9_readPart 47 = .ok (.aload_n 0, 1) := dk_42 (dk_at dksX9_readPart_2 0 rfl rfl)
theorem dX9_readPart_48 : decode cX9_readPart 48 = .ok (.iload_n 1, 1) := dk_27 (dk_at dksX9_readPart_2 1 rfl rfl)
theorem dX9_readPart_49 : decode cX9_readPart 49 = .ok (.iconst (-1), 1) := dk_2 (dk_at dksX9_readPart_2 2 rfl rfl)
theorem dX9_readPart_50 : decode cX9_readPart 50 = .ok (.if_icmp .ne 7, 3) := dk_160 0 7 (dk_at dksX9_readPart_2 3 rfl rfl)
theorem dX9_readPart_53 : decode cX9_readPart 53 = .ok (.iload_n 2, 1) := dk_28 (dk_at dksX9_readPart_2 6 rfl rfl)
theorem dX9_readPart_54 : decode cX9_readPart 54 = .ok (.ifCond .eq 7, 3) := dk_153 0 7 (dk_at dksX9_readPart_2 7 rfl rfl)
theorem dX9_readPart_57 : decode cX9_readPart 57 = .ok (.iconst 1, 1) := dk_4 (dk_at dksX9_readPart_2 10 rfl rfl)
theorem dX9_readPart_58 : decode cX9_readPart 58 = .ok (.goto 4, 3) := dk_167 0 4 (dk_at dksX9_readPart_2 11 rfl rfl)
theorem dX9_readPart_61 : decode cX9_readPart 61 = .ok (.iconst 0, 1) := dk_3 (dk_at dksX9_readPart_2 14 rfl rfl)
theorem dX9_readPart_62 : decode cX9_readPart 62 = .ok (.iload_n 1, 1) := dk_27 (dk_at dksX9_readPart_2 15 rfl rfl)
theorem dX9_readPart_63 : decode cX9_readPart 63 = .ok (.iconst (-1), 1) := dk_2 (dk_at dksX9_readPart_2 16 rfl rfl)
theorem dX9_readPart_64 : decode cX9_readPart 64 = .ok (.if_icmp .ne 7, 3) := dk_160 0 7 (dk_at dksX9_readPart_2 17 rfl rfl)
theorem dX9_readPart_67 : decode cX9_readPart 67 = .ok (.iconst 0, 1) := dk_3 (dk_at dksX9_readPart_2 20 rfl rfl)
theorem dX9_readPart_68 : decode cX9_readPart 68 = .ok (.goto 4, 3) := dk_167 0 4 (dk_at dksX9_readPart_2 21 rfl rfl)
theorem dX9_readPart_71 : decode cX9_readPart 71 = .ok (.iload_n 1, 1) := dk_27 (dk_at dksX9_readPart_3 0 rfl rfl)
theorem dX9_readPart_72 : decode cX9_readPart 72 = .ok (.iload_n 2, 1) := dk_28 (dk_at dksX9_readPart_3 1 rfl rfl)
theorem dX9_readPart_73 : decode cX9_readPart 73 = .ok (.ifCond .eq 11, 3) := dk_153 0 11 (dk_at dksX9_readPart_3 2 rfl rfl)
theorem dX9_readPart_76 : decode cX9_readPart 76 = .ok (.aload_n 0, 1) := dk_42 (dk_at dksX9_readPart_3 5 rfl rfl)
theorem dX9_readPart_77 : decode cX9_readPart 77 = .ok (.getfield 229, 3) := dk_180 0 229 (dk_at dksX9_readPart_3 6 rfl rfl)
theorem dX9_readPart_80 : decode cX9_readPart 80 = .ok (.l2i, 1) := dk_136 (dk_at dksX9_readPart_3 9 rfl rfl)
theorem dX9_readPart_81 : decode cX9_readPart 81 = .ok (.goto 4, 3) := dk_167 0 4 (dk_at dksX9_readPart_3 10 rfl rfl)
theorem dX9_readPart_84 : decode cX9_readPart 84 = .ok (.iconst 0, 1) := dk_3 (dk_at dksX9_readPart_3 13 rfl rfl)
theorem dX9_readPart_85 : decode cX9_readPart 85 = .ok (.invokevirtual 300, 3) := dk_182 1 44 (dk_at dksX9_readPart_3 14 rfl rfl)
theorem dX9_readPart_88 : decode cX9_readPart 88 = .ok (.iconst 3, 1) := dk_6 (dk_at dksX9_readPart_3 17 rfl rfl)
theorem dX9_readPart_89 : decode cX9_readPart 89 = .ok (.ireturn, 1) := dk_172 (dk_at dksX9_readPart_3 18 rfl rfl)
abbrev cX9_partAt : ByteArray := prog_23_method_45_code
def yX9_partAt : MethodName := ⟨RX9, "partAt", "()I"⟩
def dkwX9_partAt_1 : List UInt8 := [4, 96, 167, 0, 4, 27, 60, 132, 2, 1, 167, 255, 226, 27, 172]
abbrev dktX9_partAt_1 : List UInt8 := dkwX9_partAt_1 ++ []
def dkwX9_partAt_0 : List UInt8 := [2, 60, 3, 61, 28, 16, 10, 162, 0, 30, 42, 42, 180, 0, 65, 28, 47, 182, 1, 19, 153, 0, 9, 28]
abbrev dktX9_partAt_0 : List UInt8 := dkwX9_partAt_0 ++ dktX9_partAt_1
theorem dksX9_partAt_0 : cX9_partAt.data.toList.drop 0 = dktX9_partAt_0 := by decide +kernel
theorem dksX9_partAt_1 : cX9_partAt.data.toList.drop 24 = dktX9_partAt_1 := dk_seg dksX9_partAt_0 24 rfl rfl
theorem dX9_partAt_0 : decode cX9_partAt 0 = .ok (.iconst (-1), 1) := dk_2 (dk_at dksX9_partAt_0 0 rfl rfl)
theorem dX9_partAt_1 : decode cX9_partAt 1 = .ok (.istore_n 1, 1) := dk_60 (dk_at dksX9_partAt_0 1 rfl rfl)
theorem dX9_partAt_2 : decode cX9_partAt 2 = .ok (.iconst 0, 1) := dk_3 (dk_at dksX9_partAt_0 2 rfl rfl)
theorem dX9_partAt_3 : decode cX9_partAt 3 = .ok (.istore_n 2, 1) := dk_61 (dk_at dksX9_partAt_0 3 rfl rfl)
theorem dX9_partAt_4 : decode cX9_partAt 4 = .ok (.iload_n 2, 1) := dk_28 (dk_at dksX9_partAt_0 4 rfl rfl)
theorem dX9_partAt_5 : decode cX9_partAt 5 = .ok (.bipush 10, 2) := dk_16 10 (dk_at dksX9_partAt_0 5 rfl rfl)
theorem dX9_partAt_7 : decode cX9_partAt 7 = .ok (.if_icmp .ge 30, 3) := dk_162 0 30 (dk_at dksX9_partAt_0 7 rfl rfl)
theorem dX9_partAt_10 : decode cX9_partAt 10 = .ok (.aload_n 0, 1) := dk_42 (dk_at dksX9_partAt_0 10 rfl rfl)
theorem dX9_partAt_11 : decode cX9_partAt 11 = .ok (.aload_n 0, 1) := dk_42 (dk_at dksX9_partAt_0 11 rfl rfl)
theorem dX9_partAt_12 : decode cX9_partAt 12 = .ok (.getfield 65, 3) := dk_180 0 65 (dk_at dksX9_partAt_0 12 rfl rfl)
theorem dX9_partAt_15 : decode cX9_partAt 15 = .ok (.iload_n 2, 1) := dk_28 (dk_at dksX9_partAt_0 15 rfl rfl)
theorem dX9_partAt_16 : decode cX9_partAt 16 = .ok (.laload, 1) := dk_47 (dk_at dksX9_partAt_0 16 rfl rfl)
theorem dX9_partAt_17 : decode cX9_partAt 17 = .ok (.invokevirtual 275, 3) := dk_182 1 19 (dk_at dksX9_partAt_0 17 rfl rfl)
theorem dX9_partAt_20 : decode cX9_partAt 20 = .ok (.ifCond .eq 9, 3) := dk_153 0 9 (dk_at dksX9_partAt_0 20 rfl rfl)
theorem dX9_partAt_23 : decode cX9_partAt 23 = .ok (.iload_n 2, 1) := dk_28 (dk_at dksX9_partAt_0 23 rfl rfl)
theorem dX9_partAt_24 : decode cX9_partAt 24 = .ok (.iconst 1, 1) := dk_4 (dk_at dksX9_partAt_1 0 rfl rfl)
theorem dX9_partAt_25 : decode cX9_partAt 25 = .ok (.iadd, 1) := dk_96 (dk_at dksX9_partAt_1 1 rfl rfl)
theorem dX9_partAt_26 : decode cX9_partAt 26 = .ok (.goto 4, 3) := dk_167 0 4 (dk_at dksX9_partAt_1 2 rfl rfl)
theorem dX9_partAt_29 : decode cX9_partAt 29 = .ok (.iload_n 1, 1) := dk_27 (dk_at dksX9_partAt_1 5 rfl rfl)
theorem dX9_partAt_30 : decode cX9_partAt 30 = .ok (.istore_n 1, 1) := dk_60 (dk_at dksX9_partAt_1 6 rfl rfl)
theorem dX9_partAt_31 : decode cX9_partAt 31 = .ok (.iinc 2 1, 3) := dk_132 2 1 (dk_at dksX9_partAt_1 7 rfl rfl)
theorem dX9_partAt_34 : decode cX9_partAt 34 = .ok (.goto (-30), 3) := dk_167 255 226 (dk_at dksX9_partAt_1 10 rfl rfl)
theorem dX9_partAt_37 : decode cX9_partAt 37 = .ok (.iload_n 1, 1) := dk_27 (dk_at dksX9_partAt_1 13 rfl rfl)
theorem dX9_partAt_38 : decode cX9_partAt 38 = .ok (.ireturn, 1) := dk_172 (dk_at dksX9_partAt_1 14 rfl rfl)
abbrev cX9_leaf : ByteArray := prog_23_method_47_code
def yX9_leaf : MethodName := ⟨RX9, "leaf", "(ZII)V"⟩
def dkwX9_leaf_1 : List UInt8 := [180, 0, 219, 154, 0, 19, 42, 28, 29, 182, 1, 11, 42, 89, 180, 1, 29, 4, 96, 181, 1, 29, 177]
abbrev dktX9_leaf_1 : List UInt8 := dkwX9_leaf_1 ++ []
def dkwX9_leaf_0 : List UInt8 := [42, 27, 153, 0, 16, 42, 180, 1, 29, 16, 50, 162, 0, 7, 4, 167, 0, 4, 3, 182, 0, 254, 42]
abbrev dktX9_leaf_0 : List UInt8 := dkwX9_leaf_0 ++ dktX9_leaf_1
theorem dksX9_leaf_0 : cX9_leaf.data.toList.drop 0 = dktX9_leaf_0 := by decide +kernel
theorem dksX9_leaf_1 : cX9_leaf.data.toList.drop 23 = dktX9_leaf_1 := dk_seg dksX9_leaf_0 23 rfl rfl
theorem dX9_leaf_0 : decode cX9_leaf 0 = .ok (.aload_n 0, 1) := dk_42 (dk_at dksX9_leaf_0 0 rfl rfl)
theorem dX9_leaf_1 : decode cX9_leaf 1 = .ok (.iload_n 1, 1) := dk_27 (dk_at dksX9_leaf_0 1 rfl rfl)
theorem dX9_leaf_2 : decode cX9_leaf 2 = .ok (.ifCond .eq 16, 3) := dk_153 0 16 (dk_at dksX9_leaf_0 2 rfl rfl)
theorem dX9_leaf_5 : decode cX9_leaf 5 = .ok (.aload_n 0, 1) := dk_42 (dk_at dksX9_leaf_0 5 rfl rfl)
theorem dX9_leaf_6 : decode cX9_leaf 6 = .ok (.getfield 285, 3) := dk_180 1 29 (dk_at dksX9_leaf_0 6 rfl rfl)
theorem dX9_leaf_9 : decode cX9_leaf 9 = .ok (.bipush 50, 2) := dk_16 50 (dk_at dksX9_leaf_0 9 rfl rfl)
theorem dX9_leaf_11 : decode cX9_leaf 11 = .ok (.if_icmp .ge 7, 3) := dk_162 0 7 (dk_at dksX9_leaf_0 11 rfl rfl)
theorem dX9_leaf_14 : decode cX9_leaf 14 = .ok (.iconst 1, 1) := dk_4 (dk_at dksX9_leaf_0 14 rfl rfl)
theorem dX9_leaf_15 : decode cX9_leaf 15 = .ok (.goto 4, 3) := dk_167 0 4 (dk_at dksX9_leaf_0 15 rfl rfl)
theorem dX9_leaf_18 : decode cX9_leaf 18 = .ok (.iconst 0, 1) := dk_3 (dk_at dksX9_leaf_0 18 rfl rfl)
theorem dX9_leaf_19 : decode cX9_leaf 19 = .ok (.invokevirtual 254, 3) := dk_182 0 254 (dk_at dksX9_leaf_0 19 rfl rfl)
theorem dX9_leaf_22 : decode cX9_leaf 22 = .ok (.aload_n 0, 1) := dk_42 (dk_at dksX9_leaf_0 22 rfl rfl)
theorem dX9_leaf_23 : decode cX9_leaf 23 = .ok (.getfield 219, 3) := dk_180 0 219 (dk_at dksX9_leaf_1 0 rfl rfl)
theorem dX9_leaf_26 : decode cX9_leaf 26 = .ok (.ifCond .ne 19, 3) := dk_154 0 19 (dk_at dksX9_leaf_1 3 rfl rfl)
theorem dX9_leaf_29 : decode cX9_leaf 29 = .ok (.aload_n 0, 1) := dk_42 (dk_at dksX9_leaf_1 6 rfl rfl)
theorem dX9_leaf_30 : decode cX9_leaf 30 = .ok (.iload_n 2, 1) := dk_28 (dk_at dksX9_leaf_1 7 rfl rfl)
theorem dX9_leaf_31 : decode cX9_leaf 31 = .ok (.iload_n 3, 1) := dk_29 (dk_at dksX9_leaf_1 8 rfl rfl)
theorem dX9_leaf_32 : decode cX9_leaf 32 = .ok (.invokevirtual 267, 3) := dk_182 1 11 (dk_at dksX9_leaf_1 9 rfl rfl)
theorem dX9_leaf_35 : decode cX9_leaf 35 = .ok (.aload_n 0, 1) := dk_42 (dk_at dksX9_leaf_1 12 rfl rfl)
theorem dX9_leaf_36 : decode cX9_leaf 36 = .ok (.dup, 1) := dk_89 (dk_at dksX9_leaf_1 13 rfl rfl)
theorem dX9_leaf_37 : decode cX9_leaf 37 = .ok (.getfield 285, 3) := dk_180 1 29 (dk_at dksX9_leaf_1 14 rfl rfl)
theorem dX9_leaf_40 : decode cX9_leaf 40 = .ok (.iconst 1, 1) := dk_4 (dk_at dksX9_leaf_1 17 rfl rfl)
theorem dX9_leaf_41 : decode cX9_leaf 41 = .ok (.iadd, 1) := dk_96 (dk_at dksX9_leaf_1 18 rfl rfl)
theorem dX9_leaf_42 : decode cX9_leaf 42 = .ok (.putfield 285, 3) := dk_181 1 29 (dk_at dksX9_leaf_1 19 rfl rfl)
theorem dX9_leaf_45 : decode cX9_leaf 45 = .ok (.return_, 1) := dk_177 (dk_at dksX9_leaf_1 22 rfl rfl)
abbrev cX9_emit : ByteArray := prog_23_method_39_code
def yX9_emit : MethodName := ⟨RX9, "emit", "(II)V"⟩
def dkwX9_emit_1 : List UInt8 := [180, 1, 2, 4, 96, 181, 1, 2, 177]
abbrev dktX9_emit_1 : List UInt8 := dkwX9_emit_1 ++ []
def dkwX9_emit_0 : List UInt8 := [42, 180, 0, 33, 42, 180, 1, 2, 27, 79, 42, 180, 0, 36, 42, 180, 1, 2, 28, 79, 42, 89]
abbrev dktX9_emit_0 : List UInt8 := dkwX9_emit_0 ++ dktX9_emit_1
theorem dksX9_emit_0 : cX9_emit.data.toList.drop 0 = dktX9_emit_0 := by decide +kernel
theorem dksX9_emit_1 : cX9_emit.data.toList.drop 22 = dktX9_emit_1 := dk_seg dksX9_emit_0 22 rfl rfl
theorem dX9_emit_0 : decode cX9_emit 0 = .ok (.aload_n 0, 1) := dk_42 (dk_at dksX9_emit_0 0 rfl rfl)
theorem dX9_emit_1 : decode cX9_emit 1 = .ok (.getfield 33, 3) := dk_180 0 33 (dk_at dksX9_emit_0 1 rfl rfl)
theorem dX9_emit_4 : decode cX9_emit 4 = .ok (.aload_n 0, 1) := dk_42 (dk_at dksX9_emit_0 4 rfl rfl)
theorem dX9_emit_5 : decode cX9_emit 5 = .ok (.getfield 258, 3) := dk_180 1 2 (dk_at dksX9_emit_0 5 rfl rfl)
theorem dX9_emit_8 : decode cX9_emit 8 = .ok (.iload_n 1, 1) := dk_27 (dk_at dksX9_emit_0 8 rfl rfl)
theorem dX9_emit_9 : decode cX9_emit 9 = .ok (.iastore, 1) := dk_79 (dk_at dksX9_emit_0 9 rfl rfl)
theorem dX9_emit_10 : decode cX9_emit 10 = .ok (.aload_n 0, 1) := dk_42 (dk_at dksX9_emit_0 10 rfl rfl)
theorem dX9_emit_11 : decode cX9_emit 11 = .ok (.getfield 36, 3) := dk_180 0 36 (dk_at dksX9_emit_0 11 rfl rfl)
theorem dX9_emit_14 : decode cX9_emit 14 = .ok (.aload_n 0, 1) := dk_42 (dk_at dksX9_emit_0 14 rfl rfl)
theorem dX9_emit_15 : decode cX9_emit 15 = .ok (.getfield 258, 3) := dk_180 1 2 (dk_at dksX9_emit_0 15 rfl rfl)
theorem dX9_emit_18 : decode cX9_emit 18 = .ok (.iload_n 2, 1) := dk_28 (dk_at dksX9_emit_0 18 rfl rfl)
theorem dX9_emit_19 : decode cX9_emit 19 = .ok (.iastore, 1) := dk_79 (dk_at dksX9_emit_0 19 rfl rfl)
theorem dX9_emit_20 : decode cX9_emit 20 = .ok (.aload_n 0, 1) := dk_42 (dk_at dksX9_emit_0 20 rfl rfl)
theorem dX9_emit_21 : decode cX9_emit 21 = .ok (.dup, 1) := dk_89 (dk_at dksX9_emit_0 21 rfl rfl)
theorem dX9_emit_22 : decode cX9_emit 22 = .ok (.getfield 258, 3) := dk_180 1 2 (dk_at dksX9_emit_1 0 rfl rfl)
theorem dX9_emit_25 : decode cX9_emit 25 = .ok (.iconst 1, 1) := dk_4 (dk_at dksX9_emit_1 3 rfl rfl)
theorem dX9_emit_26 : decode cX9_emit 26 = .ok (.iadd, 1) := dk_96 (dk_at dksX9_emit_1 4 rfl rfl)
theorem dX9_emit_27 : decode cX9_emit 27 = .ok (.putfield 258, 3) := dk_181 1 2 (dk_at dksX9_emit_1 5 rfl rfl)
theorem dX9_emit_30 : decode cX9_emit 30 = .ok (.return_, 1) := dk_177 (dk_at dksX9_emit_1 8 rfl rfl)
abbrev cX9_behindSum : ByteArray := prog_23_method_50_code
def yX9_behindSum : MethodName := ⟨RX9, "behindSum", "(Z)I"⟩
def dkwX9_behindSum_10 : List UInt8 := [182, 1, 26, 4, 172]
abbrev dktX9_behindSum_10 : List UInt8 := dkwX9_behindSum_10 ++ []
def dkwX9_behindSum_9 : List UInt8 := [167, 0, 4, 3, 182, 0, 254, 42, 180, 0, 219, 154, 0, 14, 42, 8, 182, 1, 53, 42, 28, 3]
abbrev dktX9_behindSum_9 : List UInt8 := dkwX9_behindSum_9 ++ dktX9_behindSum_10
def dkwX9_behindSum_8 : List UInt8 := [167, 0, 5, 16, 26, 61, 42, 28, 16, 26, 160, 0, 12, 42, 16, 61, 182, 1, 32, 153, 0, 7, 4]
abbrev dktX9_behindSum_8 : List UInt8 := dkwX9_behindSum_8 ++ dktX9_behindSum_9
def dkwX9_behindSum_7 : List UInt8 := [182, 1, 32, 153, 0, 8, 16, 24, 167, 0, 19, 42, 16, 62, 182, 1, 32, 153, 0, 8, 16, 25]
abbrev dktX9_behindSum_7 : List UInt8 := dkwX9_behindSum_7 ++ dktX9_behindSum_8
def dkwX9_behindSum_6 : List UInt8 := [172, 29, 2, 160, 0, 9, 27, 154, 0, 5, 7, 172, 42, 182, 1, 59, 153, 0, 5, 5, 172, 42, 16, 60]
abbrev dktX9_behindSum_6 : List UInt8 := dkwX9_behindSum_6 ++ dktX9_behindSum_7
def dkwX9_behindSum_5 : List UInt8 := [182, 1, 53, 42, 89, 180, 1, 5, 4, 100, 181, 1, 5, 42, 89, 180, 1, 23, 4, 100, 181, 1, 23, 6]
abbrev dktX9_behindSum_5 : List UInt8 := dkwX9_behindSum_5 ++ dktX9_behindSum_6
def dkwX9_behindSum_4 : List UInt8 := [160, 0, 47, 42, 42, 16, 93, 182, 1, 32, 182, 0, 254, 42, 180, 0, 219, 154, 0, 28, 42, 8]
abbrev dktX9_behindSum_4 : List UInt8 := dkwX9_behindSum_4 ++ dktX9_behindSum_5
def dkwX9_behindSum_3 : List UInt8 := [182, 1, 53, 42, 28, 3, 182, 1, 26, 42, 182, 0, 223, 4, 172, 42, 182, 1, 56, 62, 29, 16, 31]
abbrev dktX9_behindSum_3 : List UInt8 := dkwX9_behindSum_3 ++ dktX9_behindSum_4
def dkwX9_behindSum_2 : List UInt8 := [182, 1, 32, 153, 0, 8, 16, 23, 167, 0, 4, 2, 61, 28, 2, 159, 0, 23, 42, 28, 184, 1, 8]
abbrev dktX9_behindSum_2 : List UInt8 := dkwX9_behindSum_2 ++ dktX9_behindSum_3
def dkwX9_behindSum_1 : List UInt8 := [16, 21, 167, 0, 32, 42, 16, 42, 182, 1, 32, 153, 0, 8, 16, 22, 167, 0, 18, 42, 16, 47]
abbrev dktX9_behindSum_1 : List UInt8 := dkwX9_behindSum_1 ++ dktX9_behindSum_2
def dkwX9_behindSum_0 : List UInt8 := [42, 16, 43, 182, 1, 32, 153, 0, 8, 16, 20, 167, 0, 46, 42, 16, 45, 182, 1, 32, 153, 0, 8]
abbrev dktX9_behindSum_0 : List UInt8 := dkwX9_behindSum_0 ++ dktX9_behindSum_1
theorem dksX9_behindSum_0 : cX9_behindSum.data.toList.drop 0 = dktX9_behindSum_0 := by decide +kernel
theorem dksX9_behindSum_1 : cX9_behindSum.data.toList.drop 23 = dktX9_behindSum_1 := dk_seg dksX9_behindSum_0 23 rfl rfl
theorem dksX9_behindSum_2 : cX9_behindSum.data.toList.drop 45 = dktX9_behindSum_2 := dk_seg dksX9_behindSum_1 22 rfl rfl
theorem dksX9_behindSum_3 : cX9_behindSum.data.toList.drop 68 = dktX9_behindSum_3 := dk_seg dksX9_behindSum_2 23 rfl rfl
theorem dksX9_behindSum_4 : cX9_behindSum.data.toList.drop 91 = dktX9_behindSum_4 := dk_seg dksX9_behindSum_3 23 rfl rfl
theorem dksX9_behindSum_5 : cX9_behindSum.data.toList.drop 113 = dktX9_behindSum_5 := dk_seg dksX9_behindSum_4 22 rfl rfl
theorem dksX9_behindSum_6 : cX9_behindSum.data.toList.drop 137 = dktX9_behindSum_6 := dk_seg dksX9_behindSum_5 24 rfl rfl
theorem dksX9_behindSum_7 : cX9_behindSum.data.toList.drop 161 = dktX9_behindSum_7 := dk_seg dksX9_behindSum_6 24 rfl rfl
theorem dksX9_behindSum_8 : cX9_behindSum.data.toList.drop 183 = dktX9_behindSum_8 := dk_seg dksX9_behindSum_7 22 rfl rfl
theorem dksX9_behindSum_9 : cX9_behindSum.data.toList.drop 206 = dktX9_behindSum_9 := dk_seg dksX9_behindSum_8 23 rfl rfl
theorem dksX9_behindSum_10 : cX9_behindSum.data.toList.drop 228 = dktX9_behindSum_10 := dk_seg dksX9_behindSum_9 22 rfl rfl
theorem dX9_behindSum_0 : decode cX9_behindSum 0 = .ok (.aload_n 0, 1) := dk_42 (dk_at dksX9_behindSum_0 0 rfl rfl)
theorem dX9_behindSum_1 : decode cX9_behindSum 1 = .ok (.bipush 43, 2) := dk_16 43 (dk_at dksX9_behindSum_0 1 rfl rfl)
theorem dX9_behindSum_3 : decode cX9_behindSum 3 = .ok (.invokevirtual 288, 3) := dk_182 1 32 (dk_at dksX9_behindSum_0 3 rfl rfl)
theorem dX9_behindSum_6 : decode cX9_behindSum 6 = .ok (.ifCond .eq 8, 3) := dk_153 0 8 (dk_at dksX9_behindSum_0 6 rfl rfl)
theorem dX9_behindSum_9 : decode cX9_behindSum 9 = .ok (.bipush 20, 2) := dk_16 20 (dk_at dksX9_behindSum_0 9 rfl rfl)
theorem dX9_behindSum_11 : decode cX9_behindSum 11 = .ok (.goto 46, 3) := dk_167 0 46 (dk_at dksX9_behindSum_0 11 rfl rfl)
theorem dX9_behindSum_14 : decode cX9_behindSum 14 = .ok (.aload_n 0, 1) := dk_42 (dk_at dksX9_behindSum_0 14 rfl rfl)
theorem dX9_behindSum_15 : decode cX9_behindSum 15 = .ok (.bipush 45, 2) := dk_16 45 (dk_at dksX9_behindSum_0 15 rfl rfl)
theorem dX9_behindSum_17 : decode cX9_behindSum 17 = .ok (.invokevirtual 288, 3) := dk_182 1 32 (dk_at dksX9_behindSum_0 17 rfl rfl)
theorem dX9_behindSum_20 : decode cX9_behindSum 20 = .ok (.ifCond .eq 8, 3) := dk_153 0 8 (dk_at dksX9_behindSum_0 20 rfl rfl)
theorem dX9_behindSum_23 : decode cX9_behindSum 23 = .ok (.bipush 21, 2) := dk_16 21 (dk_at dksX9_behindSum_1 0 rfl rfl)
theorem dX9_behindSum_25 : decode cX9_behindSum 25 = .ok (.goto 32, 3) := dk_167 0 32 (dk_at dksX9_behindSum_1 2 rfl rfl)
theorem dX9_behindSum_28 : decode cX9_behindSum 28 = .ok (.aload_n 0, 1) := dk_42 (dk_at dksX9_behindSum_1 5 rfl rfl)
theorem dX9_behindSum_29 : decode cX9_behindSum 29 = .ok (.bipush 42, 2) := dk_16 42 (dk_at dksX9_behindSum_1 6 rfl rfl)
theorem dX9_behindSum_31 : decode cX9_behindSum 31 = .ok (.invokevirtual 288, 3) := dk_182 1 32 (dk_at dksX9_behindSum_1 8 rfl rfl)
theorem dX9_behindSum_34 : decode cX9_behindSum 34 = .ok (.ifCond .eq 8, 3) := dk_153 0 8 (dk_at dksX9_behindSum_1 11 rfl rfl)
theorem dX9_behindSum_37 : decode cX9_behindSum 37 = .ok (.bipush 22, 2) := dk_16 22 (dk_at dksX9_behindSum_1 14 rfl rfl)
theorem dX9_behindSum_39 : decode cX9_behindSum 39 = .ok (.goto 18, 3) := dk_167 0 18 (dk_at dksX9_behindSum_1 16 rfl rfl)
theorem dX9_behindSum_42 : decode cX9_behindSum 42 = .ok (.aload_n 0, 1) := dk_42 (dk_at dksX9_behindSum_1 19 rfl rfl)
theorem dX9_behindSum_43 : decode cX9_behindSum 43 = .ok (.bipush 47, 2) := dk_16 47 (dk_at dksX9_behindSum_1 20 rfl rfl)
theorem dX9_behindSum_45 : decode cX9_behindSum 45 = .ok (.invokevirtual 288, 3) := dk_182 1 32 (dk_at dksX9_behindSum_2 0 rfl rfl)
theorem dX9_behindSum_48 : decode cX9_behindSum 48 = .ok (.ifCond .eq 8, 3) := dk_153 0 8 (dk_at dksX9_behindSum_2 3 rfl rfl)
theorem dX9_behindSum_51 : decode cX9_behindSum 51 = .ok (.bipush 23, 2) := dk_16 23 (dk_at dksX9_behindSum_2 6 rfl rfl)
theorem dX9_behindSum_53 : decode cX9_behindSum 53 = .ok (.goto 4, 3) := dk_167 0 4 (dk_at dksX9_behindSum_2 8 rfl rfl)
theorem dX9_behindSum_56 : decode cX9_behindSum 56 = .ok (.iconst (-1), 1) := dk_2 (dk_at dksX9_behindSum_2 11 rfl rfl)
theorem dX9_behindSum_57 : decode cX9_behindSum 57 = .ok (.istore_n 2, 1) := dk_61 (dk_at dksX9_behindSum_2 12 rfl rfl)
theorem dX9_behindSum_58 : decode cX9_behindSum 58 = .ok (.iload_n 2, 1) := dk_28 (dk_at dksX9_behindSum_2 13 rfl rfl)
theorem dX9_behindSum_59 : decode cX9_behindSum 59 = .ok (.iconst (-1), 1) := dk_2 (dk_at dksX9_behindSum_2 14 rfl rfl)
theorem dX9_behindSum_60 : decode cX9_behindSum 60 = .ok (.if_icmp .eq 23, 3) := dk_159 0 23 (dk_at dksX9_behindSum_2 15 rfl rfl)
theorem dX9_behindSum_63 : decode cX9_behindSum 63 = .ok (.aload_n 0, 1) := dk_42 (dk_at dksX9_behindSum_2 18 rfl rfl)
theorem dX9_behindSum_64 : decode cX9_behindSum 64 = .ok (.iload_n 2, 1) := dk_28 (dk_at dksX9_behindSum_2 19 rfl rfl)
theorem dX9_behindSum_65 : decode cX9_behindSum 65 = .ok (.invokestatic 264, 3) := dk_184 1 8 (dk_at dksX9_behindSum_2 20 rfl rfl)
theorem dX9_behindSum_68 : decode cX9_behindSum 68 = .ok (.invokevirtual 309, 3) := dk_182 1 53 (dk_at dksX9_behindSum_3 0 rfl rfl)
theorem dX9_behindSum_71 : decode cX9_behindSum 71 = .ok (.aload_n 0, 1) := dk_42 (dk_at dksX9_behindSum_3 3 rfl rfl)
theorem dX9_behindSum_72 : decode cX9_behindSum 72 = .ok (.iload_n 2, 1) := dk_28 (dk_at dksX9_behindSum_3 4 rfl rfl)
theorem dX9_behindSum_73 : decode cX9_behindSum 73 = .ok (.iconst 0, 1) := dk_3 (dk_at dksX9_behindSum_3 5 rfl rfl)
theorem dX9_behindSum_74 : decode cX9_behindSum 74 = .ok (.invokevirtual 282, 3) := dk_182 1 26 (dk_at dksX9_behindSum_3 6 rfl rfl)
theorem dX9_behindSum_77 : decode cX9_behindSum 77 = .ok (.aload_n 0, 1) := dk_42 (dk_at dksX9_behindSum_3 9 rfl rfl)
theorem dX9_behindSum_78 : decode cX9_behindSum 78 = .ok (.invokevirtual 223, 3) := dk_182 0 223 (dk_at dksX9_behindSum_3 10 rfl rfl)
theorem dX9_behindSum_81 : decode cX9_behindSum 81 = .ok (.iconst 1, 1) := dk_4 (dk_at dksX9_behindSum_3 13 rfl rfl)
theorem dX9_behindSum_82 : decode cX9_behindSum 82 = .ok (.ireturn, 1) := dk_172 (dk_at dksX9_behindSum_3 14 rfl rfl)
theorem dX9_behindSum_83 : decode cX9_behindSum 83 = .ok (.aload_n 0, 1) := dk_42 (dk_at dksX9_behindSum_3 15 rfl rfl)
theorem dX9_behindSum_84 : decode cX9_behindSum 84 = .ok (.invokevirtual 312, 3) := dk_182 1 56 (dk_at dksX9_behindSum_3 16 rfl rfl)
theorem dX9_behindSum_87 : decode cX9_behindSum 87 = .ok (.istore_n 3, 1) := dk_62 (dk_at dksX9_behindSum_3 19 rfl rfl)
theorem dX9_behindSum_88 : decode cX9_behindSum 88 = .ok (.iload_n 3, 1) := dk_29 (dk_at dksX9_behindSum_3 20 rfl rfl)
theorem dX9_behindSum_89 : decode cX9_behindSum 89 = .ok (.bipush 31, 2) := dk_16 31 (dk_at dksX9_behindSum_3 21 rfl rfl)
theorem dX9_behindSum_91 : decode cX9_behindSum 91 = .ok (.if_icmp .ne 47, 3) := dk_160 0 47 (dk_at dksX9_behindSum_4 0 rfl rfl)
theorem dX9_behindSum_94 : decode cX9_behindSum 94 = .ok (.aload_n 0, 1) := dk_42 (dk_at dksX9_behindSum_4 3 rfl rfl)
theorem dX9_behindSum_95 : decode cX9_behindSum 95 = .ok (.aload_n 0, 1) := dk_42 (dk_at dksX9_behindSum_4 4 rfl rfl)
theorem dX9_behindSum_96 : decode cX9_behindSum 96 = .ok (.bipush 93, 2) := dk_16 93 (dk_at dksX9_behindSum_4 5 rfl rfl)
theorem dX9_behindSum_98 : decode cX9_behindSum 98 = .ok (.invokevirtual 288, 3) := dk_182 1 32 (dk_at dksX9_behindSum_4 7 rfl rfl)
theorem dX9_behindSum_101 : decode cX9_behindSum 101 = .ok (.invokevirtual 254, 3) := dk_182 0 254 (dk_at dksX9_behindSum_4 10 rfl rfl)
theorem dX9_behindSum_104 : decode cX9_behindSum 104 = .ok (.aload_n 0, 1) := dk_42 (dk_at dksX9_behindSum_4 13 rfl rfl)
theorem dX9_behindSum_105 : decode cX9_behindSum 105 = .ok (.getfield 219, 3) := dk_180 0 219 (dk_at dksX9_behindSum_4 14 rfl rfl)
theorem dX9_behindSum_108 : decode cX9_behindSum 108 = .ok (.ifCond .ne 28, 3) := dk_154 0 28 (dk_at dksX9_behindSum_4 17 rfl rfl)
theorem dX9_behindSum_111 : decode cX9_behindSum 111 = .ok (.aload_n 0, 1) := dk_42 (dk_at dksX9_behindSum_4 20 rfl rfl)
theorem dX9_behindSum_112 : decode cX9_behindSum 112 = .ok (.iconst 5, 1) := dk_8 (dk_at dksX9_behindSum_4 21 rfl rfl)
theorem dX9_behindSum_113 : decode cX9_behindSum 113 = .ok (.invokevirtual 309, 3) := dk_182 1 53 (dk_at dksX9_behindSum_5 0 rfl rfl)
theorem dX9_behindSum_116 : decode cX9_behindSum 116 = .ok (.aload_n 0, 1) := dk_42 (dk_at dksX9_behindSum_5 3 rfl rfl)
theorem dX9_behindSum_117 : decode cX9_behindSum 117 = .ok (.dup, 1) := dk_89 (dk_at dksX9_behindSum_5 4 rfl rfl)
theorem dX9_behindSum_118 : decode cX9_behindSum 118 = .ok (.getfield 261, 3) := dk_180 1 5 (dk_at dksX9_behindSum_5 5 rfl rfl)
theorem dX9_behindSum_121 : decode cX9_behindSum 121 = .ok (.iconst 1, 1) := dk_4 (dk_at dksX9_behindSum_5 8 rfl rfl)
theorem dX9_behindSum_122 : decode cX9_behindSum 122 = .ok (.isub, 1) := dk_100 (dk_at dksX9_behindSum_5 9 rfl rfl)
theorem dX9_behindSum_123 : decode cX9_behindSum 123 = .ok (.putfield 261, 3) := dk_181 1 5 (dk_at dksX9_behindSum_5 10 rfl rfl)
theorem dX9_behindSum_126 : decode cX9_behindSum 126 = .ok (.aload_n 0, 1) := dk_42 (dk_at dksX9_behindSum_5 13 rfl rfl)
theorem dX9_behindSum_127 : decode cX9_behindSum 127 = .ok (.dup, 1) := dk_89 (dk_at dksX9_behindSum_5 14 rfl rfl)
theorem dX9_behindSum_128 : decode cX9_behindSum 128 = .ok (.getfield 279, 3) := dk_180 1 23 (dk_at dksX9_behindSum_5 15 rfl rfl)
theorem dX9_behindSum_131 : decode cX9_behindSum 131 = .ok (.iconst 1, 1) := dk_4 (dk_at dksX9_behindSum_5 18 rfl rfl)
theorem dX9_behindSum_132 : decode cX9_behindSum 132 = .ok (.isub, 1) := dk_100 (dk_at dksX9_behindSum_5 19 rfl rfl)
theorem dX9_behindSum_133 : decode cX9_behindSum 133 = .ok (.putfield 279, 3) := dk_181 1 23 (dk_at dksX9_behindSum_5 20 rfl rfl)
theorem dX9_behindSum_136 : decode cX9_behindSum 136 = .ok (.iconst 3, 1) := dk_6 (dk_at dksX9_behindSum_5 23 rfl rfl)
theorem dX9_behindSum_137 : decode cX9_behindSum 137 = .ok (.ireturn, 1) := dk_172 (dk_at dksX9_behindSum_6 0 rfl rfl)
theorem dX9_behindSum_138 : decode cX9_behindSum 138 = .ok (.iload_n 3, 1) := dk_29 (dk_at dksX9_behindSum_6 1 rfl rfl)
theorem dX9_behindSum_139 : decode cX9_behindSum 139 = .ok (.iconst (-1), 1) := dk_2 (dk_at dksX9_behindSum_6 2 rfl rfl)
theorem dX9_behindSum_140 : decode cX9_behindSum 140 = .ok (.if_icmp .ne 9, 3) := dk_160 0 9 (dk_at dksX9_behindSum_6 3 rfl rfl)
theorem dX9_behindSum_143 : decode cX9_behindSum 143 = .ok (.iload_n 1, 1) := dk_27 (dk_at dksX9_behindSum_6 6 rfl rfl)
theorem dX9_behindSum_144 : decode cX9_behindSum 144 = .ok (.ifCond .ne 5, 3) := dk_154 0 5 (dk_at dksX9_behindSum_6 7 rfl rfl)
theorem dX9_behindSum_147 : decode cX9_behindSum 147 = .ok (.iconst 4, 1) := dk_7 (dk_at dksX9_behindSum_6 10 rfl rfl)
theorem dX9_behindSum_148 : decode cX9_behindSum 148 = .ok (.ireturn, 1) := dk_172 (dk_at dksX9_behindSum_6 11 rfl rfl)
theorem dX9_behindSum_149 : decode cX9_behindSum 149 = .ok (.aload_n 0, 1) := dk_42 (dk_at dksX9_behindSum_6 12 rfl rfl)
theorem dX9_behindSum_150 : decode cX9_behindSum 150 = .ok (.invokevirtual 315, 3) := dk_182 1 59 (dk_at dksX9_behindSum_6 13 rfl rfl)
theorem dX9_behindSum_153 : decode cX9_behindSum 153 = .ok (.ifCond .eq 5, 3) := dk_153 0 5 (dk_at dksX9_behindSum_6 16 rfl rfl)
theorem dX9_behindSum_156 : decode cX9_behindSum 156 = .ok (.iconst 2, 1) := dk_5 (dk_at dksX9_behindSum_6 19 rfl rfl)
theorem dX9_behindSum_157 : decode cX9_behindSum 157 = .ok (.ireturn, 1) := dk_172 (dk_at dksX9_behindSum_6 20 rfl rfl)
theorem dX9_behindSum_158 : decode cX9_behindSum 158 = .ok (.aload_n 0, 1) := dk_42 (dk_at dksX9_behindSum_6 21 rfl rfl)
theorem dX9_behindSum_159 : decode cX9_behindSum 159 = .ok (.bipush 60, 2) := dk_16 60 (dk_at dksX9_behindSum_6 22 rfl rfl)
theorem dX9_behindSum_161 : decode cX9_behindSum 161 = .ok (.invokevirtual 288, 3) := dk_182 1 32 (dk_at dksX9_behindSum_7 0 rfl rfl)
theorem dX9_behindSum_164 : decode cX9_behindSum 164 = .ok (.ifCond .eq 8, 3) := dk_153 0 8 (dk_at dksX9_behindSum_7 3 rfl rfl)
theorem dX9_behindSum_167 : decode cX9_behindSum 167 = .ok (.bipush 24, 2) := dk_16 24 (dk_at dksX9_behindSum_7 6 rfl rfl)
theorem dX9_behindSum_169 : decode cX9_behindSum 169 = .ok (.goto 19, 3) := dk_167 0 19 (dk_at dksX9_behindSum_7 8 rfl rfl)
theorem dX9_behindSum_172 : decode cX9_behindSum 172 = .ok (.aload_n 0, 1) := dk_42 (dk_at dksX9_behindSum_7 11 rfl rfl)
theorem dX9_behindSum_173 : decode cX9_behindSum 173 = .ok (.bipush 62, 2) := dk_16 62 (dk_at dksX9_behindSum_7 12 rfl rfl)
theorem dX9_behindSum_175 : decode cX9_behindSum 175 = .ok (.invokevirtual 288, 3) := dk_182 1 32 (dk_at dksX9_behindSum_7 14 rfl rfl)
theorem dX9_behindSum_178 : decode cX9_behindSum 178 = .ok (.ifCond .eq 8, 3) := dk_153 0 8 (dk_at dksX9_behindSum_7 17 rfl rfl)
theorem dX9_behindSum_181 : decode cX9_behindSum 181 = .ok (.bipush 25, 2) := dk_16 25 (dk_at dksX9_behindSum_7 20 rfl rfl)
theorem dX9_behindSum_183 : decode cX9_behindSum 183 = .ok (.goto 5, 3) := dk_167 0 5 (dk_at dksX9_behindSum_8 0 rfl rfl)
theorem dX9_behindSum_186 : decode cX9_behindSum 186 = .ok (.bipush 26, 2) := dk_16 26 (dk_at dksX9_behindSum_8 3 rfl rfl)
theorem dX9_behindSum_188 : decode cX9_behindSum 188 = .ok (.istore_n 2, 1) := dk_61 (dk_at dksX9_behindSum_8 5 rfl rfl)
theorem dX9_behindSum_189 : decode cX9_behindSum 189 = .ok (.aload_n 0, 1) := dk_42 (dk_at dksX9_behindSum_8 6 rfl rfl)
theorem dX9_behindSum_190 : decode cX9_behindSum 190 = .ok (.iload_n 2, 1) := dk_28 (dk_at dksX9_behindSum_8 7 rfl rfl)
theorem dX9_behindSum_191 : decode cX9_behindSum 191 = .ok (.bipush 26, 2) := dk_16 26 (dk_at dksX9_behindSum_8 8 rfl rfl)
theorem dX9_behindSum_193 : decode cX9_behindSum 193 = .ok (.if_icmp .ne 12, 3) := dk_160 0 12 (dk_at dksX9_behindSum_8 10 rfl rfl)
theorem dX9_behindSum_196 : decode cX9_behindSum 196 = .ok (.aload_n 0, 1) := dk_42 (dk_at dksX9_behindSum_8 13 rfl rfl)
theorem dX9_behindSum_197 : decode cX9_behindSum 197 = .ok (.bipush 61, 2) := dk_16 61 (dk_at dksX9_behindSum_8 14 rfl rfl)
theorem dX9_behindSum_199 : decode cX9_behindSum 199 = .ok (.invokevirtual 288, 3) := dk_182 1 32 (dk_at dksX9_behindSum_8 16 rfl rfl)
theorem dX9_behindSum_202 : decode cX9_behindSum 202 = .ok (.ifCond .eq 7, 3) := dk_153 0 7 (dk_at dksX9_behindSum_8 19 rfl rfl)
theorem dX9_behindSum_205 : decode cX9_behindSum 205 = .ok (.iconst 1, 1) := dk_4 (dk_at dksX9_behindSum_8 22 rfl rfl)
theorem dX9_behindSum_206 : decode cX9_behindSum 206 = .ok (.goto 4, 3) := dk_167 0 4 (dk_at dksX9_behindSum_9 0 rfl rfl)
theorem dX9_behindSum_209 : decode cX9_behindSum 209 = .ok (.iconst 0, 1) := dk_3 (dk_at dksX9_behindSum_9 3 rfl rfl)
theorem dX9_behindSum_210 : decode cX9_behindSum 210 = .ok (.invokevirtual 254, 3) := dk_182 0 254 (dk_at dksX9_behindSum_9 4 rfl rfl)
theorem dX9_behindSum_213 : decode cX9_behindSum 213 = .ok (.aload_n 0, 1) := dk_42 (dk_at dksX9_behindSum_9 7 rfl rfl)
theorem dX9_behindSum_214 : decode cX9_behindSum 214 = .ok (.getfield 219, 3) := dk_180 0 219 (dk_at dksX9_behindSum_9 8 rfl rfl)
theorem dX9_behindSum_217 : decode cX9_behindSum 217 = .ok (.ifCond .ne 14, 3) := dk_154 0 14 (dk_at dksX9_behindSum_9 11 rfl rfl)
theorem dX9_behindSum_220 : decode cX9_behindSum 220 = .ok (.aload_n 0, 1) := dk_42 (dk_at dksX9_behindSum_9 14 rfl rfl)
theorem dX9_behindSum_221 : decode cX9_behindSum 221 = .ok (.iconst 5, 1) := dk_8 (dk_at dksX9_behindSum_9 15 rfl rfl)
theorem dX9_behindSum_222 : decode cX9_behindSum 222 = .ok (.invokevirtual 309, 3) := dk_182 1 53 (dk_at dksX9_behindSum_9 16 rfl rfl)
theorem dX9_behindSum_225 : decode cX9_behindSum 225 = .ok (.aload_n 0, 1) := dk_42 (dk_at dksX9_behindSum_9 19 rfl rfl)
theorem dX9_behindSum_226 : decode cX9_behindSum 226 = .ok (.iload_n 2, 1) := dk_28 (dk_at dksX9_behindSum_9 20 rfl rfl)
theorem dX9_behindSum_227 : decode cX9_behindSum 227 = .ok (.iconst 0, 1) := dk_3 (dk_at dksX9_behindSum_9 21 rfl rfl)
theorem dX9_behindSum_228 : decode cX9_behindSum 228 = .ok (.invokevirtual 282, 3) := dk_182 1 26 (dk_at dksX9_behindSum_10 0 rfl rfl)
theorem dX9_behindSum_231 : decode cX9_behindSum 231 = .ok (.iconst 1, 1) := dk_4 (dk_at dksX9_behindSum_10 3 rfl rfl)
theorem dX9_behindSum_232 : decode cX9_behindSum 232 = .ok (.ireturn, 1) := dk_172 (dk_at dksX9_behindSum_10 4 rfl rfl)
abbrev cX9_binds : ByteArray := prog_23_method_41_code
def yX9_binds : MethodName := ⟨RX9, "binds", "(I)I"⟩
def dkwX9_binds_2 : List UInt8 := [167, 0, 15, 26, 16, 22, 161, 0, 8, 16, 6, 167, 0, 4, 8, 172]
abbrev dktX9_binds_2 : List UInt8 := dkwX9_binds_2 ++ []
def dkwX9_binds_1 : List UInt8 := [160, 0, 7, 5, 167, 0, 35, 26, 16, 27, 160, 0, 7, 6, 167, 0, 25, 26, 16, 24, 161, 0, 7, 7]
abbrev dktX9_binds_1 : List UInt8 := dkwX9_binds_1 ++ dktX9_binds_2
def dkwX9_binds_0 : List UInt8 := [26, 16, 30, 161, 0, 7, 3, 167, 0, 55, 26, 16, 29, 160, 0, 7, 4, 167, 0, 45, 26, 16, 28]
abbrev dktX9_binds_0 : List UInt8 := dkwX9_binds_0 ++ dktX9_binds_1
theorem dksX9_binds_0 : cX9_binds.data.toList.drop 0 = dktX9_binds_0 := by decide +kernel
theorem dksX9_binds_1 : cX9_binds.data.toList.drop 23 = dktX9_binds_1 := dk_seg dksX9_binds_0 23 rfl rfl
theorem dksX9_binds_2 : cX9_binds.data.toList.drop 47 = dktX9_binds_2 := dk_seg dksX9_binds_1 24 rfl rfl
theorem dX9_binds_0 : decode cX9_binds 0 = .ok (.iload_n 0, 1) := dk_26 (dk_at dksX9_binds_0 0 rfl rfl)
theorem dX9_binds_1 : decode cX9_binds 1 = .ok (.bipush 30, 2) := dk_16 30 (dk_at dksX9_binds_0 1 rfl rfl)
theorem dX9_binds_3 : decode cX9_binds 3 = .ok (.if_icmp .lt 7, 3) := dk_161 0 7 (dk_at dksX9_binds_0 3 rfl rfl)
theorem dX9_binds_6 : decode cX9_binds 6 = .ok (.iconst 0, 1) := dk_3 (dk_at dksX9_binds_0 6 rfl rfl)
theorem dX9_binds_7 : decode cX9_binds 7 = .ok (.goto 55, 3) := dk_167 0 55 (dk_at dksX9_binds_0 7 rfl rfl)
theorem dX9_binds_10 : decode cX9_binds 10 = .ok (.iload_n 0, 1) := dk_26 (dk_at dksX9_binds_0 10 rfl rfl)
theorem dX9_binds_11 : decode cX9_binds 11 = .ok (.bipush 29, 2) := dk_16 29 (dk_at dksX9_binds_0 11 rfl rfl)
theorem dX9_binds_13 : decode cX9_binds 13 = .ok (.if_icmp .ne 7, 3) := dk_160 0 7 (dk_at dksX9_binds_0 13 rfl rfl)
theorem dX9_binds_16 : decode cX9_binds 16 = .ok (.iconst 1, 1) := dk_4 (dk_at dksX9_binds_0 16 rfl rfl)
theorem dX9_binds_17 : decode cX9_binds 17 = .ok (.goto 45, 3) := dk_167 0 45 (dk_at dksX9_binds_0 17 rfl rfl)
theorem dX9_binds_20 : decode cX9_binds 20 = .ok (.iload_n 0, 1) := dk_26 (dk_at dksX9_binds_0 20 rfl rfl)
theorem dX9_binds_21 : decode cX9_binds 21 = .ok (.bipush 28, 2) := dk_16 28 (dk_at dksX9_binds_0 21 rfl rfl)
theorem dX9_binds_23 : decode cX9_binds 23 = .ok (.if_icmp .ne 7, 3) := dk_160 0 7 (dk_at dksX9_binds_1 0 rfl rfl)
theorem dX9_binds_26 : decode cX9_binds 26 = .ok (.iconst 2, 1) := dk_5 (dk_at dksX9_binds_1 3 rfl rfl)
theorem dX9_binds_27 : decode cX9_binds 27 = .ok (.goto 35, 3) := dk_167 0 35 (dk_at dksX9_binds_1 4 rfl rfl)
theorem dX9_binds_30 : decode cX9_binds 30 = .ok (.iload_n 0, 1) := dk_26 (dk_at dksX9_binds_1 7 rfl rfl)
theorem dX9_binds_31 : decode cX9_binds 31 = .ok (.bipush 27, 2) := dk_16 27 (dk_at dksX9_binds_1 8 rfl rfl)
theorem dX9_binds_33 : decode cX9_binds 33 = .ok (.if_icmp .ne 7, 3) := dk_160 0 7 (dk_at dksX9_binds_1 10 rfl rfl)
theorem dX9_binds_36 : decode cX9_binds 36 = .ok (.iconst 3, 1) := dk_6 (dk_at dksX9_binds_1 13 rfl rfl)
theorem dX9_binds_37 : decode cX9_binds 37 = .ok (.goto 25, 3) := dk_167 0 25 (dk_at dksX9_binds_1 14 rfl rfl)
theorem dX9_binds_40 : decode cX9_binds 40 = .ok (.iload_n 0, 1) := dk_26 (dk_at dksX9_binds_1 17 rfl rfl)
theorem dX9_binds_41 : decode cX9_binds 41 = .ok (.bipush 24, 2) := dk_16 24 (dk_at dksX9_binds_1 18 rfl rfl)
theorem dX9_binds_43 : decode cX9_binds 43 = .ok (.if_icmp .lt 7, 3) := dk_161 0 7 (dk_at dksX9_binds_1 20 rfl rfl)
theorem dX9_binds_46 : decode cX9_binds 46 = .ok (.iconst 4, 1) := dk_7 (dk_at dksX9_binds_1 23 rfl rfl)
theorem dX9_binds_47 : decode cX9_binds 47 = .ok (.goto 15, 3) := dk_167 0 15 (dk_at dksX9_binds_2 0 rfl rfl)
theorem dX9_binds_50 : decode cX9_binds 50 = .ok (.iload_n 0, 1) := dk_26 (dk_at dksX9_binds_2 3 rfl rfl)
theorem dX9_binds_51 : decode cX9_binds 51 = .ok (.bipush 22, 2) := dk_16 22 (dk_at dksX9_binds_2 4 rfl rfl)
theorem dX9_binds_53 : decode cX9_binds 53 = .ok (.if_icmp .lt 8, 3) := dk_161 0 8 (dk_at dksX9_binds_2 6 rfl rfl)
theorem dX9_binds_56 : decode cX9_binds 56 = .ok (.bipush 6, 2) := dk_16 6 (dk_at dksX9_binds_2 9 rfl rfl)
theorem dX9_binds_58 : decode cX9_binds 58 = .ok (.goto 4, 3) := dk_167 0 4 (dk_at dksX9_binds_2 11 rfl rfl)
theorem dX9_binds_61 : decode cX9_binds 61 = .ok (.iconst 5, 1) := dk_8 (dk_at dksX9_binds_2 14 rfl rfl)
theorem dX9_binds_62 : decode cX9_binds 62 = .ok (.ireturn, 1) := dk_172 (dk_at dksX9_binds_2 15 rfl rfl)
abbrev cX9_settle : ByteArray := prog_23_method_42_code
def yX9_settle : MethodName := ⟨RX9, "settle", "(I)V"⟩
def dkwX9_settle_4 : List UInt8 := [180, 1, 5, 46, 3, 182, 1, 11, 167, 255, 158, 177]
abbrev dktX9_settle_4 : List UInt8 := dkwX9_settle_4 ++ []
def dkwX9_settle_3 : List UInt8 := [180, 0, 42, 42, 180, 1, 5, 46, 42, 180, 1, 2, 79, 167, 255, 175, 42, 42, 180, 0, 39, 42]
abbrev dktX9_settle_3 : List UInt8 := dkwX9_settle_3 ++ dktX9_settle_4
def dkwX9_settle_2 : List UInt8 := [159, 0, 17, 42, 180, 0, 39, 42, 180, 1, 5, 46, 16, 29, 160, 0, 24, 42, 180, 0, 36, 42]
abbrev dktX9_settle_2 : List UInt8 := dkwX9_settle_2 ++ dktX9_settle_3
def dkwX9_settle_1 : List UInt8 := [161, 0, 79, 42, 89, 180, 1, 5, 4, 100, 181, 1, 5, 42, 180, 0, 39, 42, 180, 1, 5, 46, 16, 28]
abbrev dktX9_settle_1 : List UInt8 := dkwX9_settle_1 ++ dktX9_settle_2
def dkwX9_settle_0 : List UInt8 := [42, 180, 1, 5, 158, 0, 97, 42, 180, 0, 39, 42, 180, 1, 5, 4, 100, 46, 184, 1, 8, 27]
abbrev dktX9_settle_0 : List UInt8 := dkwX9_settle_0 ++ dktX9_settle_1
theorem dksX9_settle_0 : cX9_settle.data.toList.drop 0 = dktX9_settle_0 := by decide +kernel
theorem dksX9_settle_1 : cX9_settle.data.toList.drop 22 = dktX9_settle_1 := dk_seg dksX9_settle_0 22 rfl rfl
theorem dksX9_settle_2 : cX9_settle.data.toList.drop 46 = dktX9_settle_2 := dk_seg dksX9_settle_1 24 rfl rfl
theorem dksX9_settle_3 : cX9_settle.data.toList.drop 68 = dktX9_settle_3 := dk_seg dksX9_settle_2 22 rfl rfl
theorem dksX9_settle_4 : cX9_settle.data.toList.drop 90 = dktX9_settle_4 := dk_seg dksX9_settle_3 22 rfl rfl
theorem dX9_settle_0 : decode cX9_settle 0 = .ok (.aload_n 0, 1) := dk_42 (dk_at dksX9_settle_0 0 rfl rfl)
theorem dX9_settle_1 : decode cX9_settle 1 = .ok (.getfield 261, 3) := dk_180 1 5 (dk_at dksX9_settle_0 1 rfl rfl)
theorem dX9_settle_4 : decode cX9_settle 4 = .ok (.ifCond .le 97, 3) := dk_158 0 97 (dk_at dksX9_settle_0 4 rfl rfl)
theorem dX9_settle_7 : decode cX9_settle 7 = .ok (.aload_n 0, 1) := dk_42 (dk_at dksX9_settle_0 7 rfl rfl)
theorem dX9_settle_8 : decode cX9_settle 8 = .ok (.getfield 39, 3) := dk_180 0 39 (dk_at dksX9_settle_0 8 rfl rfl)
theorem dX9_settle_11 : decode cX9_settle 11 = .ok (.aload_n 0, 1) := dk_42 (dk_at dksX9_settle_0 11 rfl rfl)
theorem dX9_settle_12 : decode cX9_settle 12 = .ok (.getfield 261, 3) := dk_180 1 5 (dk_at dksX9_settle_0 12 rfl rfl)
theorem dX9_settle_15 : decode cX9_settle 15 = .ok (.iconst 1, 1) := dk_4 (dk_at dksX9_settle_0 15 rfl rfl)
theorem dX9_settle_16 : decode cX9_settle 16 = .ok (.isub, 1) := dk_100 (dk_at dksX9_settle_0 16 rfl rfl)
theorem dX9_settle_17 : decode cX9_settle 17 = .ok (.iaload, 1) := dk_46 (dk_at dksX9_settle_0 17 rfl rfl)
theorem dX9_settle_18 : decode cX9_settle 18 = .ok (.invokestatic 264, 3) := dk_184 1 8 (dk_at dksX9_settle_0 18 rfl rfl)
theorem dX9_settle_21 : decode cX9_settle 21 = .ok (.iload_n 1, 1) := dk_27 (dk_at dksX9_settle_0 21 rfl rfl)
theorem dX9_settle_22 : decode cX9_settle 22 = .ok (.if_icmp .lt 79, 3) := dk_161 0 79 (dk_at dksX9_settle_1 0 rfl rfl)
theorem dX9_settle_25 : decode cX9_settle 25 = .ok (.aload_n 0, 1) := dk_42 (dk_at dksX9_settle_1 3 rfl rfl)
theorem dX9_settle_26 : decode cX9_settle 26 = .ok (.dup, 1) := dk_89 (dk_at dksX9_settle_1 4 rfl rfl)
theorem dX9_settle_27 : decode cX9_settle 27 = .ok (.getfield 261, 3) := dk_180 1 5 (dk_at dksX9_settle_1 5 rfl rfl)
theorem dX9_settle_30 : decode cX9_settle 30 = .ok (.iconst 1, 1) := dk_4 (dk_at dksX9_settle_1 8 rfl rfl)
theorem dX9_settle_31 : decode cX9_settle 31 = .ok (.isub, 1) := dk_100 (dk_at dksX9_settle_1 9 rfl rfl)
theorem dX9_settle_32 : decode cX9_settle 32 = .ok (.putfield 261, 3) := dk_181 1 5 (dk_at dksX9_settle_1 10 rfl rfl)
theorem dX9_settle_35 : decode cX9_settle 35 = .ok (.aload_n 0, 1) := dk_42 (dk_at dksX9_settle_1 13 rfl rfl)
theorem dX9_settle_36 : decode cX9_settle 36 = .ok (.getfield 39, 3) := dk_180 0 39 (dk_at dksX9_settle_1 14 rfl rfl)
theorem dX9_settle_39 : decode cX9_settle 39 = .ok (.aload_n 0, 1) := dk_42 (dk_at dksX9_settle_1 17 rfl rfl)
theorem dX9_settle_40 : decode cX9_settle 40 = .ok (.getfield 261, 3) := dk_180 1 5 (dk_at dksX9_settle_1 18 rfl rfl)
theorem dX9_settle_43 : decode cX9_settle 43 = .ok (.iaload, 1) := dk_46 (dk_at dksX9_settle_1 21 rfl rfl)
theorem dX9_settle_44 : decode cX9_settle 44 = .ok (.bipush 28, 2) := dk_16 28 (dk_at dksX9_settle_1 22 rfl rfl)
theorem dX9_settle_46 : decode cX9_settle 46 = .ok (.if_icmp .eq 17, 3) := dk_159 0 17 (dk_at dksX9_settle_2 0 rfl rfl)
theorem dX9_settle_49 : decode cX9_settle 49 = .ok (.aload_n 0, 1) := dk_42 (dk_at dksX9_settle_2 3 rfl rfl)
theorem dX9_settle_50 : decode cX9_settle 50 = .ok (.getfield 39, 3) := dk_180 0 39 (dk_at dksX9_settle_2 4 rfl rfl)
theorem dX9_settle_53 : decode cX9_settle 53 = .ok (.aload_n 0, 1) := dk_42 (dk_at dksX9_settle_2 7 rfl rfl)
theorem dX9_settle_54 : decode cX9_settle 54 = .ok (.getfield 261, 3) := dk_180 1 5 (dk_at dksX9_settle_2 8 rfl rfl)
theorem dX9_settle_57 : decode cX9_settle 57 = .ok (.iaload, 1) := dk_46 (dk_at dksX9_settle_2 11 rfl rfl)
theorem dX9_settle_58 : decode cX9_settle 58 = .ok (.bipush 29, 2) := dk_16 29 (dk_at dksX9_settle_2 12 rfl rfl)
theorem dX9_settle_60 : decode cX9_settle 60 = .ok (.if_icmp .ne 24, 3) := dk_160 0 24 (dk_at dksX9_settle_2 14 rfl rfl)
theorem dX9_settle_63 : decode cX9_settle 63 = .ok (.aload_n 0, 1) := dk_42 (dk_at dksX9_settle_2 17 rfl rfl)
theorem dX9_settle_64 : decode cX9_settle 64 = .ok (.getfield 36, 3) := dk_180 0 36 (dk_at dksX9_settle_2 18 rfl rfl)
theorem dX9_settle_67 : decode cX9_settle 67 = .ok (.aload_n 0, 1) := dk_42 (dk_at dksX9_settle_2 21 rfl rfl)
theorem dX9_settle_68 : decode cX9_settle 68 = .ok (.getfield 42, 3) := dk_180 0 42 (dk_at dksX9_settle_3 0 rfl rfl)
theorem dX9_settle_71 : decode cX9_settle 71 = .ok (.aload_n 0, 1) := dk_42 (dk_at dksX9_settle_3 3 rfl rfl)
theorem dX9_settle_72 : decode cX9_settle 72 = .ok (.getfield 261, 3) := dk_180 1 5 (dk_at dksX9_settle_3 4 rfl rfl)
theorem dX9_settle_75 : decode cX9_settle 75 = .ok (.iaload, 1) := dk_46 (dk_at dksX9_settle_3 7 rfl rfl)
theorem dX9_settle_76 : decode cX9_settle 76 = .ok (.aload_n 0, 1) := dk_42 (dk_at dksX9_settle_3 8 rfl rfl)
theorem dX9_settle_77 : decode cX9_settle 77 = .ok (.getfield 258, 3) := dk_180 1 2 (dk_at dksX9_settle_3 9 rfl rfl)
theorem dX9_settle_80 : decode cX9_settle 80 = .ok (.iastore, 1) := dk_79 (dk_at dksX9_settle_3 12 rfl rfl)
theorem dX9_settle_81 : decode cX9_settle 81 = .ok (.goto (-81), 3) := dk_167 255 175 (dk_at dksX9_settle_3 13 rfl rfl)
theorem dX9_settle_84 : decode cX9_settle 84 = .ok (.aload_n 0, 1) := dk_42 (dk_at dksX9_settle_3 16 rfl rfl)
theorem dX9_settle_85 : decode cX9_settle 85 = .ok (.aload_n 0, 1) := dk_42 (dk_at dksX9_settle_3 17 rfl rfl)
theorem dX9_settle_86 : decode cX9_settle 86 = .ok (.getfield 39, 3) := dk_180 0 39 (dk_at dksX9_settle_3 18 rfl rfl)
theorem dX9_settle_89 : decode cX9_settle 89 = .ok (.aload_n 0, 1) := dk_42 (dk_at dksX9_settle_3 21 rfl rfl)
theorem dX9_settle_90 : decode cX9_settle 90 = .ok (.getfield 261, 3) := dk_180 1 5 (dk_at dksX9_settle_4 0 rfl rfl)
theorem dX9_settle_93 : decode cX9_settle 93 = .ok (.iaload, 1) := dk_46 (dk_at dksX9_settle_4 3 rfl rfl)
theorem dX9_settle_94 : decode cX9_settle 94 = .ok (.iconst 0, 1) := dk_3 (dk_at dksX9_settle_4 4 rfl rfl)
theorem dX9_settle_95 : decode cX9_settle 95 = .ok (.invokevirtual 267, 3) := dk_182 1 11 (dk_at dksX9_settle_4 5 rfl rfl)
theorem dX9_settle_98 : decode cX9_settle 98 = .ok (.goto (-98), 3) := dk_167 255 158 (dk_at dksX9_settle_4 8 rfl rfl)
theorem dX9_settle_101 : decode cX9_settle 101 = .ok (.return_, 1) := dk_177 (dk_at dksX9_settle_4 11 rfl rfl)
abbrev cX9_inner : ByteArray := prog_23_method_43_code
def yX9_inner : MethodName := ⟨RX9, "inner", "()I"⟩
def dkwX9_inner_1 : List UInt8 := [180, 0, 39, 28, 46, 167, 0, 4, 27, 60, 132, 2, 1, 167, 255, 223, 27, 172]
abbrev dktX9_inner_1 : List UInt8 := dkwX9_inner_1 ++ []
def dkwX9_inner_0 : List UInt8 := [2, 60, 3, 61, 28, 42, 180, 1, 5, 162, 0, 31, 42, 180, 0, 39, 28, 46, 16, 30, 161, 0, 12, 42]
abbrev dktX9_inner_0 : List UInt8 := dkwX9_inner_0 ++ dktX9_inner_1
theorem dksX9_inner_0 : cX9_inner.data.toList.drop 0 = dktX9_inner_0 := by decide +kernel
theorem dksX9_inner_1 : cX9_inner.data.toList.drop 24 = dktX9_inner_1 := dk_seg dksX9_inner_0 24 rfl rfl
theorem dX9_inner_0 : decode cX9_inner 0 = .ok (.iconst (-1), 1) := dk_2 (dk_at dksX9_inner_0 0 rfl rfl)
theorem dX9_inner_1 : decode cX9_inner 1 = .ok (.istore_n 1, 1) := dk_60 (dk_at dksX9_inner_0 1 rfl rfl)
theorem dX9_inner_2 : decode cX9_inner 2 = .ok (.iconst 0, 1) := dk_3 (dk_at dksX9_inner_0 2 rfl rfl)
theorem dX9_inner_3 : decode cX9_inner 3 = .ok (.istore_n 2, 1) := dk_61 (dk_at dksX9_inner_0 3 rfl rfl)
theorem dX9_inner_4 : decode cX9_inner 4 = .ok (.iload_n 2, 1) := dk_28 (dk_at dksX9_inner_0 4 rfl rfl)
theorem dX9_inner_5 : decode cX9_inner 5 = .ok (.aload_n 0, 1) := dk_42 (dk_at dksX9_inner_0 5 rfl rfl)
theorem dX9_inner_6 : decode cX9_inner 6 = .ok (.getfield 261, 3) := dk_180 1 5 (dk_at dksX9_inner_0 6 rfl rfl)
theorem dX9_inner_9 : decode cX9_inner 9 = .ok (.if_icmp .ge 31, 3) := dk_162 0 31 (dk_at dksX9_inner_0 9 rfl rfl)
theorem dX9_inner_12 : decode cX9_inner 12 = .ok (.aload_n 0, 1) := dk_42 (dk_at dksX9_inner_0 12 rfl rfl)
theorem dX9_inner_13 : decode cX9_inner 13 = .ok (.getfield 39, 3) := dk_180 0 39 (dk_at dksX9_inner_0 13 rfl rfl)
theorem dX9_inner_16 : decode cX9_inner 16 = .ok (.iload_n 2, 1) := dk_28 (dk_at dksX9_inner_0 16 rfl rfl)
theorem dX9_inner_17 : decode cX9_inner 17 = .ok (.iaload, 1) := dk_46 (dk_at dksX9_inner_0 17 rfl rfl)
theorem dX9_inner_18 : decode cX9_inner 18 = .ok (.bipush 30, 2) := dk_16 30 (dk_at dksX9_inner_0 18 rfl rfl)
theorem dX9_inner_20 : decode cX9_inner 20 = .ok (.if_icmp .lt 12, 3) := dk_161 0 12 (dk_at dksX9_inner_0 20 rfl rfl)
theorem dX9_inner_23 : decode cX9_inner 23 = .ok (.aload_n 0, 1) := dk_42 (dk_at dksX9_inner_0 23 rfl rfl)
theorem dX9_inner_24 : decode cX9_inner 24 = .ok (.getfield 39, 3) := dk_180 0 39 (dk_at dksX9_inner_1 0 rfl rfl)
theorem dX9_inner_27 : decode cX9_inner 27 = .ok (.iload_n 2, 1) := dk_28 (dk_at dksX9_inner_1 3 rfl rfl)
theorem dX9_inner_28 : decode cX9_inner 28 = .ok (.iaload, 1) := dk_46 (dk_at dksX9_inner_1 4 rfl rfl)
theorem dX9_inner_29 : decode cX9_inner 29 = .ok (.goto 4, 3) := dk_167 0 4 (dk_at dksX9_inner_1 5 rfl rfl)
theorem dX9_inner_32 : decode cX9_inner 32 = .ok (.iload_n 1, 1) := dk_27 (dk_at dksX9_inner_1 8 rfl rfl)
theorem dX9_inner_33 : decode cX9_inner 33 = .ok (.istore_n 1, 1) := dk_60 (dk_at dksX9_inner_1 9 rfl rfl)
theorem dX9_inner_34 : decode cX9_inner 34 = .ok (.iinc 2 1, 3) := dk_132 2 1 (dk_at dksX9_inner_1 10 rfl rfl)
theorem dX9_inner_37 : decode cX9_inner 37 = .ok (.goto (-33), 3) := dk_167 255 223 (dk_at dksX9_inner_1 13 rfl rfl)
theorem dX9_inner_40 : decode cX9_inner 40 = .ok (.iload_n 1, 1) := dk_27 (dk_at dksX9_inner_1 16 rfl rfl)
theorem dX9_inner_41 : decode cX9_inner 41 = .ok (.ireturn, 1) := dk_172 (dk_at dksX9_inner_1 17 rfl rfl)
abbrev cX9_isCompared : ByteArray := prog_23_method_44_code
def yX9_isCompared : MethodName := ⟨RX9, "isCompared", "()Z"⟩
def dkwX9_isCompared_2 : List UInt8 := [20, 0, 61, 20, 1, 17, 184, 0, 160, 153, 0, 7, 4, 167, 0, 4, 3, 172]
abbrev dktX9_isCompared_2 : List UInt8 := dkwX9_isCompared_2 ++ []
def dkwX9_isCompared_1 : List UInt8 := [184, 0, 160, 153, 0, 9, 132, 1, 255, 167, 255, 230, 27, 155, 0, 26, 42, 180, 0, 39, 27, 46, 133]
abbrev dktX9_isCompared_1 : List UInt8 := dkwX9_isCompared_1 ++ dktX9_isCompared_2
def dkwX9_isCompared_0 : List UInt8 := [42, 180, 1, 5, 4, 100, 60, 27, 155, 0, 28, 42, 180, 0, 39, 27, 46, 133, 20, 0, 204, 20, 1, 15]
abbrev dktX9_isCompared_0 : List UInt8 := dkwX9_isCompared_0 ++ dktX9_isCompared_1
theorem dksX9_isCompared_0 : cX9_isCompared.data.toList.drop 0 = dktX9_isCompared_0 := by decide +kernel
theorem dksX9_isCompared_1 : cX9_isCompared.data.toList.drop 24 = dktX9_isCompared_1 := dk_seg dksX9_isCompared_0 24 rfl rfl
theorem dksX9_isCompared_2 : cX9_isCompared.data.toList.drop 47 = dktX9_isCompared_2 := dk_seg dksX9_isCompared_1 23 rfl rfl
theorem dX9_isCompared_0 : decode cX9_isCompared 0 = .ok (.aload_n 0, 1) := dk_42 (dk_at dksX9_isCompared_0 0 rfl rfl)
theorem dX9_isCompared_1 : decode cX9_isCompared 1 = .ok (.getfield 261, 3) := dk_180 1 5 (dk_at dksX9_isCompared_0 1 rfl rfl)
theorem dX9_isCompared_4 : decode cX9_isCompared 4 = .ok (.iconst 1, 1) := dk_4 (dk_at dksX9_isCompared_0 4 rfl rfl)
theorem dX9_isCompared_5 : decode cX9_isCompared 5 = .ok (.isub, 1) := dk_100 (dk_at dksX9_isCompared_0 5 rfl rfl)
theorem dX9_isCompared_6 : decode cX9_isCompared 6 = .ok (.istore_n 1, 1) := dk_60 (dk_at dksX9_isCompared_0 6 rfl rfl)
theorem dX9_isCompared_7 : decode cX9_isCompared 7 = .ok (.iload_n 1, 1) := dk_27 (dk_at dksX9_isCompared_0 7 rfl rfl)
theorem dX9_isCompared_8 : decode cX9_isCompared 8 = .ok (.ifCond .lt 28, 3) := dk_155 0 28 (dk_at dksX9_isCompared_0 8 rfl rfl)
theorem dX9_isCompared_11 : decode cX9_isCompared 11 = .ok (.aload_n 0, 1) := dk_42 (dk_at dksX9_isCompared_0 11 rfl rfl)
theorem dX9_isCompared_12 : decode cX9_isCompared 12 = .ok (.getfield 39, 3) := dk_180 0 39 (dk_at dksX9_isCompared_0 12 rfl rfl)
theorem dX9_isCompared_15 : decode cX9_isCompared 15 = .ok (.iload_n 1, 1) := dk_27 (dk_at dksX9_isCompared_0 15 rfl rfl)
theorem dX9_isCompared_16 : decode cX9_isCompared 16 = .ok (.iaload, 1) := dk_46 (dk_at dksX9_isCompared_0 16 rfl rfl)
theorem dX9_isCompared_17 : decode cX9_isCompared 17 = .ok (.i2l, 1) := dk_133 (dk_at dksX9_isCompared_0 17 rfl rfl)
theorem dX9_isCompared_18 : decode cX9_isCompared 18 = .ok (.ldc2_w 204, 3) := dk_20 0 204 (dk_at dksX9_isCompared_0 18 rfl rfl)
theorem dX9_isCompared_21 : decode cX9_isCompared 21 = .ok (.ldc2_w 271, 3) := dk_20 1 15 (dk_at dksX9_isCompared_0 21 rfl rfl)
theorem dX9_isCompared_24 : decode cX9_isCompared 24 = .ok (.invokestatic 160, 3) := dk_184 0 160 (dk_at dksX9_isCompared_1 0 rfl rfl)
theorem dX9_isCompared_27 : decode cX9_isCompared 27 = .ok (.ifCond .eq 9, 3) := dk_153 0 9 (dk_at dksX9_isCompared_1 3 rfl rfl)
theorem dX9_isCompared_30 : decode cX9_isCompared 30 = .ok (.iinc 1 (-1), 3) := dk_132 1 255 (dk_at dksX9_isCompared_1 6 rfl rfl)
theorem dX9_isCompared_33 : decode cX9_isCompared 33 = .ok (.goto (-26), 3) := dk_167 255 230 (dk_at dksX9_isCompared_1 9 rfl rfl)
theorem dX9_isCompared_36 : decode cX9_isCompared 36 = .ok (.iload_n 1, 1) := dk_27 (dk_at dksX9_isCompared_1 12 rfl rfl)
theorem dX9_isCompared_37 : decode cX9_isCompared 37 = .ok (.ifCond .lt 26, 3) := dk_155 0 26 (dk_at dksX9_isCompared_1 13 rfl rfl)
theorem dX9_isCompared_40 : decode cX9_isCompared 40 = .ok (.aload_n 0, 1) := dk_42 (dk_at dksX9_isCompared_1 16 rfl rfl)
theorem dX9_isCompared_41 : decode cX9_isCompared 41 = .ok (.getfield 39, 3) := dk_180 0 39 (dk_at dksX9_isCompared_1 17 rfl rfl)
theorem dX9_isCompared_44 : decode cX9_isCompared 44 = .ok (.iload_n 1, 1) := dk_27 (dk_at dksX9_isCompared_1 20 rfl rfl)
theorem dX9_isCompared_45 : decode cX9_isCompared 45 = .ok (.iaload, 1) := dk_46 (dk_at dksX9_isCompared_1 21 rfl rfl)
theorem dX9_isCompared_46 : decode cX9_isCompared 46 = .ok (.i2l, 1) := dk_133 (dk_at dksX9_isCompared_1 22 rfl rfl)
theorem dX9_isCompared_47 : decode cX9_isCompared 47 = .ok (.ldc2_w 61, 3) := dk_20 0 61 (dk_at dksX9_isCompared_2 0 rfl rfl)
theorem dX9_isCompared_50 : decode cX9_isCompared 50 = .ok (.ldc2_w 273, 3) := dk_20 1 17 (dk_at dksX9_isCompared_2 3 rfl rfl)
theorem dX9_isCompared_53 : decode cX9_isCompared 53 = .ok (.invokestatic 160, 3) := dk_184 0 160 (dk_at dksX9_isCompared_2 6 rfl rfl)
theorem dX9_isCompared_56 : decode cX9_isCompared 56 = .ok (.ifCond .eq 7, 3) := dk_153 0 7 (dk_at dksX9_isCompared_2 9 rfl rfl)
theorem dX9_isCompared_59 : decode cX9_isCompared 59 = .ok (.iconst 1, 1) := dk_4 (dk_at dksX9_isCompared_2 12 rfl rfl)
theorem dX9_isCompared_60 : decode cX9_isCompared 60 = .ok (.goto 4, 3) := dk_167 0 4 (dk_at dksX9_isCompared_2 13 rfl rfl)
theorem dX9_isCompared_63 : decode cX9_isCompared 63 = .ok (.iconst 0, 1) := dk_3 (dk_at dksX9_isCompared_2 16 rfl rfl)
theorem dX9_isCompared_64 : decode cX9_isCompared 64 = .ok (.ireturn, 1) := dk_172 (dk_at dksX9_isCompared_2 17 rfl rfl)
abbrev cX9_behindTest : ByteArray := prog_23_method_51_code
def yX9_behindTest : MethodName := ⟨RX9, "behindTest", "()I"⟩
def dkwX9_behindTest_5 : List UInt8 := [181, 1, 5, 42, 89, 180, 1, 23, 4, 100, 181, 1, 23, 5, 172]
abbrev dktX9_behindTest_5 : List UInt8 := dkwX9_behindTest_5 ++ []
def dkwX9_behindTest_4 : List UInt8 := [182, 0, 254, 42, 180, 0, 219, 154, 0, 28, 42, 4, 182, 1, 53, 42, 89, 180, 1, 5, 4, 100]
abbrev dktX9_behindTest_4 : List UInt8 := dkwX9_behindTest_4 ++ dktX9_behindTest_5
def dkwX9_behindTest_3 : List UInt8 := [182, 0, 223, 3, 172, 42, 182, 1, 56, 2, 160, 0, 5, 7, 172, 42, 42, 16, 41, 182, 1, 32]
abbrev dktX9_behindTest_3 : List UInt8 := dkwX9_behindTest_3 ++ dktX9_behindTest_4
def dkwX9_behindTest_2 : List UInt8 := [180, 1, 2, 182, 1, 26, 42, 27, 153, 0, 8, 16, 28, 167, 0, 5, 16, 29, 3, 182, 1, 11, 42]
abbrev dktX9_behindTest_2 : List UInt8 := dkwX9_behindTest_2 ++ dktX9_behindTest_3
def dkwX9_behindTest_1 : List UInt8 := [153, 0, 7, 5, 167, 0, 4, 4, 182, 1, 53, 42, 27, 153, 0, 8, 16, 28, 167, 0, 5, 16, 29, 42]
abbrev dktX9_behindTest_1 : List UInt8 := dkwX9_behindTest_1 ++ dktX9_behindTest_2
def dkwX9_behindTest_0 : List UInt8 := [42, 20, 1, 63, 182, 1, 19, 60, 27, 154, 0, 13, 42, 20, 1, 65, 182, 1, 19, 153, 0, 57, 42, 27]
abbrev dktX9_behindTest_0 : List UInt8 := dkwX9_behindTest_0 ++ dktX9_behindTest_1
theorem dksX9_behindTest_0 : cX9_behindTest.data.toList.drop 0 = dktX9_behindTest_0 := by decide +kernel
theorem dksX9_behindTest_1 : cX9_behindTest.data.toList.drop 24 = dktX9_behindTest_1 := dk_seg dksX9_behindTest_0 24 rfl rfl
theorem dksX9_behindTest_2 : cX9_behindTest.data.toList.drop 48 = dktX9_behindTest_2 := dk_seg dksX9_behindTest_1 24 rfl rfl
theorem dksX9_behindTest_3 : cX9_behindTest.data.toList.drop 71 = dktX9_behindTest_3 := dk_seg dksX9_behindTest_2 23 rfl rfl
theorem dksX9_behindTest_4 : cX9_behindTest.data.toList.drop 93 = dktX9_behindTest_4 := dk_seg dksX9_behindTest_3 22 rfl rfl
theorem dksX9_behindTest_5 : cX9_behindTest.data.toList.drop 115 = dktX9_behindTest_5 := dk_seg dksX9_behindTest_4 22 rfl rfl
theorem dX9_behindTest_0 : decode cX9_behindTest 0 = .ok (.aload_n 0, 1) := dk_42 (dk_at dksX9_behindTest_0 0 rfl rfl)
theorem dX9_behindTest_1 : decode cX9_behindTest 1 = .ok (.ldc2_w 319, 3) := dk_20 1 63 (dk_at dksX9_behindTest_0 1 rfl rfl)
theorem dX9_behindTest_4 : decode cX9_behindTest 4 = .ok (.invokevirtual 275, 3) := dk_182 1 19 (dk_at dksX9_behindTest_0 4 rfl rfl)
theorem dX9_behindTest_7 : decode cX9_behindTest 7 = .ok (.istore_n 1, 1) := dk_60 (dk_at dksX9_behindTest_0 7 rfl rfl)
theorem dX9_behindTest_8 : decode cX9_behindTest 8 = .ok (.iload_n 1, 1) := dk_27 (dk_at dksX9_behindTest_0 8 rfl rfl)
theorem dX9_behindTest_9 : decode cX9_behindTest 9 = .ok (.ifCond .ne 13, 3) := dk_154 0 13 (dk_at dksX9_behindTest_0 9 rfl rfl)
theorem dX9_behindTest_12 : decode cX9_behindTest 12 = .ok (.aload_n 0, 1) := dk_42 (dk_at dksX9_behindTest_0 12 rfl rfl)
theorem dX9_behindTest_13 : decode cX9_behindTest 13 = .ok (.ldc2_w 321, 3) := dk_20 1 65 (dk_at dksX9_behindTest_0 13 rfl rfl)
theorem dX9_behindTest_16 : decode cX9_behindTest 16 = .ok (.invokevirtual 275, 3) := dk_182 1 19 (dk_at dksX9_behindTest_0 16 rfl rfl)
theorem dX9_behindTest_19 : decode cX9_behindTest 19 = .ok (.ifCond .eq 57, 3) := dk_153 0 57 (dk_at dksX9_behindTest_0 19 rfl rfl)
theorem dX9_behindTest_22 : decode cX9_behindTest 22 = .ok (.aload_n 0, 1) := dk_42 (dk_at dksX9_behindTest_0 22 rfl rfl)
theorem dX9_behindTest_23 : decode cX9_behindTest 23 = .ok (.iload_n 1, 1) := dk_27 (dk_at dksX9_behindTest_0 23 rfl rfl)
theorem dX9_behindTest_24 : decode cX9_behindTest 24 = .ok (.ifCond .eq 7, 3) := dk_153 0 7 (dk_at dksX9_behindTest_1 0 rfl rfl)
theorem dX9_behindTest_27 : decode cX9_behindTest 27 = .ok (.iconst 2, 1) := dk_5 (dk_at dksX9_behindTest_1 3 rfl rfl)
theorem dX9_behindTest_28 : decode cX9_behindTest 28 = .ok (.goto 4, 3) := dk_167 0 4 (dk_at dksX9_behindTest_1 4 rfl rfl)
theorem dX9_behindTest_31 : decode cX9_behindTest 31 = .ok (.iconst 1, 1) := dk_4 (dk_at dksX9_behindTest_1 7 rfl rfl)
theorem dX9_behindTest_32 : decode cX9_behindTest 32 = .ok (.invokevirtual 309, 3) := dk_182 1 53 (dk_at dksX9_behindTest_1 8 rfl rfl)
theorem dX9_behindTest_35 : decode cX9_behindTest 35 = .ok (.aload_n 0, 1) := dk_42 (dk_at dksX9_behindTest_1 11 rfl rfl)
theorem dX9_behindTest_36 : decode cX9_behindTest 36 = .ok (.iload_n 1, 1) := dk_27 (dk_at dksX9_behindTest_1 12 rfl rfl)
theorem dX9_behindTest_37 : decode cX9_behindTest 37 = .ok (.ifCond .eq 8, 3) := dk_153 0 8 (dk_at dksX9_behindTest_1 13 rfl rfl)
theorem dX9_behindTest_40 : decode cX9_behindTest 40 = .ok (.bipush 28, 2) := dk_16 28 (dk_at dksX9_behindTest_1 16 rfl rfl)
theorem dX9_behindTest_42 : decode cX9_behindTest 42 = .ok (.goto 5, 3) := dk_167 0 5 (dk_at dksX9_behindTest_1 18 rfl rfl)
theorem dX9_behindTest_45 : decode cX9_behindTest 45 = .ok (.bipush 29, 2) := dk_16 29 (dk_at dksX9_behindTest_1 21 rfl rfl)
theorem dX9_behindTest_47 : decode cX9_behindTest 47 = .ok (.aload_n 0, 1) := dk_42 (dk_at dksX9_behindTest_1 23 rfl rfl)
theorem dX9_behindTest_48 : decode cX9_behindTest 48 = .ok (.getfield 258, 3) := dk_180 1 2 (dk_at dksX9_behindTest_2 0 rfl rfl)
theorem dX9_behindTest_51 : decode cX9_behindTest 51 = .ok (.invokevirtual 282, 3) := dk_182 1 26 (dk_at dksX9_behindTest_2 3 rfl rfl)
theorem dX9_behindTest_54 : decode cX9_behindTest 54 = .ok (.aload_n 0, 1) := dk_42 (dk_at dksX9_behindTest_2 6 rfl rfl)
theorem dX9_behindTest_55 : decode cX9_behindTest 55 = .ok (.iload_n 1, 1) := dk_27 (dk_at dksX9_behindTest_2 7 rfl rfl)
theorem dX9_behindTest_56 : decode cX9_behindTest 56 = .ok (.ifCond .eq 8, 3) := dk_153 0 8 (dk_at dksX9_behindTest_2 8 rfl rfl)
theorem dX9_behindTest_59 : decode cX9_behindTest 59 = .ok (.bipush 28, 2) := dk_16 28 (dk_at dksX9_behindTest_2 11 rfl rfl)
theorem dX9_behindTest_61 : decode cX9_behindTest 61 = .ok (.goto 5, 3) := dk_167 0 5 (dk_at dksX9_behindTest_2 13 rfl rfl)
theorem dX9_behindTest_64 : decode cX9_behindTest 64 = .ok (.bipush 29, 2) := dk_16 29 (dk_at dksX9_behindTest_2 16 rfl rfl)
theorem dX9_behindTest_66 : decode cX9_behindTest 66 = .ok (.iconst 0, 1) := dk_3 (dk_at dksX9_behindTest_2 18 rfl rfl)
theorem dX9_behindTest_67 : decode cX9_behindTest 67 = .ok (.invokevirtual 267, 3) := dk_182 1 11 (dk_at dksX9_behindTest_2 19 rfl rfl)
theorem dX9_behindTest_70 : decode cX9_behindTest 70 = .ok (.aload_n 0, 1) := dk_42 (dk_at dksX9_behindTest_2 22 rfl rfl)
theorem dX9_behindTest_71 : decode cX9_behindTest 71 = .ok (.invokevirtual 223, 3) := dk_182 0 223 (dk_at dksX9_behindTest_3 0 rfl rfl)
theorem dX9_behindTest_74 : decode cX9_behindTest 74 = .ok (.iconst 0, 1) := dk_3 (dk_at dksX9_behindTest_3 3 rfl rfl)
theorem dX9_behindTest_75 : decode cX9_behindTest 75 = .ok (.ireturn, 1) := dk_172 (dk_at dksX9_behindTest_3 4 rfl rfl)
theorem dX9_behindTest_76 : decode cX9_behindTest 76 = .ok (.aload_n 0, 1) := dk_42 (dk_at dksX9_behindTest_3 5 rfl rfl)
theorem dX9_behindTest_77 : decode cX9_behindTest 77 = .ok (.invokevirtual 312, 3) := dk_182 1 56 (dk_at dksX9_behindTest_3 6 rfl rfl)
theorem dX9_behindTest_80 : decode cX9_behindTest 80 = .ok (.iconst (-1), 1) := dk_2 (dk_at dksX9_behindTest_3 9 rfl rfl)
theorem dX9_behindTest_81 : decode cX9_behindTest 81 = .ok (.if_icmp .ne 5, 3) := dk_160 0 5 (dk_at dksX9_behindTest_3 10 rfl rfl)
theorem dX9_behindTest_84 : decode cX9_behindTest 84 = .ok (.iconst 4, 1) := dk_7 (dk_at dksX9_behindTest_3 13 rfl rfl)
theorem dX9_behindTest_85 : decode cX9_behindTest 85 = .ok (.ireturn, 1) := dk_172 (dk_at dksX9_behindTest_3 14 rfl rfl)
theorem dX9_behindTest_86 : decode cX9_behindTest 86 = .ok (.aload_n 0, 1) := dk_42 (dk_at dksX9_behindTest_3 15 rfl rfl)
theorem dX9_behindTest_87 : decode cX9_behindTest 87 = .ok (.aload_n 0, 1) := dk_42 (dk_at dksX9_behindTest_3 16 rfl rfl)
theorem dX9_behindTest_88 : decode cX9_behindTest 88 = .ok (.bipush 41, 2) := dk_16 41 (dk_at dksX9_behindTest_3 17 rfl rfl)
theorem dX9_behindTest_90 : decode cX9_behindTest 90 = .ok (.invokevirtual 288, 3) := dk_182 1 32 (dk_at dksX9_behindTest_3 19 rfl rfl)
theorem dX9_behindTest_93 : decode cX9_behindTest 93 = .ok (.invokevirtual 254, 3) := dk_182 0 254 (dk_at dksX9_behindTest_4 0 rfl rfl)
theorem dX9_behindTest_96 : decode cX9_behindTest 96 = .ok (.aload_n 0, 1) := dk_42 (dk_at dksX9_behindTest_4 3 rfl rfl)
theorem dX9_behindTest_97 : decode cX9_behindTest 97 = .ok (.getfield 219, 3) := dk_180 0 219 (dk_at dksX9_behindTest_4 4 rfl rfl)
theorem dX9_behindTest_100 : decode cX9_behindTest 100 = .ok (.ifCond .ne 28, 3) := dk_154 0 28 (dk_at dksX9_behindTest_4 7 rfl rfl)
theorem dX9_behindTest_103 : decode cX9_behindTest 103 = .ok (.aload_n 0, 1) := dk_42 (dk_at dksX9_behindTest_4 10 rfl rfl)
theorem dX9_behindTest_104 : decode cX9_behindTest 104 = .ok (.iconst 1, 1) := dk_4 (dk_at dksX9_behindTest_4 11 rfl rfl)
theorem dX9_behindTest_105 : decode cX9_behindTest 105 = .ok (.invokevirtual 309, 3) := dk_182 1 53 (dk_at dksX9_behindTest_4 12 rfl rfl)
theorem dX9_behindTest_108 : decode cX9_behindTest 108 = .ok (.aload_n 0, 1) := dk_42 (dk_at dksX9_behindTest_4 15 rfl rfl)
theorem dX9_behindTest_109 : decode cX9_behindTest 109 = .ok (.dup, 1) := dk_89 (dk_at dksX9_behindTest_4 16 rfl rfl)
theorem dX9_behindTest_110 : decode cX9_behindTest 110 = .ok (.getfield 261, 3) := dk_180 1 5 (dk_at dksX9_behindTest_4 17 rfl rfl)
theorem dX9_behindTest_113 : decode cX9_behindTest 113 = .ok (.iconst 1, 1) := dk_4 (dk_at dksX9_behindTest_4 20 rfl rfl)
theorem dX9_behindTest_114 : decode cX9_behindTest 114 = .ok (.isub, 1) := dk_100 (dk_at dksX9_behindTest_4 21 rfl rfl)
theorem dX9_behindTest_115 : decode cX9_behindTest 115 = .ok (.putfield 261, 3) := dk_181 1 5 (dk_at dksX9_behindTest_5 0 rfl rfl)
theorem dX9_behindTest_118 : decode cX9_behindTest 118 = .ok (.aload_n 0, 1) := dk_42 (dk_at dksX9_behindTest_5 3 rfl rfl)
theorem dX9_behindTest_119 : decode cX9_behindTest 119 = .ok (.dup, 1) := dk_89 (dk_at dksX9_behindTest_5 4 rfl rfl)
theorem dX9_behindTest_120 : decode cX9_behindTest 120 = .ok (.getfield 279, 3) := dk_180 1 23 (dk_at dksX9_behindTest_5 5 rfl rfl)
theorem dX9_behindTest_123 : decode cX9_behindTest 123 = .ok (.iconst 1, 1) := dk_4 (dk_at dksX9_behindTest_5 8 rfl rfl)
theorem dX9_behindTest_124 : decode cX9_behindTest 124 = .ok (.isub, 1) := dk_100 (dk_at dksX9_behindTest_5 9 rfl rfl)
theorem dX9_behindTest_125 : decode cX9_behindTest 125 = .ok (.putfield 279, 3) := dk_181 1 23 (dk_at dksX9_behindTest_5 10 rfl rfl)
theorem dX9_behindTest_128 : decode cX9_behindTest 128 = .ok (.iconst 2, 1) := dk_5 (dk_at dksX9_behindTest_5 13 rfl rfl)
theorem dX9_behindTest_129 : decode cX9_behindTest 129 = .ok (.ireturn, 1) := dk_172 (dk_at dksX9_behindTest_5 14 rfl rfl)
abbrev cX9_force : ByteArray := prog_23_method_55_code
def yX9_force : MethodName := ⟨RX9, "force", "(I)I"⟩
def dkwX9_force_1 : List UInt8 := [184, 0, 160, 153, 0, 12, 42, 6, 27, 182, 0, 179, 167, 0, 9, 42, 16, 254, 182, 0, 164, 172]
abbrev dktX9_force_1 : List UInt8 := dkwX9_force_1 ++ []
def dkwX9_force_0 : List UInt8 := [42, 3, 181, 0, 150, 27, 2, 159, 0, 21, 27, 133, 9, 42, 180, 0, 13, 5, 46, 133, 10, 101]
abbrev dktX9_force_0 : List UInt8 := dkwX9_force_0 ++ dktX9_force_1
theorem dksX9_force_0 : cX9_force.data.toList.drop 0 = dktX9_force_0 := by decide +kernel
theorem dksX9_force_1 : cX9_force.data.toList.drop 22 = dktX9_force_1 := dk_seg dksX9_force_0 22 rfl rfl
theorem dX9_force_0 : decode cX9_force 0 = .ok (.aload_n 0, 1) := dk_42 (dk_at dksX9_force_0 0 rfl rfl)
theorem dX9_force_1 : decode cX9_force 1 = .ok (.iconst 0, 1) := dk_3 (dk_at dksX9_force_0 1 rfl rfl)
theorem dX9_force_2 : decode cX9_force 2 = .ok (.putfield 150, 3) := dk_181 0 150 (dk_at dksX9_force_0 2 rfl rfl)
theorem dX9_force_5 : decode cX9_force 5 = .ok (.iload_n 1, 1) := dk_27 (dk_at dksX9_force_0 5 rfl rfl)
theorem dX9_force_6 : decode cX9_force 6 = .ok (.iconst (-1), 1) := dk_2 (dk_at dksX9_force_0 6 rfl rfl)
theorem dX9_force_7 : decode cX9_force 7 = .ok (.if_icmp .eq 21, 3) := dk_159 0 21 (dk_at dksX9_force_0 7 rfl rfl)
theorem dX9_force_10 : decode cX9_force 10 = .ok (.iload_n 1, 1) := dk_27 (dk_at dksX9_force_0 10 rfl rfl)
theorem dX9_force_11 : decode cX9_force 11 = .ok (.i2l, 1) := dk_133 (dk_at dksX9_force_0 11 rfl rfl)
theorem dX9_force_12 : decode cX9_force 12 = .ok (.lconst 0, 1) := dk_9 (dk_at dksX9_force_0 12 rfl rfl)
theorem dX9_force_13 : decode cX9_force 13 = .ok (.aload_n 0, 1) := dk_42 (dk_at dksX9_force_0 13 rfl rfl)
theorem dX9_force_14 : decode cX9_force 14 = .ok (.getfield 13, 3) := dk_180 0 13 (dk_at dksX9_force_0 14 rfl rfl)
theorem dX9_force_17 : decode cX9_force 17 = .ok (.iconst 2, 1) := dk_5 (dk_at dksX9_force_0 17 rfl rfl)
theorem dX9_force_18 : decode cX9_force 18 = .ok (.iaload, 1) := dk_46 (dk_at dksX9_force_0 18 rfl rfl)
theorem dX9_force_19 : decode cX9_force 19 = .ok (.i2l, 1) := dk_133 (dk_at dksX9_force_0 19 rfl rfl)
theorem dX9_force_20 : decode cX9_force 20 = .ok (.lconst 1, 1) := dk_10 (dk_at dksX9_force_0 20 rfl rfl)
theorem dX9_force_21 : decode cX9_force 21 = .ok (.lsub, 1) := dk_101 (dk_at dksX9_force_0 21 rfl rfl)
theorem dX9_force_22 : decode cX9_force 22 = .ok (.invokestatic 160, 3) := dk_184 0 160 (dk_at dksX9_force_1 0 rfl rfl)
theorem dX9_force_25 : decode cX9_force 25 = .ok (.ifCond .eq 12, 3) := dk_153 0 12 (dk_at dksX9_force_1 3 rfl rfl)
theorem dX9_force_28 : decode cX9_force 28 = .ok (.aload_n 0, 1) := dk_42 (dk_at dksX9_force_1 6 rfl rfl)
theorem dX9_force_29 : decode cX9_force 29 = .ok (.iconst 3, 1) := dk_6 (dk_at dksX9_force_1 7 rfl rfl)
theorem dX9_force_30 : decode cX9_force 30 = .ok (.iload_n 1, 1) := dk_27 (dk_at dksX9_force_1 8 rfl rfl)
theorem dX9_force_31 : decode cX9_force 31 = .ok (.invokevirtual 179, 3) := dk_182 0 179 (dk_at dksX9_force_1 9 rfl rfl)
theorem dX9_force_34 : decode cX9_force 34 = .ok (.goto 9, 3) := dk_167 0 9 (dk_at dksX9_force_1 12 rfl rfl)
theorem dX9_force_37 : decode cX9_force 37 = .ok (.aload_n 0, 1) := dk_42 (dk_at dksX9_force_1 15 rfl rfl)
theorem dX9_force_38 : decode cX9_force 38 = .ok (.bipush (-2), 2) := dk_16 254 (dk_at dksX9_force_1 16 rfl rfl)
theorem dX9_force_40 : decode cX9_force 40 = .ok (.invokevirtual 164, 3) := dk_182 0 164 (dk_at dksX9_force_1 18 rfl rfl)
theorem dX9_force_43 : decode cX9_force 43 = .ok (.ireturn, 1) := dk_172 (dk_at dksX9_force_1 21 rfl rfl)
abbrev cX9_where : ByteArray := prog_23_method_68_code
def yX9_where : MethodName := ⟨RX9, "where", "(II)I"⟩
def dkwX9_where_2 : List UInt8 := [180, 0, 99, 16, 60, 27, 104, 28, 96, 46, 172]
abbrev dktX9_where_2 : List UInt8 := dkwX9_where_2 ++ []
def dkwX9_where_1 : List UInt8 := [154, 0, 5, 2, 172, 28, 2, 160, 0, 10, 42, 27, 3, 182, 0, 169, 172, 42, 182, 1, 153, 42]
abbrev dktX9_where_1 : List UInt8 := dkwX9_where_1 ++ dktX9_where_2
def dkwX9_where_0 : List UInt8 := [42, 3, 181, 0, 150, 42, 27, 182, 0, 197, 153, 0, 17, 28, 133, 20, 0, 246, 20, 1, 151, 184, 0, 160]
abbrev dktX9_where_0 : List UInt8 := dkwX9_where_0 ++ dktX9_where_1
theorem dksX9_where_0 : cX9_where.data.toList.drop 0 = dktX9_where_0 := by decide +kernel
theorem dksX9_where_1 : cX9_where.data.toList.drop 24 = dktX9_where_1 := dk_seg dksX9_where_0 24 rfl rfl
theorem dksX9_where_2 : cX9_where.data.toList.drop 46 = dktX9_where_2 := dk_seg dksX9_where_1 22 rfl rfl
theorem dX9_where_0 : decode cX9_where 0 = .ok (.aload_n 0, 1) := dk_42 (dk_at dksX9_where_0 0 rfl rfl)
theorem dX9_where_1 : decode cX9_where 1 = .ok (.iconst 0, 1) := dk_3 (dk_at dksX9_where_0 1 rfl rfl)
theorem dX9_where_2 : decode cX9_where 2 = .ok (.putfield 150, 3) := dk_181 0 150 (dk_at dksX9_where_0 2 rfl rfl)
theorem dX9_where_5 : decode cX9_where 5 = .ok (.aload_n 0, 1) := dk_42 (dk_at dksX9_where_0 5 rfl rfl)
theorem dX9_where_6 : decode cX9_where 6 = .ok (.iload_n 1, 1) := dk_27 (dk_at dksX9_where_0 6 rfl rfl)
theorem dX9_where_7 : decode cX9_where 7 = .ok (.invokevirtual 197, 3) := dk_182 0 197 (dk_at dksX9_where_0 7 rfl rfl)
theorem dX9_where_10 : decode cX9_where 10 = .ok (.ifCond .eq 17, 3) := dk_153 0 17 (dk_at dksX9_where_0 10 rfl rfl)
theorem dX9_where_13 : decode cX9_where 13 = .ok (.iload_n 2, 1) := dk_28 (dk_at dksX9_where_0 13 rfl rfl)
theorem dX9_where_14 : decode cX9_where 14 = .ok (.i2l, 1) := dk_133 (dk_at dksX9_where_0 14 rfl rfl)
theorem dX9_where_15 : decode cX9_where 15 = .ok (.ldc2_w 246, 3) := dk_20 0 246 (dk_at dksX9_where_0 15 rfl rfl)
theorem dX9_where_18 : decode cX9_where 18 = .ok (.ldc2_w 407, 3) := dk_20 1 151 (dk_at dksX9_where_0 18 rfl rfl)
theorem dX9_where_21 : decode cX9_where 21 = .ok (.invokestatic 160, 3) := dk_184 0 160 (dk_at dksX9_where_0 21 rfl rfl)
theorem dX9_where_24 : decode cX9_where 24 = .ok (.ifCond .ne 5, 3) := dk_154 0 5 (dk_at dksX9_where_1 0 rfl rfl)
theorem dX9_where_27 : decode cX9_where 27 = .ok (.iconst (-1), 1) := dk_2 (dk_at dksX9_where_1 3 rfl rfl)
theorem dX9_where_28 : decode cX9_where 28 = .ok (.ireturn, 1) := dk_172 (dk_at dksX9_where_1 4 rfl rfl)
theorem dX9_where_29 : decode cX9_where 29 = .ok (.iload_n 2, 1) := dk_28 (dk_at dksX9_where_1 5 rfl rfl)
theorem dX9_where_30 : decode cX9_where 30 = .ok (.iconst (-1), 1) := dk_2 (dk_at dksX9_where_1 6 rfl rfl)
theorem dX9_where_31 : decode cX9_where 31 = .ok (.if_icmp .ne 10, 3) := dk_160 0 10 (dk_at dksX9_where_1 7 rfl rfl)
theorem dX9_where_34 : decode cX9_where 34 = .ok (.aload_n 0, 1) := dk_42 (dk_at dksX9_where_1 10 rfl rfl)
theorem dX9_where_35 : decode cX9_where 35 = .ok (.iload_n 1, 1) := dk_27 (dk_at dksX9_where_1 11 rfl rfl)
theorem dX9_where_36 : decode cX9_where 36 = .ok (.iconst 0, 1) := dk_3 (dk_at dksX9_where_1 12 rfl rfl)
theorem dX9_where_37 : decode cX9_where 37 = .ok (.invokevirtual 169, 3) := dk_182 0 169 (dk_at dksX9_where_1 13 rfl rfl)
theorem dX9_where_40 : decode cX9_where 40 = .ok (.ireturn, 1) := dk_172 (dk_at dksX9_where_1 16 rfl rfl)
theorem dX9_where_41 : decode cX9_where 41 = .ok (.aload_n 0, 1) := dk_42 (dk_at dksX9_where_1 17 rfl rfl)
theorem dX9_where_42 : decode cX9_where 42 = .ok (.invokevirtual 409, 3) := dk_182 1 153 (dk_at dksX9_where_1 18 rfl rfl)
theorem dX9_where_45 : decode cX9_where 45 = .ok (.aload_n 0, 1) := dk_42 (dk_at dksX9_where_1 21 rfl rfl)
theorem dX9_where_46 : decode cX9_where 46 = .ok (.getfield 99, 3) := dk_180 0 99 (dk_at dksX9_where_2 0 rfl rfl)
theorem dX9_where_49 : decode cX9_where 49 = .ok (.bipush 60, 2) := dk_16 60 (dk_at dksX9_where_2 3 rfl rfl)
theorem dX9_where_51 : decode cX9_where 51 = .ok (.iload_n 1, 1) := dk_27 (dk_at dksX9_where_2 5 rfl rfl)
theorem dX9_where_52 : decode cX9_where 52 = .ok (.imul, 1) := dk_104 (dk_at dksX9_where_2 6 rfl rfl)
theorem dX9_where_53 : decode cX9_where 53 = .ok (.iload_n 2, 1) := dk_28 (dk_at dksX9_where_2 7 rfl rfl)
theorem dX9_where_54 : decode cX9_where 54 = .ok (.iadd, 1) := dk_96 (dk_at dksX9_where_2 8 rfl rfl)
theorem dX9_where_55 : decode cX9_where 55 = .ok (.iaload, 1) := dk_46 (dk_at dksX9_where_2 9 rfl rfl)
theorem dX9_where_56 : decode cX9_where 56 = .ok (.ireturn, 1) := dk_172 (dk_at dksX9_where_2 10 rfl rfl)
abbrev cX9_runPlan : ByteArray := prog_23_method_67_code
def yX9_runPlan : MethodName := ⟨RX9, "runPlan", "()V"⟩
def dkwX9_runPlan_1 : List UInt8 := [182, 1, 148, 132, 1, 1, 167, 255, 234, 177]
abbrev dktX9_runPlan_1 : List UInt8 := dkwX9_runPlan_1 ++ []
def dkwX9_runPlan_0 : List UInt8 := [42, 182, 1, 145, 3, 60, 27, 8, 162, 0, 23, 42, 27, 42, 180, 0, 13, 16, 7, 27, 96, 46]
abbrev dktX9_runPlan_0 : List UInt8 := dkwX9_runPlan_0 ++ dktX9_runPlan_1
theorem dksX9_runPlan_0 : cX9_runPlan.data.toList.drop 0 = dktX9_runPlan_0 := by decide +kernel
theorem dksX9_runPlan_1 : cX9_runPlan.data.toList.drop 22 = dktX9_runPlan_1 := dk_seg dksX9_runPlan_0 22 rfl rfl
theorem dX9_runPlan_0 : decode cX9_runPlan 0 = .ok (.aload_n 0, 1) := dk_42 (dk_at dksX9_runPlan_0 0 rfl rfl)
theorem dX9_runPlan_1 : decode cX9_runPlan 1 = .ok (.invokevirtual 401, 3) := dk_182 1 145 (dk_at dksX9_runPlan_0 1 rfl rfl)
theorem dX9_runPlan_4 : decode cX9_runPlan 4 = .ok (.iconst 0, 1) := dk_3 (dk_at dksX9_runPlan_0 4 rfl rfl)
theorem dX9_runPlan_5 : decode cX9_runPlan 5 = .ok (.istore_n 1, 1) := dk_60 (dk_at dksX9_runPlan_0 5 rfl rfl)
theorem dX9_runPlan_6 : decode cX9_runPlan 6 = .ok (.iload_n 1, 1) := dk_27 (dk_at dksX9_runPlan_0 6 rfl rfl)
theorem dX9_runPlan_7 : decode cX9_runPlan 7 = .ok (.iconst 5, 1) := dk_8 (dk_at dksX9_runPlan_0 7 rfl rfl)
theorem dX9_runPlan_8 : decode cX9_runPlan 8 = .ok (.if_icmp .ge 23, 3) := dk_162 0 23 (dk_at dksX9_runPlan_0 8 rfl rfl)
theorem dX9_runPlan_11 : decode cX9_runPlan 11 = .ok (.aload_n 0, 1) := dk_42 (dk_at dksX9_runPlan_0 11 rfl rfl)
theorem dX9_runPlan_12 : decode cX9_runPlan 12 = .ok (.iload_n 1, 1) := dk_27 (dk_at dksX9_runPlan_0 12 rfl rfl)
theorem dX9_runPlan_13 : decode cX9_runPlan 13 = .ok (.aload_n 0, 1) := dk_42 (dk_at dksX9_runPlan_0 13 rfl rfl)
theorem dX9_runPlan_14 : decode cX9_runPlan 14 = .ok (.getfield 13, 3) := dk_180 0 13 (dk_at dksX9_runPlan_0 14 rfl rfl)
theorem dX9_runPlan_17 : decode cX9_runPlan 17 = .ok (.bipush 7, 2) := dk_16 7 (dk_at dksX9_runPlan_0 17 rfl rfl)
theorem dX9_runPlan_19 : decode cX9_runPlan 19 = .ok (.iload_n 1, 1) := dk_27 (dk_at dksX9_runPlan_0 19 rfl rfl)
theorem dX9_runPlan_20 : decode cX9_runPlan 20 = .ok (.iadd, 1) := dk_96 (dk_at dksX9_runPlan_0 20 rfl rfl)
theorem dX9_runPlan_21 : decode cX9_runPlan 21 = .ok (.iaload, 1) := dk_46 (dk_at dksX9_runPlan_0 21 rfl rfl)
theorem dX9_runPlan_22 : decode cX9_runPlan 22 = .ok (.invokevirtual 404, 3) := dk_182 1 148 (dk_at dksX9_runPlan_1 0 rfl rfl)
theorem dX9_runPlan_25 : decode cX9_runPlan 25 = .ok (.iinc 1 1, 3) := dk_132 1 1 (dk_at dksX9_runPlan_1 3 rfl rfl)
theorem dX9_runPlan_28 : decode cX9_runPlan 28 = .ok (.goto (-22), 3) := dk_167 255 234 (dk_at dksX9_runPlan_1 6 rfl rfl)
theorem dX9_runPlan_31 : decode cX9_runPlan 31 = .ok (.return_, 1) := dk_177 (dk_at dksX9_runPlan_1 9 rfl rfl)
abbrev cX9_dawn : ByteArray := prog_23_method_64_code
def yX9_dawn : MethodName := ⟨RX9, "dawn", "()V"⟩
def dkwX9_dawn_4 : List UInt8 := [46, 92, 46, 4, 27, 120, 128, 79, 132, 1, 1, 167, 255, 174, 177]
abbrev dktX9_dawn_4 : List UInt8 := dkwX9_dawn_4 ++ []
def dkwX9_dawn_3 : List UInt8 := [79, 42, 180, 0, 90, 27, 3, 84, 42, 180, 0, 96, 27, 3, 79, 42, 180, 0, 93, 42, 180, 0, 84, 27]
abbrev dktX9_dawn_3 : List UInt8 := dkwX9_dawn_3 ++ dktX9_dawn_4
def dkwX9_dawn_2 : List UInt8 := [180, 0, 87, 27, 42, 180, 0, 84, 27, 46, 42, 27, 4, 182, 0, 169, 160, 0, 7, 3, 167, 0, 4, 2]
abbrev dktX9_dawn_2 : List UInt8 := dkwX9_dawn_2 ++ dktX9_dawn_3
def dkwX9_dawn_1 : List UInt8 := [42, 180, 0, 13, 3, 46, 162, 0, 78, 42, 180, 0, 84, 27, 42, 27, 3, 182, 0, 169, 79, 42]
abbrev dktX9_dawn_1 : List UInt8 := dkwX9_dawn_1 ++ dktX9_dawn_2
def dkwX9_dawn_0 : List UInt8 := [3, 60, 27, 16, 96, 162, 0, 16, 42, 180, 0, 93, 27, 3, 79, 132, 1, 1, 167, 255, 240, 3, 60, 27]
abbrev dktX9_dawn_0 : List UInt8 := dkwX9_dawn_0 ++ dktX9_dawn_1
theorem dksX9_dawn_0 : cX9_dawn.data.toList.drop 0 = dktX9_dawn_0 := by decide +kernel
theorem dksX9_dawn_1 : cX9_dawn.data.toList.drop 24 = dktX9_dawn_1 := dk_seg dksX9_dawn_0 24 rfl rfl
theorem dksX9_dawn_2 : cX9_dawn.data.toList.drop 46 = dktX9_dawn_2 := dk_seg dksX9_dawn_1 22 rfl rfl
theorem dksX9_dawn_3 : cX9_dawn.data.toList.drop 70 = dktX9_dawn_3 := dk_seg dksX9_dawn_2 24 rfl rfl
theorem dksX9_dawn_4 : cX9_dawn.data.toList.drop 94 = dktX9_dawn_4 := dk_seg dksX9_dawn_3 24 rfl rfl
theorem dX9_dawn_0 : decode cX9_dawn 0 = .ok (.iconst 0, 1) := dk_3 (dk_at dksX9_dawn_0 0 rfl rfl)
theorem dX9_dawn_1 : decode cX9_dawn 1 = .ok (.istore_n 1, 1) := dk_60 (dk_at dksX9_dawn_0 1 rfl rfl)
theorem dX9_dawn_2 : decode cX9_dawn 2 = .ok (.iload_n 1, 1) := dk_27 (dk_at dksX9_dawn_0 2 rfl rfl)
theorem dX9_dawn_3 : decode cX9_dawn 3 = .ok (.bipush 96, 2) := dk_16 96 (dk_at dksX9_dawn_0 3 rfl rfl)
theorem dX9_dawn_5 : decode cX9_dawn 5 = .ok (.if_icmp .ge 16, 3) := dk_162 0 16 (dk_at dksX9_dawn_0 5 rfl rfl)
theorem dX9_dawn_8 : decode cX9_dawn 8 = .ok (.aload_n 0, 1) := dk_42 (dk_at dksX9_dawn_0 8 rfl rfl)
theorem dX9_dawn_9 : decode cX9_dawn 9 = .ok (.getfield 93, 3) := dk_180 0 93 (dk_at dksX9_dawn_0 9 rfl rfl)
theorem dX9_dawn_12 : decode cX9_dawn 12 = .ok (.iload_n 1, 1) := dk_27 (dk_at dksX9_dawn_0 12 rfl rfl)
theorem dX9_dawn_13 : decode cX9_dawn 13 = .ok (.iconst 0, 1) := dk_3 (dk_at dksX9_dawn_0 13 rfl rfl)
theorem dX9_dawn_14 : decode cX9_dawn 14 = .ok (.iastore, 1) := dk_79 (dk_at dksX9_dawn_0 14 rfl rfl)
theorem dX9_dawn_15 : decode cX9_dawn 15 = .ok (.iinc 1 1, 3) := dk_132 1 1 (dk_at dksX9_dawn_0 15 rfl rfl)
theorem dX9_dawn_18 : decode cX9_dawn 18 = .ok (.goto (-16), 3) := dk_167 255 240 (dk_at dksX9_dawn_0 18 rfl rfl)
theorem dX9_dawn_21 : decode cX9_dawn 21 = .ok (.iconst 0, 1) := dk_3 (dk_at dksX9_dawn_0 21 rfl rfl)
theorem dX9_dawn_22 : decode cX9_dawn 22 = .ok (.istore_n 1, 1) := dk_60 (dk_at dksX9_dawn_0 22 rfl rfl)
theorem dX9_dawn_23 : decode cX9_dawn 23 = .ok (.iload_n 1, 1) := dk_27 (dk_at dksX9_dawn_0 23 rfl rfl)
theorem dX9_dawn_24 : decode cX9_dawn 24 = .ok (.aload_n 0, 1) := dk_42 (dk_at dksX9_dawn_1 0 rfl rfl)
theorem dX9_dawn_25 : decode cX9_dawn 25 = .ok (.getfield 13, 3) := dk_180 0 13 (dk_at dksX9_dawn_1 1 rfl rfl)
theorem dX9_dawn_28 : decode cX9_dawn 28 = .ok (.iconst 0, 1) := dk_3 (dk_at dksX9_dawn_1 4 rfl rfl)
theorem dX9_dawn_29 : decode cX9_dawn 29 = .ok (.iaload, 1) := dk_46 (dk_at dksX9_dawn_1 5 rfl rfl)
theorem dX9_dawn_30 : decode cX9_dawn 30 = .ok (.if_icmp .ge 78, 3) := dk_162 0 78 (dk_at dksX9_dawn_1 6 rfl rfl)
theorem dX9_dawn_33 : decode cX9_dawn 33 = .ok (.aload_n 0, 1) := dk_42 (dk_at dksX9_dawn_1 9 rfl rfl)
theorem dX9_dawn_34 : decode cX9_dawn 34 = .ok (.getfield 84, 3) := dk_180 0 84 (dk_at dksX9_dawn_1 10 rfl rfl)
theorem dX9_dawn_37 : decode cX9_dawn 37 = .ok (.iload_n 1, 1) := dk_27 (dk_at dksX9_dawn_1 13 rfl rfl)
theorem dX9_dawn_38 : decode cX9_dawn 38 = .ok (.aload_n 0, 1) := dk_42 (dk_at dksX9_dawn_1 14 rfl rfl)
theorem dX9_dawn_39 : decode cX9_dawn 39 = .ok (.iload_n 1, 1) := dk_27 (dk_at dksX9_dawn_1 15 rfl rfl)
theorem dX9_dawn_40 : decode cX9_dawn 40 = .ok (.iconst 0, 1) := dk_3 (dk_at dksX9_dawn_1 16 rfl rfl)
theorem dX9_dawn_41 : decode cX9_dawn 41 = .ok (.invokevirtual 169, 3) := dk_182 0 169 (dk_at dksX9_dawn_1 17 rfl rfl)
theorem dX9_dawn_44 : decode cX9_dawn 44 = .ok (.iastore, 1) := dk_79 (dk_at dksX9_dawn_1 20 rfl rfl)
theorem dX9_dawn_45 : decode cX9_dawn 45 = .ok (.aload_n 0, 1) := dk_42 (dk_at dksX9_dawn_1 21 rfl rfl)
theorem dX9_dawn_46 : decode cX9_dawn 46 = .ok (.getfield 87, 3) := dk_180 0 87 (dk_at dksX9_dawn_2 0 rfl rfl)
theorem dX9_dawn_49 : decode cX9_dawn 49 = .ok (.iload_n 1, 1) := dk_27 (dk_at dksX9_dawn_2 3 rfl rfl)
theorem dX9_dawn_50 : decode cX9_dawn 50 = .ok (.aload_n 0, 1) := dk_42 (dk_at dksX9_dawn_2 4 rfl rfl)
theorem dX9_dawn_51 : decode cX9_dawn 51 = .ok (.getfield 84, 3) := dk_180 0 84 (dk_at dksX9_dawn_2 5 rfl rfl)
theorem dX9_dawn_54 : decode cX9_dawn 54 = .ok (.iload_n 1, 1) := dk_27 (dk_at dksX9_dawn_2 8 rfl rfl)
theorem dX9_dawn_55 : decode cX9_dawn 55 = .ok (.iaload, 1) := dk_46 (dk_at dksX9_dawn_2 9 rfl rfl)
theorem dX9_dawn_56 : decode cX9_dawn 56 = .ok (.aload_n 0, 1) := dk_42 (dk_at dksX9_dawn_2 10 rfl rfl)
theorem dX9_dawn_57 : decode cX9_dawn 57 = .ok (.iload_n 1, 1) := dk_27 (dk_at dksX9_dawn_2 11 rfl rfl)
theorem dX9_dawn_58 : decode cX9_dawn 58 = .ok (.iconst 1, 1) := dk_4 (dk_at dksX9_dawn_2 12 rfl rfl)
theorem dX9_dawn_59 : decode cX9_dawn 59 = .ok (.invokevirtual 169, 3) := dk_182 0 169 (dk_at dksX9_dawn_2 13 rfl rfl)
theorem dX9_dawn_62 : decode cX9_dawn 62 = .ok (.if_icmp .ne 7, 3) := dk_160 0 7 (dk_at dksX9_dawn_2 16 rfl rfl)
theorem dX9_dawn_65 : decode cX9_dawn 65 = .ok (.iconst 0, 1) := dk_3 (dk_at dksX9_dawn_2 19 rfl rfl)
theorem dX9_dawn_66 : decode cX9_dawn 66 = .ok (.goto 4, 3) := dk_167 0 4 (dk_at dksX9_dawn_2 20 rfl rfl)
theorem dX9_dawn_69 : decode cX9_dawn 69 = .ok (.iconst (-1), 1) := dk_2 (dk_at dksX9_dawn_2 23 rfl rfl)
theorem dX9_dawn_70 : decode cX9_dawn 70 = .ok (.iastore, 1) := dk_79 (dk_at dksX9_dawn_3 0 rfl rfl)
theorem dX9_dawn_71 : decode cX9_dawn 71 = .ok (.aload_n 0, 1) := dk_42 (dk_at dksX9_dawn_3 1 rfl rfl)
theorem dX9_dawn_72 : decode cX9_dawn 72 = .ok (.getfield 90, 3) := dk_180 0 90 (dk_at dksX9_dawn_3 2 rfl rfl)
theorem dX9_dawn_75 : decode cX9_dawn 75 = .ok (.iload_n 1, 1) := dk_27 (dk_at dksX9_dawn_3 5 rfl rfl)
theorem dX9_dawn_76 : decode cX9_dawn 76 = .ok (.iconst 0, 1) := dk_3 (dk_at dksX9_dawn_3 6 rfl rfl)
theorem dX9_dawn_77 : decode cX9_dawn 77 = .ok (.bastore, 1) := dk_84 (dk_at dksX9_dawn_3 7 rfl rfl)
theorem dX9_dawn_78 : decode cX9_dawn 78 = .ok (.aload_n 0, 1) := dk_42 (dk_at dksX9_dawn_3 8 rfl rfl)
theorem dX9_dawn_79 : decode cX9_dawn 79 = .ok (.getfield 96, 3) := dk_180 0 96 (dk_at dksX9_dawn_3 9 rfl rfl)
theorem dX9_dawn_82 : decode cX9_dawn 82 = .ok (.iload_n 1, 1) := dk_27 (dk_at dksX9_dawn_3 12 rfl rfl)
theorem dX9_dawn_83 : decode cX9_dawn 83 = .ok (.iconst 0, 1) := dk_3 (dk_at dksX9_dawn_3 13 rfl rfl)
theorem dX9_dawn_84 : decode cX9_dawn 84 = .ok (.iastore, 1) := dk_79 (dk_at dksX9_dawn_3 14 rfl rfl)
theorem dX9_dawn_85 : decode cX9_dawn 85 = .ok (.aload_n 0, 1) := dk_42 (dk_at dksX9_dawn_3 15 rfl rfl)
theorem dX9_dawn_86 : decode cX9_dawn 86 = .ok (.getfield 93, 3) := dk_180 0 93 (dk_at dksX9_dawn_3 16 rfl rfl)
theorem dX9_dawn_89 : decode cX9_dawn 89 = .ok (.aload_n 0, 1) := dk_42 (dk_at dksX9_dawn_3 19 rfl rfl)
theorem dX9_dawn_90 : decode cX9_dawn 90 = .ok (.getfield 84, 3) := dk_180 0 84 (dk_at dksX9_dawn_3 20 rfl rfl)
theorem dX9_dawn_93 : decode cX9_dawn 93 = .ok (.iload_n 1, 1) := dk_27 (dk_at dksX9_dawn_3 23 rfl rfl)
theorem dX9_dawn_94 : decode cX9_dawn 94 = .ok (.iaload, 1) := dk_46 (dk_at dksX9_dawn_4 0 rfl rfl)
theorem dX9_dawn_95 : decode cX9_dawn 95 = .ok (.dup2, 1) := dk_92 (dk_at dksX9_dawn_4 1 rfl rfl)
theorem dX9_dawn_96 : decode cX9_dawn 96 = .ok (.iaload, 1) := dk_46 (dk_at dksX9_dawn_4 2 rfl rfl)
theorem dX9_dawn_97 : decode cX9_dawn 97 = .ok (.iconst 1, 1) := dk_4 (dk_at dksX9_dawn_4 3 rfl rfl)
theorem dX9_dawn_98 : decode cX9_dawn 98 = .ok (.iload_n 1, 1) := dk_27 (dk_at dksX9_dawn_4 4 rfl rfl)
theorem dX9_dawn_99 : decode cX9_dawn 99 = .ok (.ishl, 1) := dk_120 (dk_at dksX9_dawn_4 5 rfl rfl)
theorem dX9_dawn_100 : decode cX9_dawn 100 = .ok (.ior, 1) := dk_128 (dk_at dksX9_dawn_4 6 rfl rfl)
theorem dX9_dawn_101 : decode cX9_dawn 101 = .ok (.iastore, 1) := dk_79 (dk_at dksX9_dawn_4 7 rfl rfl)
theorem dX9_dawn_102 : decode cX9_dawn 102 = .ok (.iinc 1 1, 3) := dk_132 1 1 (dk_at dksX9_dawn_4 8 rfl rfl)
theorem dX9_dawn_105 : decode cX9_dawn 105 = .ok (.goto (-82), 3) := dk_167 255 174 (dk_at dksX9_dawn_4 11 rfl rfl)
theorem dX9_dawn_108 : decode cX9_dawn 108 = .ok (.return_, 1) := dk_177 (dk_at dksX9_dawn_4 14 rfl rfl)
abbrev cX9_runHour : ByteArray := prog_23_method_65_code
def yX9_runHour : MethodName := ⟨RX9, "runHour", "(II)V"⟩
def dkwX9_runHour_4 : List UInt8 := [132, 4, 1, 167, 255, 180, 132, 3, 1, 167, 255, 160, 177]
abbrev dktX9_runHour_4 : List UInt8 := dkwX9_runHour_4 ++ []
def dkwX9_runHour_3 : List UInt8 := [28, 182, 1, 133, 42, 180, 0, 99, 16, 60, 21, 4, 104, 29, 96, 42, 180, 0, 84, 21, 4, 46, 79]
abbrev dktX9_runHour_3 : List UInt8 := dkwX9_runHour_3 ++ dktX9_runHour_4
def dkwX9_runHour_2 : List UInt8 := [180, 0, 87, 21, 4, 46, 2, 160, 0, 21, 42, 180, 0, 90, 21, 4, 51, 154, 0, 11, 42, 21, 4, 29]
abbrev dktX9_runHour_2 : List UInt8 := dkwX9_runHour_2 ++ dktX9_runHour_3
def dkwX9_runHour_1 : List UInt8 := [180, 0, 13, 3, 46, 162, 0, 71, 29, 4, 96, 42, 21, 4, 5, 182, 0, 169, 112, 154, 0, 32, 42]
abbrev dktX9_runHour_1 : List UInt8 := dkwX9_runHour_1 ++ dktX9_runHour_2
def dkwX9_runHour_0 : List UInt8 := [16, 12, 27, 104, 62, 29, 16, 12, 27, 104, 16, 12, 96, 162, 0, 91, 3, 54, 4, 21, 4, 42]
abbrev dktX9_runHour_0 : List UInt8 := dkwX9_runHour_0 ++ dktX9_runHour_1
theorem dksX9_runHour_0 : cX9_runHour.data.toList.drop 0 = dktX9_runHour_0 := by decide +kernel
theorem dksX9_runHour_1 : cX9_runHour.data.toList.drop 22 = dktX9_runHour_1 := dk_seg dksX9_runHour_0 22 rfl rfl
theorem dksX9_runHour_2 : cX9_runHour.data.toList.drop 45 = dktX9_runHour_2 := dk_seg dksX9_runHour_1 23 rfl rfl
theorem dksX9_runHour_3 : cX9_runHour.data.toList.drop 69 = dktX9_runHour_3 := dk_seg dksX9_runHour_2 24 rfl rfl
theorem dksX9_runHour_4 : cX9_runHour.data.toList.drop 92 = dktX9_runHour_4 := dk_seg dksX9_runHour_3 23 rfl rfl
theorem dX9_runHour_0 : decode cX9_runHour 0 = .ok (.bipush 12, 2) := dk_16 12 (dk_at dksX9_runHour_0 0 rfl rfl)
theorem dX9_runHour_2 : decode cX9_runHour 2 = .ok (.iload_n 1, 1) := dk_27 (dk_at dksX9_runHour_0 2 rfl rfl)
theorem dX9_runHour_3 : decode cX9_runHour 3 = .ok (.imul, 1) := dk_104 (dk_at dksX9_runHour_0 3 rfl rfl)
theorem dX9_runHour_4 : decode cX9_runHour 4 = .ok (.istore_n 3, 1) := dk_62 (dk_at dksX9_runHour_0 4 rfl rfl)
theorem dX9_runHour_5 : decode cX9_runHour 5 = .ok (.iload_n 3, 1) := dk_29 (dk_at dksX9_runHour_0 5 rfl rfl)
theorem dX9_runHour_6 : decode cX9_runHour 6 = .ok (.bipush 12, 2) := dk_16 12 (dk_at dksX9_runHour_0 6 rfl rfl)
theorem dX9_runHour_8 : decode cX9_runHour 8 = .ok (.iload_n 1, 1) := dk_27 (dk_at dksX9_runHour_0 8 rfl rfl)
theorem dX9_runHour_9 : decode cX9_runHour 9 = .ok (.imul, 1) := dk_104 (dk_at dksX9_runHour_0 9 rfl rfl)
theorem dX9_runHour_10 : decode cX9_runHour 10 = .ok (.bipush 12, 2) := dk_16 12 (dk_at dksX9_runHour_0 10 rfl rfl)
theorem dX9_runHour_12 : decode cX9_runHour 12 = .ok (.iadd, 1) := dk_96 (dk_at dksX9_runHour_0 12 rfl rfl)
theorem dX9_runHour_13 : decode cX9_runHour 13 = .ok (.if_icmp .ge 91, 3) := dk_162 0 91 (dk_at dksX9_runHour_0 13 rfl rfl)
theorem dX9_runHour_16 : decode cX9_runHour 16 = .ok (.iconst 0, 1) := dk_3 (dk_at dksX9_runHour_0 16 rfl rfl)
theorem dX9_runHour_17 : decode cX9_runHour 17 = .ok (.istore 4, 2) := dk_54 4 (dk_at dksX9_runHour_0 17 rfl rfl)
theorem dX9_runHour_19 : decode cX9_runHour 19 = .ok (.iload 4, 2) := dk_21 4 (dk_at dksX9_runHour_0 19 rfl rfl)
theorem dX9_runHour_21 : decode cX9_runHour 21 = .ok (.aload_n 0, 1) := dk_42 (dk_at dksX9_runHour_0 21 rfl rfl)
theorem dX9_runHour_22 : decode cX9_runHour 22 = .ok (.getfield 13, 3) := dk_180 0 13 (dk_at dksX9_runHour_1 0 rfl rfl)
theorem dX9_runHour_25 : decode cX9_runHour 25 = .ok (.iconst 0, 1) := dk_3 (dk_at dksX9_runHour_1 3 rfl rfl)
theorem dX9_runHour_26 : decode cX9_runHour 26 = .ok (.iaload, 1) := dk_46 (dk_at dksX9_runHour_1 4 rfl rfl)
theorem dX9_runHour_27 : decode cX9_runHour 27 = .ok (.if_icmp .ge 71, 3) := dk_162 0 71 (dk_at dksX9_runHour_1 5 rfl rfl)
theorem dX9_runHour_30 : decode cX9_runHour 30 = .ok (.iload_n 3, 1) := dk_29 (dk_at dksX9_runHour_1 8 rfl rfl)
theorem dX9_runHour_31 : decode cX9_runHour 31 = .ok (.iconst 1, 1) := dk_4 (dk_at dksX9_runHour_1 9 rfl rfl)
theorem dX9_runHour_32 : decode cX9_runHour 32 = .ok (.iadd, 1) := dk_96 (dk_at dksX9_runHour_1 10 rfl rfl)
theorem dX9_runHour_33 : decode cX9_runHour 33 = .ok (.aload_n 0, 1) := dk_42 (dk_at dksX9_runHour_1 11 rfl rfl)
theorem dX9_runHour_34 : decode cX9_runHour 34 = .ok (.iload 4, 2) := dk_21 4 (dk_at dksX9_runHour_1 12 rfl rfl)
theorem dX9_runHour_36 : decode cX9_runHour 36 = .ok (.iconst 2, 1) := dk_5 (dk_at dksX9_runHour_1 14 rfl rfl)
theorem dX9_runHour_37 : decode cX9_runHour 37 = .ok (.invokevirtual 169, 3) := dk_182 0 169 (dk_at dksX9_runHour_1 15 rfl rfl)
theorem dX9_runHour_40 : decode cX9_runHour 40 = .ok (.irem, 1) := dk_112 (dk_at dksX9_runHour_1 18 rfl rfl)
theorem dX9_runHour_41 : decode cX9_runHour 41 = .ok (.ifCond .ne 32, 3) := dk_154 0 32 (dk_at dksX9_runHour_1 19 rfl rfl)
theorem dX9_runHour_44 : decode cX9_runHour 44 = .ok (.aload_n 0, 1) := dk_42 (dk_at dksX9_runHour_1 22 rfl rfl)
theorem dX9_runHour_45 : decode cX9_runHour 45 = .ok (.getfield 87, 3) := dk_180 0 87 (dk_at dksX9_runHour_2 0 rfl rfl)
theorem dX9_runHour_48 : decode cX9_runHour 48 = .ok (.iload 4, 2) := dk_21 4 (dk_at dksX9_runHour_2 3 rfl rfl)
theorem dX9_runHour_50 : decode cX9_runHour 50 = .ok (.iaload, 1) := dk_46 (dk_at dksX9_runHour_2 5 rfl rfl)
theorem dX9_runHour_51 : decode cX9_runHour 51 = .ok (.iconst (-1), 1) := dk_2 (dk_at dksX9_runHour_2 6 rfl rfl)
theorem dX9_runHour_52 : decode cX9_runHour 52 = .ok (.if_icmp .ne 21, 3) := dk_160 0 21 (dk_at dksX9_runHour_2 7 rfl rfl)
theorem dX9_runHour_55 : decode cX9_runHour 55 = .ok (.aload_n 0, 1) := dk_42 (dk_at dksX9_runHour_2 10 rfl rfl)
theorem dX9_runHour_56 : decode cX9_runHour 56 = .ok (.getfield 90, 3) := dk_180 0 90 (dk_at dksX9_runHour_2 11 rfl rfl)
theorem dX9_runHour_59 : decode cX9_runHour 59 = .ok (.iload 4, 2) := dk_21 4 (dk_at dksX9_runHour_2 14 rfl rfl)
theorem dX9_runHour_61 : decode cX9_runHour 61 = .ok (.baload, 1) := dk_51 (dk_at dksX9_runHour_2 16 rfl rfl)
theorem dX9_runHour_62 : decode cX9_runHour 62 = .ok (.ifCond .ne 11, 3) := dk_154 0 11 (dk_at dksX9_runHour_2 17 rfl rfl)
theorem dX9_runHour_65 : decode cX9_runHour 65 = .ok (.aload_n 0, 1) := dk_42 (dk_at dksX9_runHour_2 20 rfl rfl)
theorem dX9_runHour_66 : decode cX9_runHour 66 = .ok (.iload 4, 2) := dk_21 4 (dk_at dksX9_runHour_2 21 rfl rfl)
theorem dX9_runHour_68 : decode cX9_runHour 68 = .ok (.iload_n 3, 1) := dk_29 (dk_at dksX9_runHour_2 23 rfl rfl)
theorem dX9_runHour_69 : decode cX9_runHour 69 = .ok (.iload_n 2, 1) := dk_28 (dk_at dksX9_runHour_3 0 rfl rfl)
theorem dX9_runHour_70 : decode cX9_runHour 70 = .ok (.invokevirtual 389, 3) := dk_182 1 133 (dk_at dksX9_runHour_3 1 rfl rfl)
theorem dX9_runHour_73 : decode cX9_runHour 73 = .ok (.aload_n 0, 1) := dk_42 (dk_at dksX9_runHour_3 4 rfl rfl)
theorem dX9_runHour_74 : decode cX9_runHour 74 = .ok (.getfield 99, 3) := dk_180 0 99 (dk_at dksX9_runHour_3 5 rfl rfl)
theorem dX9_runHour_77 : decode cX9_runHour 77 = .ok (.bipush 60, 2) := dk_16 60 (dk_at dksX9_runHour_3 8 rfl rfl)
theorem dX9_runHour_79 : decode cX9_runHour 79 = .ok (.iload 4, 2) := dk_21 4 (dk_at dksX9_runHour_3 10 rfl rfl)
theorem dX9_runHour_81 : decode cX9_runHour 81 = .ok (.imul, 1) := dk_104 (dk_at dksX9_runHour_3 12 rfl rfl)
theorem dX9_runHour_82 : decode cX9_runHour 82 = .ok (.iload_n 3, 1) := dk_29 (dk_at dksX9_runHour_3 13 rfl rfl)
theorem dX9_runHour_83 : decode cX9_runHour 83 = .ok (.iadd, 1) := dk_96 (dk_at dksX9_runHour_3 14 rfl rfl)
theorem dX9_runHour_84 : decode cX9_runHour 84 = .ok (.aload_n 0, 1) := dk_42 (dk_at dksX9_runHour_3 15 rfl rfl)
theorem dX9_runHour_85 : decode cX9_runHour 85 = .ok (.getfield 84, 3) := dk_180 0 84 (dk_at dksX9_runHour_3 16 rfl rfl)
theorem dX9_runHour_88 : decode cX9_runHour 88 = .ok (.iload 4, 2) := dk_21 4 (dk_at dksX9_runHour_3 19 rfl rfl)
theorem dX9_runHour_90 : decode cX9_runHour 90 = .ok (.iaload, 1) := dk_46 (dk_at dksX9_runHour_3 21 rfl rfl)
theorem dX9_runHour_91 : decode cX9_runHour 91 = .ok (.iastore, 1) := dk_79 (dk_at dksX9_runHour_3 22 rfl rfl)
theorem dX9_runHour_92 : decode cX9_runHour 92 = .ok (.iinc 4 1, 3) := dk_132 4 1 (dk_at dksX9_runHour_4 0 rfl rfl)
theorem dX9_runHour_95 : decode cX9_runHour 95 = .ok (.goto (-76), 3) := dk_167 255 180 (dk_at dksX9_runHour_4 3 rfl rfl)
theorem dX9_runHour_98 : decode cX9_runHour 98 = .ok (.iinc 3 1, 3) := dk_132 3 1 (dk_at dksX9_runHour_4 6 rfl rfl)
theorem dX9_runHour_101 : decode cX9_runHour 101 = .ok (.goto (-96), 3) := dk_167 255 160 (dk_at dksX9_runHour_4 9 rfl rfl)
theorem dX9_runHour_104 : decode cX9_runHour 104 = .ok (.return_, 1) := dk_177 (dk_at dksX9_runHour_4 12 rfl rfl)
abbrev cX9_creep : ByteArray := prog_23_method_66_code
def yX9_creep : MethodName := ⟨RX9, "creep", "(III)V"⟩
def dkwX9_creep_12 : List UInt8 := [79, 177]
abbrev dktX9_creep_12 : List UInt8 := dkwX9_creep_12 ++ []
def dkwX9_creep_11 : List UInt8 := [42, 180, 0, 96, 27, 92, 46, 42, 180, 0, 84, 27, 46, 21, 4, 160, 0, 7, 4, 167, 0, 4, 3, 96]
abbrev dktX9_creep_11 : List UInt8 := dkwX9_creep_11 ++ dktX9_creep_12
def dkwX9_creep_10 : List UInt8 := [42, 180, 0, 87, 27, 21, 6, 42, 27, 4, 182, 0, 169, 160, 0, 9, 28, 4, 96, 167, 0, 4, 2, 79]
abbrev dktX9_creep_10 : List UInt8 := dkwX9_creep_10 ++ dktX9_creep_11
def dkwX9_creep_9 : List UInt8 := [167, 255, 94, 42, 180, 0, 84, 27, 21, 6, 79, 42, 180, 0, 93, 21, 6, 92, 46, 4, 27, 120, 128, 79]
abbrev dktX9_creep_9 : List UInt8 := dkwX9_creep_9 ++ dktX9_creep_10
def dkwX9_creep_8 : List UInt8 := [21, 6, 54, 6, 22, 13, 22, 7, 148, 158, 0, 8, 22, 13, 167, 0, 5, 22, 7, 55, 7, 132, 9, 1]
abbrev dktX9_creep_8 : List UInt8 := dkwX9_creep_8 ++ dktX9_creep_9
def dkwX9_creep_7 : List UInt8 := [27, 21, 12, 21, 5, 29, 182, 1, 137, 55, 13, 22, 13, 22, 7, 148, 158, 0, 8, 21, 12, 167, 0, 5]
abbrev dktX9_creep_7 : List UInt8 := dkwX9_creep_7 ++ dktX9_creep_8
def dkwX9_creep_6 : List UInt8 := [20, 1, 143, 184, 0, 160, 153, 0, 63, 42, 180, 0, 13, 17, 0, 176, 21, 12, 96, 46, 154, 0, 49, 42]
abbrev dktX9_creep_6 : List UInt8 := dkwX9_creep_6 ++ dktX9_creep_7
def dkwX9_creep_5 : List UInt8 := [21, 10, 96, 54, 12, 21, 10, 133, 9, 20, 1, 141, 184, 0, 160, 153, 0, 76, 21, 11, 133, 9]
abbrev dktX9_creep_5 : List UInt8 := dkwX9_creep_5 ++ dktX9_creep_6
def dkwX9_creep_4 : List UInt8 := [2, 167, 0, 14, 21, 9, 5, 160, 0, 7, 4, 167, 0, 4, 3, 96, 54, 11, 16, 12, 21, 11, 104]
abbrev dktX9_creep_4 : List UInt8 := dkwX9_creep_4 ++ dktX9_creep_5
def dkwX9_creep_3 : List UInt8 := [21, 9, 6, 160, 0, 7, 2, 167, 0, 4, 3, 96, 54, 10, 21, 4, 16, 12, 108, 21, 9, 154, 0, 7]
abbrev dktX9_creep_3 : List UInt8 := dkwX9_creep_3 ++ dktX9_creep_4
def dkwX9_creep_2 : List UInt8 := [3, 54, 9, 21, 9, 7, 162, 0, 162, 21, 4, 16, 12, 112, 21, 9, 4, 160, 0, 7, 4, 167, 0, 14]
abbrev dktX9_creep_2 : List UInt8 := dkwX9_creep_2 ++ dktX9_creep_3
def dkwX9_creep_1 : List UInt8 := [182, 1, 129, 9, 148, 154, 0, 232, 21, 4, 54, 6, 42, 27, 21, 4, 21, 5, 29, 182, 1, 137, 55, 7]
abbrev dktX9_creep_1 : List UInt8 := dkwX9_creep_1 ++ dktX9_creep_2
def dkwX9_creep_0 : List UInt8 := [42, 180, 0, 84, 27, 46, 54, 4, 28, 16, 12, 108, 54, 5, 42, 5, 27, 21, 4, 21, 5, 29, 9]
abbrev dktX9_creep_0 : List UInt8 := dkwX9_creep_0 ++ dktX9_creep_1
theorem dksX9_creep_0 : cX9_creep.data.toList.drop 0 = dktX9_creep_0 := by decide +kernel
theorem dksX9_creep_1 : cX9_creep.data.toList.drop 23 = dktX9_creep_1 := dk_seg dksX9_creep_0 23 rfl rfl
theorem dksX9_creep_2 : cX9_creep.data.toList.drop 47 = dktX9_creep_2 := dk_seg dksX9_creep_1 24 rfl rfl
theorem dksX9_creep_3 : cX9_creep.data.toList.drop 71 = dktX9_creep_3 := dk_seg dksX9_creep_2 24 rfl rfl
theorem dksX9_creep_4 : cX9_creep.data.toList.drop 95 = dktX9_creep_4 := dk_seg dksX9_creep_3 24 rfl rfl
theorem dksX9_creep_5 : cX9_creep.data.toList.drop 118 = dktX9_creep_5 := dk_seg dksX9_creep_4 23 rfl rfl
theorem dksX9_creep_6 : cX9_creep.data.toList.drop 140 = dktX9_creep_6 := dk_seg dksX9_creep_5 22 rfl rfl
theorem dksX9_creep_7 : cX9_creep.data.toList.drop 164 = dktX9_creep_7 := dk_seg dksX9_creep_6 24 rfl rfl
theorem dksX9_creep_8 : cX9_creep.data.toList.drop 188 = dktX9_creep_8 := dk_seg dksX9_creep_7 24 rfl rfl
theorem dksX9_creep_9 : cX9_creep.data.toList.drop 212 = dktX9_creep_9 := dk_seg dksX9_creep_8 24 rfl rfl
theorem dksX9_creep_10 : cX9_creep.data.toList.drop 236 = dktX9_creep_10 := dk_seg dksX9_creep_9 24 rfl rfl
theorem dksX9_creep_11 : cX9_creep.data.toList.drop 260 = dktX9_creep_11 := dk_seg dksX9_creep_10 24 rfl rfl
theorem dksX9_creep_12 : cX9_creep.data.toList.drop 284 = dktX9_creep_12 := dk_seg dksX9_creep_11 24 rfl rfl
theorem dX9_creep_0 : decode cX9_creep 0 = .ok (.aload_n 0, 1) := dk_42 (dk_at dksX9_creep_0 0 rfl rfl)
theorem dX9_creep_1 : decode cX9_creep 1 = .ok (.getfield 84, 3) := dk_180 0 84 (dk_at dksX9_creep_0 1 rfl rfl)
theorem dX9_creep_4 : decode cX9_creep 4 = .ok (.iload_n 1, 1) := dk_27 (dk_at dksX9_creep_0 4 rfl rfl)
theorem dX9_creep_5 : decode cX9_creep 5 = .ok (.iaload, 1) := dk_46 (dk_at dksX9_creep_0 5 rfl rfl)
theorem dX9_creep_6 : decode cX9_creep 6 = .ok (.istore 4, 2) := dk_54 4 (dk_at dksX9_creep_0 6 rfl rfl)
theorem dX9_creep_8 : decode cX9_creep 8 = .ok (.iload_n 2, 1) := dk_28 (dk_at dksX9_creep_0 8 rfl rfl)
theorem dX9_creep_9 : decode cX9_creep 9 = .ok (.bipush 12, 2) := dk_16 12 (dk_at dksX9_creep_0 9 rfl rfl)
theorem dX9_creep_11 : decode cX9_creep 11 = .ok (.idiv, 1) := dk_108 (dk_at dksX9_creep_0 11 rfl rfl)
theorem dX9_creep_12 : decode cX9_creep 12 = .ok (.istore 5, 2) := dk_54 5 (dk_at dksX9_creep_0 12 rfl rfl)
theorem dX9_creep_14 : decode cX9_creep 14 = .ok (.aload_n 0, 1) := dk_42 (dk_at dksX9_creep_0 14 rfl rfl)
theorem dX9_creep_15 : decode cX9_creep 15 = .ok (.iconst 2, 1) := dk_5 (dk_at dksX9_creep_0 15 rfl rfl)
theorem dX9_creep_16 : decode cX9_creep 16 = .ok (.iload_n 1, 1) := dk_27 (dk_at dksX9_creep_0 16 rfl rfl)
theorem dX9_creep_17 : decode cX9_creep 17 = .ok (.iload 4, 2) := dk_21 4 (dk_at dksX9_creep_0 17 rfl rfl)
theorem dX9_creep_19 : decode cX9_creep 19 = .ok (.iload 5, 2) := dk_21 5 (dk_at dksX9_creep_0 19 rfl rfl)
theorem dX9_creep_21 : decode cX9_creep 21 = .ok (.iload_n 3, 1) := dk_29 (dk_at dksX9_creep_0 21 rfl rfl)
theorem dX9_creep_22 : decode cX9_creep 22 = .ok (.lconst 0, 1) := dk_9 (dk_at dksX9_creep_0 22 rfl rfl)
theorem dX9_creep_23 : decode cX9_creep 23 = .ok (.invokevirtual 385, 3) := dk_182 1 129 (dk_at dksX9_creep_1 0 rfl rfl)
theorem dX9_creep_26 : decode cX9_creep 26 = .ok (.lconst 0, 1) := dk_9 (dk_at dksX9_creep_1 3 rfl rfl)
theorem dX9_creep_27 : decode cX9_creep 27 = .ok (.lcmp, 1) := dk_148 (dk_at dksX9_creep_1 4 rfl rfl)
theorem dX9_creep_28 : decode cX9_creep 28 = .ok (.ifCond .ne 232, 3) := dk_154 0 232 (dk_at dksX9_creep_1 5 rfl rfl)
theorem dX9_creep_31 : decode cX9_creep 31 = .ok (.iload 4, 2) := dk_21 4 (dk_at dksX9_creep_1 8 rfl rfl)
theorem dX9_creep_33 : decode cX9_creep 33 = .ok (.istore 6, 2) := dk_54 6 (dk_at dksX9_creep_1 10 rfl rfl)
theorem dX9_creep_35 : decode cX9_creep 35 = .ok (.aload_n 0, 1) := dk_42 (dk_at dksX9_creep_1 12 rfl rfl)
theorem dX9_creep_36 : decode cX9_creep 36 = .ok (.iload_n 1, 1) := dk_27 (dk_at dksX9_creep_1 13 rfl rfl)
theorem dX9_creep_37 : decode cX9_creep 37 = .ok (.iload 4, 2) := dk_21 4 (dk_at dksX9_creep_1 14 rfl rfl)
theorem dX9_creep_39 : decode cX9_creep 39 = .ok (.iload 5, 2) := dk_21 5 (dk_at dksX9_creep_1 16 rfl rfl)
theorem dX9_creep_41 : decode cX9_creep 41 = .ok (.iload_n 3, 1) := dk_29 (dk_at dksX9_creep_1 18 rfl rfl)
theorem dX9_creep_42 : decode cX9_creep 42 = .ok (.invokevirtual 393, 3) := dk_182 1 137 (dk_at dksX9_creep_1 19 rfl rfl)
theorem dX9_creep_45 : decode cX9_creep 45 = .ok (.lstore 7, 2) := dk_55 7 (dk_at dksX9_creep_1 22 rfl rfl)
theorem dX9_creep_47 : decode cX9_creep 47 = .ok (.iconst 0, 1) := dk_3 (dk_at dksX9_creep_2 0 rfl rfl)
theorem dX9_creep_48 : decode cX9_creep 48 = .ok (.istore 9, 2) := dk_54 9 (dk_at dksX9_creep_2 1 rfl rfl)
theorem dX9_creep_50 : decode cX9_creep 50 = .ok (.iload 9, 2) := dk_21 9 (dk_at dksX9_creep_2 3 rfl rfl)
theorem dX9_creep_52 : decode cX9_creep 52 = .ok (.iconst 4, 1) := dk_7 (dk_at dksX9_creep_2 5 rfl rfl)
theorem dX9_creep_53 : decode cX9_creep 53 = .ok (.if_icmp .ge 162, 3) := dk_162 0 162 (dk_at dksX9_creep_2 6 rfl rfl)
theorem dX9_creep_56 : decode cX9_creep 56 = .ok (.iload 4, 2) := dk_21 4 (dk_at dksX9_creep_2 9 rfl rfl)
theorem dX9_creep_58 : decode cX9_creep 58 = .ok (.bipush 12, 2) := dk_16 12 (dk_at dksX9_creep_2 11 rfl rfl)
theorem dX9_creep_60 : decode cX9_creep 60 = .ok (.irem, 1) := dk_112 (dk_at dksX9_creep_2 13 rfl rfl)
theorem dX9_creep_61 : decode cX9_creep 61 = .ok (.iload 9, 2) := dk_21 9 (dk_at dksX9_creep_2 14 rfl rfl)
theorem dX9_creep_63 : decode cX9_creep 63 = .ok (.iconst 1, 1) := dk_4 (dk_at dksX9_creep_2 16 rfl rfl)
theorem dX9_creep_64 : decode cX9_creep 64 = .ok (.if_icmp .ne 7, 3) := dk_160 0 7 (dk_at dksX9_creep_2 17 rfl rfl)
theorem dX9_creep_67 : decode cX9_creep 67 = .ok (.iconst 1, 1) := dk_4 (dk_at dksX9_creep_2 20 rfl rfl)
theorem dX9_creep_68 : decode cX9_creep 68 = .ok (.goto 14, 3) := dk_167 0 14 (dk_at dksX9_creep_2 21 rfl rfl)
theorem dX9_creep_71 : decode cX9_creep 71 = .ok (.iload 9, 2) := dk_21 9 (dk_at dksX9_creep_3 0 rfl rfl)
theorem dX9_creep_73 : decode cX9_creep 73 = .ok (.iconst 3, 1) := dk_6 (dk_at dksX9_creep_3 2 rfl rfl)
theorem dX9_creep_74 : decode cX9_creep 74 = .ok (.if_icmp .ne 7, 3) := dk_160 0 7 (dk_at dksX9_creep_3 3 rfl rfl)
theorem dX9_creep_77 : decode cX9_creep 77 = .ok (.iconst (-1), 1) := dk_2 (dk_at dksX9_creep_3 6 rfl rfl)
theorem dX9_creep_78 : decode cX9_creep 78 = .ok (.goto 4, 3) := dk_167 0 4 (dk_at dksX9_creep_3 7 rfl rfl)
theorem dX9_creep_81 : decode cX9_creep 81 = .ok (.iconst 0, 1) := dk_3 (dk_at dksX9_creep_3 10 rfl rfl)
theorem dX9_creep_82 : decode cX9_creep 82 = .ok (.iadd, 1) := dk_96 (dk_at dksX9_creep_3 11 rfl rfl)
theorem dX9_creep_83 : decode cX9_creep 83 = .ok (.istore 10, 2) := dk_54 10 (dk_at dksX9_creep_3 12 rfl rfl)
theorem dX9_creep_85 : decode cX9_creep 85 = .ok (.iload 4, 2) := dk_21 4 (dk_at dksX9_creep_3 14 rfl rfl)
theorem dX9_creep_87 : decode cX9_creep 87 = .ok (.bipush 12, 2) := dk_16 12 (dk_at dksX9_creep_3 16 rfl rfl)
theorem dX9_creep_89 : decode cX9_creep 89 = .ok (.idiv, 1) := dk_108 (dk_at dksX9_creep_3 18 rfl rfl)
theorem dX9_creep_90 : decode cX9_creep 90 = .ok (.iload 9, 2) := dk_21 9 (dk_at dksX9_creep_3 19 rfl rfl)
theorem dX9_creep_92 : decode cX9_creep 92 = .ok (.ifCond .ne 7, 3) := dk_154 0 7 (dk_at dksX9_creep_3 21 rfl rfl)
theorem dX9_creep_95 : decode cX9_creep 95 = .ok (.iconst (-1), 1) := dk_2 (dk_at dksX9_creep_4 0 rfl rfl)
theorem dX9_creep_96 : decode cX9_creep 96 = .ok (.goto 14, 3) := dk_167 0 14 (dk_at dksX9_creep_4 1 rfl rfl)
theorem dX9_creep_99 : decode cX9_creep 99 = .ok (.iload 9, 2) := dk_21 9 (dk_at dksX9_creep_4 4 rfl rfl)
theorem dX9_creep_101 : decode cX9_creep 101 = .ok (.iconst 2, 1) := dk_5 (dk_at dksX9_creep_4 6 rfl rfl)
theorem dX9_creep_102 : decode cX9_creep 102 = .ok (.if_icmp .ne 7, 3) := dk_160 0 7 (dk_at dksX9_creep_4 7 rfl rfl)
theorem dX9_creep_105 : decode cX9_creep 105 = .ok (.iconst 1, 1) := dk_4 (dk_at dksX9_creep_4 10 rfl rfl)
theorem dX9_creep_106 : decode cX9_creep 106 = .ok (.goto 4, 3) := dk_167 0 4 (dk_at dksX9_creep_4 11 rfl rfl)
theorem dX9_creep_109 : decode cX9_creep 109 = .ok (.iconst 0, 1) := dk_3 (dk_at dksX9_creep_4 14 rfl rfl)
theorem dX9_creep_110 : decode cX9_creep 110 = .ok (.iadd, 1) := dk_96 (dk_at dksX9_creep_4 15 rfl rfl)
theorem dX9_creep_111 : decode cX9_creep 111 = .ok (.istore 11, 2) := dk_54 11 (dk_at dksX9_creep_4 16 rfl rfl)
theorem dX9_creep_113 : decode cX9_creep 113 = .ok (.bipush 12, 2) := dk_16 12 (dk_at dksX9_creep_4 18 rfl rfl)
theorem dX9_creep_115 : decode cX9_creep 115 = .ok (.iload 11, 2) := dk_21 11 (dk_at dksX9_creep_4 20 rfl rfl)
theorem dX9_creep_117 : decode cX9_creep 117 = .ok (.imul, 1) := dk_104 (dk_at dksX9_creep_4 22 rfl rfl)
theorem dX9_creep_118 : decode cX9_creep 118 = .ok (.iload 10, 2) := dk_21 10 (dk_at dksX9_creep_5 0 rfl rfl)
theorem dX9_creep_120 : decode cX9_creep 120 = .ok (.iadd, 1) := dk_96 (dk_at dksX9_creep_5 2 rfl rfl)
theorem dX9_creep_121 : decode cX9_creep 121 = .ok (.istore 12, 2) := dk_54 12 (dk_at dksX9_creep_5 3 rfl rfl)
theorem dX9_creep_123 : decode cX9_creep 123 = .ok (.iload 10, 2) := dk_21 10 (dk_at dksX9_creep_5 5 rfl rfl)
theorem dX9_creep_125 : decode cX9_creep 125 = .ok (.i2l, 1) := dk_133 (dk_at dksX9_creep_5 7 rfl rfl)
theorem dX9_creep_126 : decode cX9_creep 126 = .ok (.lconst 0, 1) := dk_9 (dk_at dksX9_creep_5 8 rfl rfl)
theorem dX9_creep_127 : decode cX9_creep 127 = .ok (.ldc2_w 397, 3) := dk_20 1 141 (dk_at dksX9_creep_5 9 rfl rfl)
theorem dX9_creep_130 : decode cX9_creep 130 = .ok (.invokestatic 160, 3) := dk_184 0 160 (dk_at dksX9_creep_5 12 rfl rfl)
theorem dX9_creep_133 : decode cX9_creep 133 = .ok (.ifCond .eq 76, 3) := dk_153 0 76 (dk_at dksX9_creep_5 15 rfl rfl)
theorem dX9_creep_136 : decode cX9_creep 136 = .ok (.iload 11, 2) := dk_21 11 (dk_at dksX9_creep_5 18 rfl rfl)
theorem dX9_creep_138 : decode cX9_creep 138 = .ok (.i2l, 1) := dk_133 (dk_at dksX9_creep_5 20 rfl rfl)
theorem dX9_creep_139 : decode cX9_creep 139 = .ok (.lconst 0, 1) := dk_9 (dk_at dksX9_creep_5 21 rfl rfl)
theorem dX9_creep_140 : decode cX9_creep 140 = .ok (.ldc2_w 399, 3) := dk_20 1 143 (dk_at dksX9_creep_6 0 rfl rfl)
theorem dX9_creep_143 : decode cX9_creep 143 = .ok (.invokestatic 160, 3) := dk_184 0 160 (dk_at dksX9_creep_6 3 rfl rfl)
theorem dX9_creep_146 : decode cX9_creep 146 = .ok (.ifCond .eq 63, 3) := dk_153 0 63 (dk_at dksX9_creep_6 6 rfl rfl)
theorem dX9_creep_149 : decode cX9_creep 149 = .ok (.aload_n 0, 1) := dk_42 (dk_at dksX9_creep_6 9 rfl rfl)
theorem dX9_creep_150 : decode cX9_creep 150 = .ok (.getfield 13, 3) := dk_180 0 13 (dk_at dksX9_creep_6 10 rfl rfl)
theorem dX9_creep_153 : decode cX9_creep 153 = .ok (.sipush 176, 3) := dk_17 0 176 (dk_at dksX9_creep_6 13 rfl rfl)
theorem dX9_creep_156 : decode cX9_creep 156 = .ok (.iload 12, 2) := dk_21 12 (dk_at dksX9_creep_6 16 rfl rfl)
theorem dX9_creep_158 : decode cX9_creep 158 = .ok (.iadd, 1) := dk_96 (dk_at dksX9_creep_6 18 rfl rfl)
theorem dX9_creep_159 : decode cX9_creep 159 = .ok (.iaload, 1) := dk_46 (dk_at dksX9_creep_6 19 rfl rfl)
theorem dX9_creep_160 : decode cX9_creep 160 = .ok (.ifCond .ne 49, 3) := dk_154 0 49 (dk_at dksX9_creep_6 20 rfl rfl)
theorem dX9_creep_163 : decode cX9_creep 163 = .ok (.aload_n 0, 1) := dk_42 (dk_at dksX9_creep_6 23 rfl rfl)
theorem dX9_creep_164 : decode cX9_creep 164 = .ok (.iload_n 1, 1) := dk_27 (dk_at dksX9_creep_7 0 rfl rfl)
theorem dX9_creep_165 : decode cX9_creep 165 = .ok (.iload 12, 2) := dk_21 12 (dk_at dksX9_creep_7 1 rfl rfl)
theorem dX9_creep_167 : decode cX9_creep 167 = .ok (.iload 5, 2) := dk_21 5 (dk_at dksX9_creep_7 3 rfl rfl)
theorem dX9_creep_169 : decode cX9_creep 169 = .ok (.iload_n 3, 1) := dk_29 (dk_at dksX9_creep_7 5 rfl rfl)
theorem dX9_creep_170 : decode cX9_creep 170 = .ok (.invokevirtual 393, 3) := dk_182 1 137 (dk_at dksX9_creep_7 6 rfl rfl)
theorem dX9_creep_173 : decode cX9_creep 173 = .ok (.lstore 13, 2) := dk_55 13 (dk_at dksX9_creep_7 9 rfl rfl)
theorem dX9_creep_175 : decode cX9_creep 175 = .ok (.lload 13, 2) := dk_22 13 (dk_at dksX9_creep_7 11 rfl rfl)
theorem dX9_creep_177 : decode cX9_creep 177 = .ok (.lload 7, 2) := dk_22 7 (dk_at dksX9_creep_7 13 rfl rfl)
theorem dX9_creep_179 : decode cX9_creep 179 = .ok (.lcmp, 1) := dk_148 (dk_at dksX9_creep_7 15 rfl rfl)
theorem dX9_creep_180 : decode cX9_creep 180 = .ok (.ifCond .le 8, 3) := dk_158 0 8 (dk_at dksX9_creep_7 16 rfl rfl)
theorem dX9_creep_183 : decode cX9_creep 183 = .ok (.iload 12, 2) := dk_21 12 (dk_at dksX9_creep_7 19 rfl rfl)
theorem dX9_creep_185 : decode cX9_creep 185 = .ok (.goto 5, 3) := dk_167 0 5 (dk_at dksX9_creep_7 21 rfl rfl)
theorem dX9_creep_188 : decode cX9_creep 188 = .ok (.iload 6, 2) := dk_21 6 (dk_at dksX9_creep_8 0 rfl rfl)
theorem dX9_creep_190 : decode cX9_creep 190 = .ok (.istore 6, 2) := dk_54 6 (dk_at dksX9_creep_8 2 rfl rfl)
theorem dX9_creep_192 : decode cX9_creep 192 = .ok (.lload 13, 2) := dk_22 13 (dk_at dksX9_creep_8 4 rfl rfl)
theorem dX9_creep_194 : decode cX9_creep 194 = .ok (.lload 7, 2) := dk_22 7 (dk_at dksX9_creep_8 6 rfl rfl)
theorem dX9_creep_196 : decode cX9_creep 196 = .ok (.lcmp, 1) := dk_148 (dk_at dksX9_creep_8 8 rfl rfl)
theorem dX9_creep_197 : decode cX9_creep 197 = .ok (.ifCond .le 8, 3) := dk_158 0 8 (dk_at dksX9_creep_8 9 rfl rfl)
theorem dX9_creep_200 : decode cX9_creep 200 = .ok (.lload 13, 2) := dk_22 13 (dk_at dksX9_creep_8 12 rfl rfl)
theorem dX9_creep_202 : decode cX9_creep 202 = .ok (.goto 5, 3) := dk_167 0 5 (dk_at dksX9_creep_8 14 rfl rfl)
theorem dX9_creep_205 : decode cX9_creep 205 = .ok (.lload 7, 2) := dk_22 7 (dk_at dksX9_creep_8 17 rfl rfl)
theorem dX9_creep_207 : decode cX9_creep 207 = .ok (.lstore 7, 2) := dk_55 7 (dk_at dksX9_creep_8 19 rfl rfl)
theorem dX9_creep_209 : decode cX9_creep 209 = .ok (.iinc 9 1, 3) := dk_132 9 1 (dk_at dksX9_creep_8 21 rfl rfl)
theorem dX9_creep_212 : decode cX9_creep 212 = .ok (.goto (-162), 3) := dk_167 255 94 (dk_at dksX9_creep_9 0 rfl rfl)
theorem dX9_creep_215 : decode cX9_creep 215 = .ok (.aload_n 0, 1) := dk_42 (dk_at dksX9_creep_9 3 rfl rfl)
theorem dX9_creep_216 : decode cX9_creep 216 = .ok (.getfield 84, 3) := dk_180 0 84 (dk_at dksX9_creep_9 4 rfl rfl)
theorem dX9_creep_219 : decode cX9_creep 219 = .ok (.iload_n 1, 1) := dk_27 (dk_at dksX9_creep_9 7 rfl rfl)
theorem dX9_creep_220 : decode cX9_creep 220 = .ok (.iload 6, 2) := dk_21 6 (dk_at dksX9_creep_9 8 rfl rfl)
theorem dX9_creep_222 : decode cX9_creep 222 = .ok (.iastore, 1) := dk_79 (dk_at dksX9_creep_9 10 rfl rfl)
theorem dX9_creep_223 : decode cX9_creep 223 = .ok (.aload_n 0, 1) := dk_42 (dk_at dksX9_creep_9 11 rfl rfl)
theorem dX9_creep_224 : decode cX9_creep 224 = .ok (.getfield 93, 3) := dk_180 0 93 (dk_at dksX9_creep_9 12 rfl rfl)
theorem dX9_creep_227 : decode cX9_creep 227 = .ok (.iload 6, 2) := dk_21 6 (dk_at dksX9_creep_9 15 rfl rfl)
theorem dX9_creep_229 : decode cX9_creep 229 = .ok (.dup2, 1) := dk_92 (dk_at dksX9_creep_9 17 rfl rfl)
theorem dX9_creep_230 : decode cX9_creep 230 = .ok (.iaload, 1) := dk_46 (dk_at dksX9_creep_9 18 rfl rfl)
theorem dX9_creep_231 : decode cX9_creep 231 = .ok (.iconst 1, 1) := dk_4 (dk_at dksX9_creep_9 19 rfl rfl)
theorem dX9_creep_232 : decode cX9_creep 232 = .ok (.iload_n 1, 1) := dk_27 (dk_at dksX9_creep_9 20 rfl rfl)
theorem dX9_creep_233 : decode cX9_creep 233 = .ok (.ishl, 1) := dk_120 (dk_at dksX9_creep_9 21 rfl rfl)
theorem dX9_creep_234 : decode cX9_creep 234 = .ok (.ior, 1) := dk_128 (dk_at dksX9_creep_9 22 rfl rfl)
theorem dX9_creep_235 : decode cX9_creep 235 = .ok (.iastore, 1) := dk_79 (dk_at dksX9_creep_9 23 rfl rfl)
theorem dX9_creep_236 : decode cX9_creep 236 = .ok (.aload_n 0, 1) := dk_42 (dk_at dksX9_creep_10 0 rfl rfl)
theorem dX9_creep_237 : decode cX9_creep 237 = .ok (.getfield 87, 3) := dk_180 0 87 (dk_at dksX9_creep_10 1 rfl rfl)
theorem dX9_creep_240 : decode cX9_creep 240 = .ok (.iload_n 1, 1) := dk_27 (dk_at dksX9_creep_10 4 rfl rfl)
theorem dX9_creep_241 : decode cX9_creep 241 = .ok (.iload 6, 2) := dk_21 6 (dk_at dksX9_creep_10 5 rfl rfl)
theorem dX9_creep_243 : decode cX9_creep 243 = .ok (.aload_n 0, 1) := dk_42 (dk_at dksX9_creep_10 7 rfl rfl)
theorem dX9_creep_244 : decode cX9_creep 244 = .ok (.iload_n 1, 1) := dk_27 (dk_at dksX9_creep_10 8 rfl rfl)
theorem dX9_creep_245 : decode cX9_creep 245 = .ok (.iconst 1, 1) := dk_4 (dk_at dksX9_creep_10 9 rfl rfl)
theorem dX9_creep_246 : decode cX9_creep 246 = .ok (.invokevirtual 169, 3) := dk_182 0 169 (dk_at dksX9_creep_10 10 rfl rfl)
theorem dX9_creep_249 : decode cX9_creep 249 = .ok (.if_icmp .ne 9, 3) := dk_160 0 9 (dk_at dksX9_creep_10 13 rfl rfl)
theorem dX9_creep_252 : decode cX9_creep 252 = .ok (.iload_n 2, 1) := dk_28 (dk_at dksX9_creep_10 16 rfl rfl)
theorem dX9_creep_253 : decode cX9_creep 253 = .ok (.iconst 1, 1) := dk_4 (dk_at dksX9_creep_10 17 rfl rfl)
theorem dX9_creep_254 : decode cX9_creep 254 = .ok (.iadd, 1) := dk_96 (dk_at dksX9_creep_10 18 rfl rfl)
theorem dX9_creep_255 : decode cX9_creep 255 = .ok (.goto 4, 3) := dk_167 0 4 (dk_at dksX9_creep_10 19 rfl rfl)
theorem dX9_creep_258 : decode cX9_creep 258 = .ok (.iconst (-1), 1) := dk_2 (dk_at dksX9_creep_10 22 rfl rfl)
theorem dX9_creep_259 : decode cX9_creep 259 = .ok (.iastore, 1) := dk_79 (dk_at dksX9_creep_10 23 rfl rfl)
theorem dX9_creep_260 : decode cX9_creep 260 = .ok (.aload_n 0, 1) := dk_42 (dk_at dksX9_creep_11 0 rfl rfl)
theorem dX9_creep_261 : decode cX9_creep 261 = .ok (.getfield 96, 3) := dk_180 0 96 (dk_at dksX9_creep_11 1 rfl rfl)
theorem dX9_creep_264 : decode cX9_creep 264 = .ok (.iload_n 1, 1) := dk_27 (dk_at dksX9_creep_11 4 rfl rfl)
theorem dX9_creep_265 : decode cX9_creep 265 = .ok (.dup2, 1) := dk_92 (dk_at dksX9_creep_11 5 rfl rfl)
theorem dX9_creep_266 : decode cX9_creep 266 = .ok (.iaload, 1) := dk_46 (dk_at dksX9_creep_11 6 rfl rfl)
theorem dX9_creep_267 : decode cX9_creep 267 = .ok (.aload_n 0, 1) := dk_42 (dk_at dksX9_creep_11 7 rfl rfl)
theorem dX9_creep_268 : decode cX9_creep 268 = .ok (.getfield 84, 3) := dk_180 0 84 (dk_at dksX9_creep_11 8 rfl rfl)
theorem dX9_creep_271 : decode cX9_creep 271 = .ok (.iload_n 1, 1) := dk_27 (dk_at dksX9_creep_11 11 rfl rfl)
theorem dX9_creep_272 : decode cX9_creep 272 = .ok (.iaload, 1) := dk_46 (dk_at dksX9_creep_11 12 rfl rfl)
theorem dX9_creep_273 : decode cX9_creep 273 = .ok (.iload 4, 2) := dk_21 4 (dk_at dksX9_creep_11 13 rfl rfl)
theorem dX9_creep_275 : decode cX9_creep 275 = .ok (.if_icmp .ne 7, 3) := dk_160 0 7 (dk_at dksX9_creep_11 15 rfl rfl)
theorem dX9_creep_278 : decode cX9_creep 278 = .ok (.iconst 1, 1) := dk_4 (dk_at dksX9_creep_11 18 rfl rfl)
theorem dX9_creep_279 : decode cX9_creep 279 = .ok (.goto 4, 3) := dk_167 0 4 (dk_at dksX9_creep_11 19 rfl rfl)
theorem dX9_creep_282 : decode cX9_creep 282 = .ok (.iconst 0, 1) := dk_3 (dk_at dksX9_creep_11 22 rfl rfl)
theorem dX9_creep_283 : decode cX9_creep 283 = .ok (.iadd, 1) := dk_96 (dk_at dksX9_creep_11 23 rfl rfl)
theorem dX9_creep_284 : decode cX9_creep 284 = .ok (.iastore, 1) := dk_79 (dk_at dksX9_creep_12 0 rfl rfl)
theorem dX9_creep_285 : decode cX9_creep 285 = .ok (.return_, 1) := dk_177 (dk_at dksX9_creep_12 1 rfl rfl)
abbrev cX9_tells : ByteArray := prog_23_method_62_code
def yX9_tells : MethodName := ⟨RX9, "tells", "(IIIIIJ)J"⟩
def dkwX9_tells_11 : List UInt8 := [22, 9, 173]
abbrev dktX9_tells_11 : List UInt8 := dkwX9_tells_11 ++ []
def dkwX9_tells_10 : List UInt8 := [153, 0, 18, 27, 5, 162, 0, 10, 42, 180, 1, 111, 167, 0, 4, 10, 55, 9, 132, 11, 1, 167, 255, 188]
abbrev dktX9_tells_10 : List UInt8 := dkwX9_tells_10 ++ dktX9_tells_11
def dkwX9_tells_9 : List UInt8 := [21, 11, 104, 96, 54, 12, 42, 180, 0, 13, 21, 12, 46, 27, 160, 0, 27, 42, 21, 12, 182, 1, 126]
abbrev dktX9_tells_9 : List UInt8 := dkwX9_tells_9 ++ dktX9_tells_10
def dkwX9_tells_8 : List UInt8 := [21, 11, 42, 180, 0, 13, 42, 180, 1, 94, 4, 96, 46, 162, 0, 58, 42, 180, 1, 94, 5, 96, 16, 8]
abbrev dktX9_tells_8 : List UInt8 := dkwX9_tells_8 ++ dktX9_tells_9
def dkwX9_tells_7 : List UInt8 := [16, 12, 112, 133, 80, 42, 180, 0, 78, 16, 10, 29, 16, 12, 108, 133, 80, 22, 6, 55, 9, 3, 54, 11]
abbrev dktX9_tells_7 : List UInt8 := dkwX9_tells_7 ++ dktX9_tells_8
def dkwX9_tells_6 : List UInt8 := [10, 167, 0, 4, 9, 80, 42, 180, 0, 78, 16, 8, 21, 4, 133, 80, 42, 180, 0, 78, 16, 9, 29]
abbrev dktX9_tells_6 : List UInt8 := dkwX9_tells_6 ++ dktX9_tells_7
def dkwX9_tells_5 : List UInt8 := [29, 46, 28, 122, 4, 126, 133, 80, 42, 180, 0, 78, 16, 7, 42, 180, 0, 84, 28, 46, 29, 160, 0, 7]
abbrev dktX9_tells_5 : List UInt8 := dkwX9_tells_5 ++ dktX9_tells_6
def dkwX9_tells_4 : List UInt8 := [133, 80, 42, 180, 0, 78, 8, 21, 8, 184, 1, 123, 133, 80, 42, 180, 0, 78, 16, 6, 42, 180, 0, 93]
abbrev dktX9_tells_4 : List UInt8 := dkwX9_tells_4 ++ dktX9_tells_5
def dkwX9_tells_3 : List UInt8 := [6, 42, 180, 0, 13, 16, 80, 29, 96, 46, 133, 80, 42, 180, 0, 78, 7, 42, 29, 21, 5, 182, 1, 120]
abbrev dktX9_tells_3 : List UInt8 := dkwX9_tells_3 ++ dktX9_tells_4
def dkwX9_tells_2 : List UInt8 := [180, 0, 78, 4, 28, 133, 80, 42, 180, 0, 78, 5, 42, 28, 6, 182, 0, 169, 133, 80, 42, 180, 0, 78]
abbrev dktX9_tells_2 : List UInt8 := dkwX9_tells_2 ++ dktX9_tells_3
def dkwX9_tells_1 : List UInt8 := [6, 46, 104, 96, 181, 1, 94, 42, 180, 0, 93, 29, 46, 4, 28, 120, 2, 130, 126, 54, 8, 42]
abbrev dktX9_tells_1 : List UInt8 := dkwX9_tells_1 ++ dktX9_tells_2
def dkwX9_tells_0 : List UInt8 := [42, 180, 0, 13, 6, 46, 2, 160, 0, 6, 22, 6, 173, 42, 17, 1, 24, 17, 3, 132, 42, 180, 0, 13]
abbrev dktX9_tells_0 : List UInt8 := dkwX9_tells_0 ++ dktX9_tells_1
theorem dksX9_tells_0 : cX9_tells.data.toList.drop 0 = dktX9_tells_0 := by decide +kernel
theorem dksX9_tells_1 : cX9_tells.data.toList.drop 24 = dktX9_tells_1 := dk_seg dksX9_tells_0 24 rfl rfl
theorem dksX9_tells_2 : cX9_tells.data.toList.drop 46 = dktX9_tells_2 := dk_seg dksX9_tells_1 22 rfl rfl
theorem dksX9_tells_3 : cX9_tells.data.toList.drop 70 = dktX9_tells_3 := dk_seg dksX9_tells_2 24 rfl rfl
theorem dksX9_tells_4 : cX9_tells.data.toList.drop 94 = dktX9_tells_4 := dk_seg dksX9_tells_3 24 rfl rfl
theorem dksX9_tells_5 : cX9_tells.data.toList.drop 118 = dktX9_tells_5 := dk_seg dksX9_tells_4 24 rfl rfl
theorem dksX9_tells_6 : cX9_tells.data.toList.drop 142 = dktX9_tells_6 := dk_seg dksX9_tells_5 24 rfl rfl
theorem dksX9_tells_7 : cX9_tells.data.toList.drop 165 = dktX9_tells_7 := dk_seg dksX9_tells_6 23 rfl rfl
theorem dksX9_tells_8 : cX9_tells.data.toList.drop 189 = dktX9_tells_8 := dk_seg dksX9_tells_7 24 rfl rfl
theorem dksX9_tells_9 : cX9_tells.data.toList.drop 213 = dktX9_tells_9 := dk_seg dksX9_tells_8 24 rfl rfl
theorem dksX9_tells_10 : cX9_tells.data.toList.drop 236 = dktX9_tells_10 := dk_seg dksX9_tells_9 23 rfl rfl
theorem dksX9_tells_11 : cX9_tells.data.toList.drop 260 = dktX9_tells_11 := dk_seg dksX9_tells_10 24 rfl rfl
theorem dX9_tells_0 : decode cX9_tells 0 = .ok (.aload_n 0, 1) := dk_42 (dk_at dksX9_tells_0 0 rfl rfl)
theorem dX9_tells_1 : decode cX9_tells 1 = .ok (.getfield 13, 3) := dk_180 0 13 (dk_at dksX9_tells_0 1 rfl rfl)
theorem dX9_tells_4 : decode cX9_tells 4 = .ok (.iconst 3, 1) := dk_6 (dk_at dksX9_tells_0 4 rfl rfl)
theorem dX9_tells_5 : decode cX9_tells 5 = .ok (.iaload, 1) := dk_46 (dk_at dksX9_tells_0 5 rfl rfl)
theorem dX9_tells_6 : decode cX9_tells 6 = .ok (.iconst (-1), 1) := dk_2 (dk_at dksX9_tells_0 6 rfl rfl)
theorem dX9_tells_7 : decode cX9_tells 7 = .ok (.if_icmp .ne 6, 3) := dk_160 0 6 (dk_at dksX9_tells_0 7 rfl rfl)
theorem dX9_tells_10 : decode cX9_tells 10 = .ok (.lload 6, 2) := dk_22 6 (dk_at dksX9_tells_0 10 rfl rfl)
theorem dX9_tells_12 : decode cX9_tells 12 = .ok (.lreturn, 1) := dk_173 (dk_at dksX9_tells_0 12 rfl rfl)
theorem dX9_tells_13 : decode cX9_tells 13 = .ok (.aload_n 0, 1) := dk_42 (dk_at dksX9_tells_0 13 rfl rfl)
theorem dX9_tells_14 : decode cX9_tells 14 = .ok (.sipush 280, 3) := dk_17 1 24 (dk_at dksX9_tells_0 14 rfl rfl)
theorem dX9_tells_17 : decode cX9_tells 17 = .ok (.sipush 900, 3) := dk_17 3 132 (dk_at dksX9_tells_0 17 rfl rfl)
theorem dX9_tells_20 : decode cX9_tells 20 = .ok (.aload_n 0, 1) := dk_42 (dk_at dksX9_tells_0 20 rfl rfl)
theorem dX9_tells_21 : decode cX9_tells 21 = .ok (.getfield 13, 3) := dk_180 0 13 (dk_at dksX9_tells_0 21 rfl rfl)
theorem dX9_tells_24 : decode cX9_tells 24 = .ok (.iconst 3, 1) := dk_6 (dk_at dksX9_tells_1 0 rfl rfl)
theorem dX9_tells_25 : decode cX9_tells 25 = .ok (.iaload, 1) := dk_46 (dk_at dksX9_tells_1 1 rfl rfl)
theorem dX9_tells_26 : decode cX9_tells 26 = .ok (.imul, 1) := dk_104 (dk_at dksX9_tells_1 2 rfl rfl)
theorem dX9_tells_27 : decode cX9_tells 27 = .ok (.iadd, 1) := dk_96 (dk_at dksX9_tells_1 3 rfl rfl)
theorem dX9_tells_28 : decode cX9_tells 28 = .ok (.putfield 350, 3) := dk_181 1 94 (dk_at dksX9_tells_1 4 rfl rfl)
theorem dX9_tells_31 : decode cX9_tells 31 = .ok (.aload_n 0, 1) := dk_42 (dk_at dksX9_tells_1 7 rfl rfl)
theorem dX9_tells_32 : decode cX9_tells 32 = .ok (.getfield 93, 3) := dk_180 0 93 (dk_at dksX9_tells_1 8 rfl rfl)
theorem dX9_tells_35 : decode cX9_tells 35 = .ok (.iload_n 3, 1) := dk_29 (dk_at dksX9_tells_1 11 rfl rfl)
theorem dX9_tells_36 : decode cX9_tells 36 = .ok (.iaload, 1) := dk_46 (dk_at dksX9_tells_1 12 rfl rfl)
theorem dX9_tells_37 : decode cX9_tells 37 = .ok (.iconst 1, 1) := dk_4 (dk_at dksX9_tells_1 13 rfl rfl)
theorem dX9_tells_38 : decode cX9_tells 38 = .ok (.iload_n 2, 1) := dk_28 (dk_at dksX9_tells_1 14 rfl rfl)
theorem dX9_tells_39 : decode cX9_tells 39 = .ok (.ishl, 1) := dk_120 (dk_at dksX9_tells_1 15 rfl rfl)
theorem dX9_tells_40 : decode cX9_tells 40 = .ok (.iconst (-1), 1) := dk_2 (dk_at dksX9_tells_1 16 rfl rfl)
theorem dX9_tells_41 : decode cX9_tells 41 = .ok (.ixor, 1) := dk_130 (dk_at dksX9_tells_1 17 rfl rfl)
theorem dX9_tells_42 : decode cX9_tells 42 = .ok (.iand, 1) := dk_126 (dk_at dksX9_tells_1 18 rfl rfl)
theorem dX9_tells_43 : decode cX9_tells 43 = .ok (.istore 8, 2) := dk_54 8 (dk_at dksX9_tells_1 19 rfl rfl)
theorem dX9_tells_45 : decode cX9_tells 45 = .ok (.aload_n 0, 1) := dk_42 (dk_at dksX9_tells_1 21 rfl rfl)
theorem dX9_tells_46 : decode cX9_tells 46 = .ok (.getfield 78, 3) := dk_180 0 78 (dk_at dksX9_tells_2 0 rfl rfl)
theorem dX9_tells_49 : decode cX9_tells 49 = .ok (.iconst 1, 1) := dk_4 (dk_at dksX9_tells_2 3 rfl rfl)
theorem dX9_tells_50 : decode cX9_tells 50 = .ok (.iload_n 2, 1) := dk_28 (dk_at dksX9_tells_2 4 rfl rfl)
theorem dX9_tells_51 : decode cX9_tells 51 = .ok (.i2l, 1) := dk_133 (dk_at dksX9_tells_2 5 rfl rfl)
theorem dX9_tells_52 : decode cX9_tells 52 = .ok (.lastore, 1) := dk_80 (dk_at dksX9_tells_2 6 rfl rfl)
theorem dX9_tells_53 : decode cX9_tells 53 = .ok (.aload_n 0, 1) := dk_42 (dk_at dksX9_tells_2 7 rfl rfl)
theorem dX9_tells_54 : decode cX9_tells 54 = .ok (.getfield 78, 3) := dk_180 0 78 (dk_at dksX9_tells_2 8 rfl rfl)
theorem dX9_tells_57 : decode cX9_tells 57 = .ok (.iconst 2, 1) := dk_5 (dk_at dksX9_tells_2 11 rfl rfl)
theorem dX9_tells_58 : decode cX9_tells 58 = .ok (.aload_n 0, 1) := dk_42 (dk_at dksX9_tells_2 12 rfl rfl)
theorem dX9_tells_59 : decode cX9_tells 59 = .ok (.iload_n 2, 1) := dk_28 (dk_at dksX9_tells_2 13 rfl rfl)
theorem dX9_tells_60 : decode cX9_tells 60 = .ok (.iconst 3, 1) := dk_6 (dk_at dksX9_tells_2 14 rfl rfl)
theorem dX9_tells_61 : decode cX9_tells 61 = .ok (.invokevirtual 169, 3) := dk_182 0 169 (dk_at dksX9_tells_2 15 rfl rfl)
theorem dX9_tells_64 : decode cX9_tells 64 = .ok (.i2l, 1) := dk_133 (dk_at dksX9_tells_2 18 rfl rfl)
theorem dX9_tells_65 : decode cX9_tells 65 = .ok (.lastore, 1) := dk_80 (dk_at dksX9_tells_2 19 rfl rfl)
theorem dX9_tells_66 : decode cX9_tells 66 = .ok (.aload_n 0, 1) := dk_42 (dk_at dksX9_tells_2 20 rfl rfl)
theorem dX9_tells_67 : decode cX9_tells 67 = .ok (.getfield 78, 3) := dk_180 0 78 (dk_at dksX9_tells_2 21 rfl rfl)
theorem dX9_tells_70 : decode cX9_tells 70 = .ok (.iconst 3, 1) := dk_6 (dk_at dksX9_tells_3 0 rfl rfl)
theorem dX9_tells_71 : decode cX9_tells 71 = .ok (.aload_n 0, 1) := dk_42 (dk_at dksX9_tells_3 1 rfl rfl)
theorem dX9_tells_72 : decode cX9_tells 72 = .ok (.getfield 13, 3) := dk_180 0 13 (dk_at dksX9_tells_3 2 rfl rfl)
theorem dX9_tells_75 : decode cX9_tells 75 = .ok (.bipush 80, 2) := dk_16 80 (dk_at dksX9_tells_3 5 rfl rfl)
theorem dX9_tells_77 : decode cX9_tells 77 = .ok (.iload_n 3, 1) := dk_29 (dk_at dksX9_tells_3 7 rfl rfl)
theorem dX9_tells_78 : decode cX9_tells 78 = .ok (.iadd, 1) := dk_96 (dk_at dksX9_tells_3 8 rfl rfl)
theorem dX9_tells_79 : decode cX9_tells 79 = .ok (.iaload, 1) := dk_46 (dk_at dksX9_tells_3 9 rfl rfl)
theorem dX9_tells_80 : decode cX9_tells 80 = .ok (.i2l, 1) := dk_133 (dk_at dksX9_tells_3 10 rfl rfl)
theorem dX9_tells_81 : decode cX9_tells 81 = .ok (.lastore, 1) := dk_80 (dk_at dksX9_tells_3 11 rfl rfl)
theorem dX9_tells_82 : decode cX9_tells 82 = .ok (.aload_n 0, 1) := dk_42 (dk_at dksX9_tells_3 12 rfl rfl)
theorem dX9_tells_83 : decode cX9_tells 83 = .ok (.getfield 78, 3) := dk_180 0 78 (dk_at dksX9_tells_3 13 rfl rfl)
theorem dX9_tells_86 : decode cX9_tells 86 = .ok (.iconst 4, 1) := dk_7 (dk_at dksX9_tells_3 16 rfl rfl)
theorem dX9_tells_87 : decode cX9_tells 87 = .ok (.aload_n 0, 1) := dk_42 (dk_at dksX9_tells_3 17 rfl rfl)
theorem dX9_tells_88 : decode cX9_tells 88 = .ok (.iload_n 3, 1) := dk_29 (dk_at dksX9_tells_3 18 rfl rfl)
theorem dX9_tells_89 : decode cX9_tells 89 = .ok (.iload 5, 2) := dk_21 5 (dk_at dksX9_tells_3 19 rfl rfl)
theorem dX9_tells_91 : decode cX9_tells 91 = .ok (.invokevirtual 376, 3) := dk_182 1 120 (dk_at dksX9_tells_3 21 rfl rfl)
theorem dX9_tells_94 : decode cX9_tells 94 = .ok (.i2l, 1) := dk_133 (dk_at dksX9_tells_4 0 rfl rfl)
theorem dX9_tells_95 : decode cX9_tells 95 = .ok (.lastore, 1) := dk_80 (dk_at dksX9_tells_4 1 rfl rfl)
theorem dX9_tells_96 : decode cX9_tells 96 = .ok (.aload_n 0, 1) := dk_42 (dk_at dksX9_tells_4 2 rfl rfl)
theorem dX9_tells_97 : decode cX9_tells 97 = .ok (.getfield 78, 3) := dk_180 0 78 (dk_at dksX9_tells_4 3 rfl rfl)
theorem dX9_tells_100 : decode cX9_tells 100 = .ok (.iconst 5, 1) := dk_8 (dk_at dksX9_tells_4 6 rfl rfl)
theorem dX9_tells_101 : decode cX9_tells 101 = .ok (.iload 8, 2) := dk_21 8 (dk_at dksX9_tells_4 7 rfl rfl)
theorem dX9_tells_103 : decode cX9_tells 103 = .ok (.invokestatic 379, 3) := dk_184 1 123 (dk_at dksX9_tells_4 9 rfl rfl)
theorem dX9_tells_106 : decode cX9_tells 106 = .ok (.i2l, 1) := dk_133 (dk_at dksX9_tells_4 12 rfl rfl)
theorem dX9_tells_107 : decode cX9_tells 107 = .ok (.lastore, 1) := dk_80 (dk_at dksX9_tells_4 13 rfl rfl)
theorem dX9_tells_108 : decode cX9_tells 108 = .ok (.aload_n 0, 1) := dk_42 (dk_at dksX9_tells_4 14 rfl rfl)
theorem dX9_tells_109 : decode cX9_tells 109 = .ok (.getfield 78, 3) := dk_180 0 78 (dk_at dksX9_tells_4 15 rfl rfl)
theorem dX9_tells_112 : decode cX9_tells 112 = .ok (.bipush 6, 2) := dk_16 6 (dk_at dksX9_tells_4 18 rfl rfl)
theorem dX9_tells_114 : decode cX9_tells 114 = .ok (.aload_n 0, 1) := dk_42 (dk_at dksX9_tells_4 20 rfl rfl)
theorem dX9_tells_115 : decode cX9_tells 115 = .ok (.getfield 93, 3) := dk_180 0 93 (dk_at dksX9_tells_4 21 rfl rfl)
theorem dX9_tells_118 : decode cX9_tells 118 = .ok (.iload_n 3, 1) := dk_29 (dk_at dksX9_tells_5 0 rfl rfl)
theorem dX9_tells_119 : decode cX9_tells 119 = .ok (.iaload, 1) := dk_46 (dk_at dksX9_tells_5 1 rfl rfl)
theorem dX9_tells_120 : decode cX9_tells 120 = .ok (.iload_n 2, 1) := dk_28 (dk_at dksX9_tells_5 2 rfl rfl)
theorem dX9_tells_121 : decode cX9_tells 121 = .ok (.ishr, 1) := dk_122 (dk_at dksX9_tells_5 3 rfl rfl)
theorem dX9_tells_122 : decode cX9_tells 122 = .ok (.iconst 1, 1) := dk_4 (dk_at dksX9_tells_5 4 rfl rfl)
theorem dX9_tells_123 : decode cX9_tells 123 = .ok (.iand, 1) := dk_126 (dk_at dksX9_tells_5 5 rfl rfl)
theorem dX9_tells_124 : decode cX9_tells 124 = .ok (.i2l, 1) := dk_133 (dk_at dksX9_tells_5 6 rfl rfl)
theorem dX9_tells_125 : decode cX9_tells 125 = .ok (.lastore, 1) := dk_80 (dk_at dksX9_tells_5 7 rfl rfl)
theorem dX9_tells_126 : decode cX9_tells 126 = .ok (.aload_n 0, 1) := dk_42 (dk_at dksX9_tells_5 8 rfl rfl)
theorem dX9_tells_127 : decode cX9_tells 127 = .ok (.getfield 78, 3) := dk_180 0 78 (dk_at dksX9_tells_5 9 rfl rfl)
theorem dX9_tells_130 : decode cX9_tells 130 = .ok (.bipush 7, 2) := dk_16 7 (dk_at dksX9_tells_5 12 rfl rfl)
theorem dX9_tells_132 : decode cX9_tells 132 = .ok (.aload_n 0, 1) := dk_42 (dk_at dksX9_tells_5 14 rfl rfl)
theorem dX9_tells_133 : decode cX9_tells 133 = .ok (.getfield 84, 3) := dk_180 0 84 (dk_at dksX9_tells_5 15 rfl rfl)
theorem dX9_tells_136 : decode cX9_tells 136 = .ok (.iload_n 2, 1) := dk_28 (dk_at dksX9_tells_5 18 rfl rfl)
theorem dX9_tells_137 : decode cX9_tells 137 = .ok (.iaload, 1) := dk_46 (dk_at dksX9_tells_5 19 rfl rfl)
theorem dX9_tells_138 : decode cX9_tells 138 = .ok (.iload_n 3, 1) := dk_29 (dk_at dksX9_tells_5 20 rfl rfl)
theorem dX9_tells_139 : decode cX9_tells 139 = .ok (.if_icmp .ne 7, 3) := dk_160 0 7 (dk_at dksX9_tells_5 21 rfl rfl)
theorem dX9_tells_142 : decode cX9_tells 142 = .ok (.lconst 1, 1) := dk_10 (dk_at dksX9_tells_6 0 rfl rfl)
theorem dX9_tells_143 : decode cX9_tells 143 = .ok (.goto 4, 3) := dk_167 0 4 (dk_at dksX9_tells_6 1 rfl rfl)
theorem dX9_tells_146 : decode cX9_tells 146 = .ok (.lconst 0, 1) := dk_9 (dk_at dksX9_tells_6 4 rfl rfl)
theorem dX9_tells_147 : decode cX9_tells 147 = .ok (.lastore, 1) := dk_80 (dk_at dksX9_tells_6 5 rfl rfl)
theorem dX9_tells_148 : decode cX9_tells 148 = .ok (.aload_n 0, 1) := dk_42 (dk_at dksX9_tells_6 6 rfl rfl)
theorem dX9_tells_149 : decode cX9_tells 149 = .ok (.getfield 78, 3) := dk_180 0 78 (dk_at dksX9_tells_6 7 rfl rfl)
theorem dX9_tells_152 : decode cX9_tells 152 = .ok (.bipush 8, 2) := dk_16 8 (dk_at dksX9_tells_6 10 rfl rfl)
theorem dX9_tells_154 : decode cX9_tells 154 = .ok (.iload 4, 2) := dk_21 4 (dk_at dksX9_tells_6 12 rfl rfl)
theorem dX9_tells_156 : decode cX9_tells 156 = .ok (.i2l, 1) := dk_133 (dk_at dksX9_tells_6 14 rfl rfl)
theorem dX9_tells_157 : decode cX9_tells 157 = .ok (.lastore, 1) := dk_80 (dk_at dksX9_tells_6 15 rfl rfl)
theorem dX9_tells_158 : decode cX9_tells 158 = .ok (.aload_n 0, 1) := dk_42 (dk_at dksX9_tells_6 16 rfl rfl)
theorem dX9_tells_159 : decode cX9_tells 159 = .ok (.getfield 78, 3) := dk_180 0 78 (dk_at dksX9_tells_6 17 rfl rfl)
theorem dX9_tells_162 : decode cX9_tells 162 = .ok (.bipush 9, 2) := dk_16 9 (dk_at dksX9_tells_6 20 rfl rfl)
theorem dX9_tells_164 : decode cX9_tells 164 = .ok (.iload_n 3, 1) := dk_29 (dk_at dksX9_tells_6 22 rfl rfl)
theorem dX9_tells_165 : decode cX9_tells 165 = .ok (.bipush 12, 2) := dk_16 12 (dk_at dksX9_tells_7 0 rfl rfl)
theorem dX9_tells_167 : decode cX9_tells 167 = .ok (.irem, 1) := dk_112 (dk_at dksX9_tells_7 2 rfl rfl)
theorem dX9_tells_168 : decode cX9_tells 168 = .ok (.i2l, 1) := dk_133 (dk_at dksX9_tells_7 3 rfl rfl)
theorem dX9_tells_169 : decode cX9_tells 169 = .ok (.lastore, 1) := dk_80 (dk_at dksX9_tells_7 4 rfl rfl)
theorem dX9_tells_170 : decode cX9_tells 170 = .ok (.aload_n 0, 1) := dk_42 (dk_at dksX9_tells_7 5 rfl rfl)
theorem dX9_tells_171 : decode cX9_tells 171 = .ok (.getfield 78, 3) := dk_180 0 78 (dk_at dksX9_tells_7 6 rfl rfl)
theorem dX9_tells_174 : decode cX9_tells 174 = .ok (.bipush 10, 2) := dk_16 10 (dk_at dksX9_tells_7 9 rfl rfl)
theorem dX9_tells_176 : decode cX9_tells 176 = .ok (.iload_n 3, 1) := dk_29 (dk_at dksX9_tells_7 11 rfl rfl)
theorem dX9_tells_177 : decode cX9_tells 177 = .ok (.bipush 12, 2) := dk_16 12 (dk_at dksX9_tells_7 12 rfl rfl)
theorem dX9_tells_179 : decode cX9_tells 179 = .ok (.idiv, 1) := dk_108 (dk_at dksX9_tells_7 14 rfl rfl)
theorem dX9_tells_180 : decode cX9_tells 180 = .ok (.i2l, 1) := dk_133 (dk_at dksX9_tells_7 15 rfl rfl)
theorem dX9_tells_181 : decode cX9_tells 181 = .ok (.lastore, 1) := dk_80 (dk_at dksX9_tells_7 16 rfl rfl)
theorem dX9_tells_182 : decode cX9_tells 182 = .ok (.lload 6, 2) := dk_22 6 (dk_at dksX9_tells_7 17 rfl rfl)
theorem dX9_tells_184 : decode cX9_tells 184 = .ok (.lstore 9, 2) := dk_55 9 (dk_at dksX9_tells_7 19 rfl rfl)
theorem dX9_tells_186 : decode cX9_tells 186 = .ok (.iconst 0, 1) := dk_3 (dk_at dksX9_tells_7 21 rfl rfl)
theorem dX9_tells_187 : decode cX9_tells 187 = .ok (.istore 11, 2) := dk_54 11 (dk_at dksX9_tells_7 22 rfl rfl)
theorem dX9_tells_189 : decode cX9_tells 189 = .ok (.iload 11, 2) := dk_21 11 (dk_at dksX9_tells_8 0 rfl rfl)
theorem dX9_tells_191 : decode cX9_tells 191 = .ok (.aload_n 0, 1) := dk_42 (dk_at dksX9_tells_8 2 rfl rfl)
theorem dX9_tells_192 : decode cX9_tells 192 = .ok (.getfield 13, 3) := dk_180 0 13 (dk_at dksX9_tells_8 3 rfl rfl)
theorem dX9_tells_195 : decode cX9_tells 195 = .ok (.aload_n 0, 1) := dk_42 (dk_at dksX9_tells_8 6 rfl rfl)
theorem dX9_tells_196 : decode cX9_tells 196 = .ok (.getfield 350, 3) := dk_180 1 94 (dk_at dksX9_tells_8 7 rfl rfl)
theorem dX9_tells_199 : decode cX9_tells 199 = .ok (.iconst 1, 1) := dk_4 (dk_at dksX9_tells_8 10 rfl rfl)
theorem dX9_tells_200 : decode cX9_tells 200 = .ok (.iadd, 1) := dk_96 (dk_at dksX9_tells_8 11 rfl rfl)
theorem dX9_tells_201 : decode cX9_tells 201 = .ok (.iaload, 1) := dk_46 (dk_at dksX9_tells_8 12 rfl rfl)
theorem dX9_tells_202 : decode cX9_tells 202 = .ok (.if_icmp .ge 58, 3) := dk_162 0 58 (dk_at dksX9_tells_8 13 rfl rfl)
theorem dX9_tells_205 : decode cX9_tells 205 = .ok (.aload_n 0, 1) := dk_42 (dk_at dksX9_tells_8 16 rfl rfl)
theorem dX9_tells_206 : decode cX9_tells 206 = .ok (.getfield 350, 3) := dk_180 1 94 (dk_at dksX9_tells_8 17 rfl rfl)
theorem dX9_tells_209 : decode cX9_tells 209 = .ok (.iconst 2, 1) := dk_5 (dk_at dksX9_tells_8 20 rfl rfl)
theorem dX9_tells_210 : decode cX9_tells 210 = .ok (.iadd, 1) := dk_96 (dk_at dksX9_tells_8 21 rfl rfl)
theorem dX9_tells_211 : decode cX9_tells 211 = .ok (.bipush 8, 2) := dk_16 8 (dk_at dksX9_tells_8 22 rfl rfl)
theorem dX9_tells_213 : decode cX9_tells 213 = .ok (.iload 11, 2) := dk_21 11 (dk_at dksX9_tells_9 0 rfl rfl)
theorem dX9_tells_215 : decode cX9_tells 215 = .ok (.imul, 1) := dk_104 (dk_at dksX9_tells_9 2 rfl rfl)
theorem dX9_tells_216 : decode cX9_tells 216 = .ok (.iadd, 1) := dk_96 (dk_at dksX9_tells_9 3 rfl rfl)
theorem dX9_tells_217 : decode cX9_tells 217 = .ok (.istore 12, 2) := dk_54 12 (dk_at dksX9_tells_9 4 rfl rfl)
theorem dX9_tells_219 : decode cX9_tells 219 = .ok (.aload_n 0, 1) := dk_42 (dk_at dksX9_tells_9 6 rfl rfl)
theorem dX9_tells_220 : decode cX9_tells 220 = .ok (.getfield 13, 3) := dk_180 0 13 (dk_at dksX9_tells_9 7 rfl rfl)
theorem dX9_tells_223 : decode cX9_tells 223 = .ok (.iload 12, 2) := dk_21 12 (dk_at dksX9_tells_9 10 rfl rfl)
theorem dX9_tells_225 : decode cX9_tells 225 = .ok (.iaload, 1) := dk_46 (dk_at dksX9_tells_9 12 rfl rfl)
theorem dX9_tells_226 : decode cX9_tells 226 = .ok (.iload_n 1, 1) := dk_27 (dk_at dksX9_tells_9 13 rfl rfl)
theorem dX9_tells_227 : decode cX9_tells 227 = .ok (.if_icmp .ne 27, 3) := dk_160 0 27 (dk_at dksX9_tells_9 14 rfl rfl)
theorem dX9_tells_230 : decode cX9_tells 230 = .ok (.aload_n 0, 1) := dk_42 (dk_at dksX9_tells_9 17 rfl rfl)
theorem dX9_tells_231 : decode cX9_tells 231 = .ok (.iload 12, 2) := dk_21 12 (dk_at dksX9_tells_9 18 rfl rfl)
theorem dX9_tells_233 : decode cX9_tells 233 = .ok (.invokevirtual 382, 3) := dk_182 1 126 (dk_at dksX9_tells_9 20 rfl rfl)
theorem dX9_tells_236 : decode cX9_tells 236 = .ok (.ifCond .eq 18, 3) := dk_153 0 18 (dk_at dksX9_tells_10 0 rfl rfl)
theorem dX9_tells_239 : decode cX9_tells 239 = .ok (.iload_n 1, 1) := dk_27 (dk_at dksX9_tells_10 3 rfl rfl)
theorem dX9_tells_240 : decode cX9_tells 240 = .ok (.iconst 2, 1) := dk_5 (dk_at dksX9_tells_10 4 rfl rfl)
theorem dX9_tells_241 : decode cX9_tells 241 = .ok (.if_icmp .ge 10, 3) := dk_162 0 10 (dk_at dksX9_tells_10 5 rfl rfl)
theorem dX9_tells_244 : decode cX9_tells 244 = .ok (.aload_n 0, 1) := dk_42 (dk_at dksX9_tells_10 8 rfl rfl)
theorem dX9_tells_245 : decode cX9_tells 245 = .ok (.getfield 367, 3) := dk_180 1 111 (dk_at dksX9_tells_10 9 rfl rfl)
theorem dX9_tells_248 : decode cX9_tells 248 = .ok (.goto 4, 3) := dk_167 0 4 (dk_at dksX9_tells_10 12 rfl rfl)
theorem dX9_tells_251 : decode cX9_tells 251 = .ok (.lconst 1, 1) := dk_10 (dk_at dksX9_tells_10 15 rfl rfl)
theorem dX9_tells_252 : decode cX9_tells 252 = .ok (.lstore 9, 2) := dk_55 9 (dk_at dksX9_tells_10 16 rfl rfl)
theorem dX9_tells_254 : decode cX9_tells 254 = .ok (.iinc 11 1, 3) := dk_132 11 1 (dk_at dksX9_tells_10 18 rfl rfl)
theorem dX9_tells_257 : decode cX9_tells 257 = .ok (.goto (-68), 3) := dk_167 255 188 (dk_at dksX9_tells_10 21 rfl rfl)
theorem dX9_tells_260 : decode cX9_tells 260 = .ok (.lload 9, 2) := dk_22 9 (dk_at dksX9_tells_11 0 rfl rfl)
theorem dX9_tells_262 : decode cX9_tells 262 = .ok (.lreturn, 1) := dk_173 (dk_at dksX9_tells_11 2 rfl rfl)
abbrev cX9_lightIn : ByteArray := prog_23_method_61_code
def yX9_lightIn : MethodName := ⟨RX9, "lightIn", "(II)I"⟩
def dkwX9_lightIn_2 : List UInt8 := [29, 172]
abbrev dktX9_lightIn_2 : List UInt8 := dkwX9_lightIn_2 ++ []
def dkwX9_lightIn_1 : List UInt8 := [2, 160, 0, 7, 3, 167, 0, 4, 28, 96, 46, 184, 1, 117, 100, 62, 29, 156, 0, 7, 3, 167, 0, 4]
abbrev dktX9_lightIn_1 : List UInt8 := dkwX9_lightIn_1 ++ dktX9_lightIn_2
def dkwX9_lightIn_0 : List UInt8 := [28, 2, 160, 0, 7, 3, 167, 0, 33, 42, 180, 0, 13, 16, 6, 46, 27, 42, 180, 0, 13, 16, 12, 28]
abbrev dktX9_lightIn_0 : List UInt8 := dkwX9_lightIn_0 ++ dktX9_lightIn_1
theorem dksX9_lightIn_0 : cX9_lightIn.data.toList.drop 0 = dktX9_lightIn_0 := by decide +kernel
theorem dksX9_lightIn_1 : cX9_lightIn.data.toList.drop 24 = dktX9_lightIn_1 := dk_seg dksX9_lightIn_0 24 rfl rfl
theorem dksX9_lightIn_2 : cX9_lightIn.data.toList.drop 48 = dktX9_lightIn_2 := dk_seg dksX9_lightIn_1 24 rfl rfl
theorem dX9_lightIn_0 : decode cX9_lightIn 0 = .ok (.iload_n 2, 1) := dk_28 (dk_at dksX9_lightIn_0 0 rfl rfl)
theorem dX9_lightIn_1 : decode cX9_lightIn 1 = .ok (.iconst (-1), 1) := dk_2 (dk_at dksX9_lightIn_0 1 rfl rfl)
theorem dX9_lightIn_2 : decode cX9_lightIn 2 = .ok (.if_icmp .ne 7, 3) := dk_160 0 7 (dk_at dksX9_lightIn_0 2 rfl rfl)
theorem dX9_lightIn_5 : decode cX9_lightIn 5 = .ok (.iconst 0, 1) := dk_3 (dk_at dksX9_lightIn_0 5 rfl rfl)
theorem dX9_lightIn_6 : decode cX9_lightIn 6 = .ok (.goto 33, 3) := dk_167 0 33 (dk_at dksX9_lightIn_0 6 rfl rfl)
theorem dX9_lightIn_9 : decode cX9_lightIn 9 = .ok (.aload_n 0, 1) := dk_42 (dk_at dksX9_lightIn_0 9 rfl rfl)
theorem dX9_lightIn_10 : decode cX9_lightIn 10 = .ok (.getfield 13, 3) := dk_180 0 13 (dk_at dksX9_lightIn_0 10 rfl rfl)
theorem dX9_lightIn_13 : decode cX9_lightIn 13 = .ok (.bipush 6, 2) := dk_16 6 (dk_at dksX9_lightIn_0 13 rfl rfl)
theorem dX9_lightIn_15 : decode cX9_lightIn 15 = .ok (.iaload, 1) := dk_46 (dk_at dksX9_lightIn_0 15 rfl rfl)
theorem dX9_lightIn_16 : decode cX9_lightIn 16 = .ok (.iload_n 1, 1) := dk_27 (dk_at dksX9_lightIn_0 16 rfl rfl)
theorem dX9_lightIn_17 : decode cX9_lightIn 17 = .ok (.aload_n 0, 1) := dk_42 (dk_at dksX9_lightIn_0 17 rfl rfl)
theorem dX9_lightIn_18 : decode cX9_lightIn 18 = .ok (.getfield 13, 3) := dk_180 0 13 (dk_at dksX9_lightIn_0 18 rfl rfl)
theorem dX9_lightIn_21 : decode cX9_lightIn 21 = .ok (.bipush 12, 2) := dk_16 12 (dk_at dksX9_lightIn_0 21 rfl rfl)
theorem dX9_lightIn_23 : decode cX9_lightIn 23 = .ok (.iload_n 2, 1) := dk_28 (dk_at dksX9_lightIn_0 23 rfl rfl)
theorem dX9_lightIn_24 : decode cX9_lightIn 24 = .ok (.iconst (-1), 1) := dk_2 (dk_at dksX9_lightIn_1 0 rfl rfl)
theorem dX9_lightIn_25 : decode cX9_lightIn 25 = .ok (.if_icmp .ne 7, 3) := dk_160 0 7 (dk_at dksX9_lightIn_1 1 rfl rfl)
theorem dX9_lightIn_28 : decode cX9_lightIn 28 = .ok (.iconst 0, 1) := dk_3 (dk_at dksX9_lightIn_1 4 rfl rfl)
theorem dX9_lightIn_29 : decode cX9_lightIn 29 = .ok (.goto 4, 3) := dk_167 0 4 (dk_at dksX9_lightIn_1 5 rfl rfl)
theorem dX9_lightIn_32 : decode cX9_lightIn 32 = .ok (.iload_n 2, 1) := dk_28 (dk_at dksX9_lightIn_1 8 rfl rfl)
theorem dX9_lightIn_33 : decode cX9_lightIn 33 = .ok (.iadd, 1) := dk_96 (dk_at dksX9_lightIn_1 9 rfl rfl)
theorem dX9_lightIn_34 : decode cX9_lightIn 34 = .ok (.iaload, 1) := dk_46 (dk_at dksX9_lightIn_1 10 rfl rfl)
theorem dX9_lightIn_35 : decode cX9_lightIn 35 = .ok (.invokestatic 373, 3) := dk_184 1 117 (dk_at dksX9_lightIn_1 11 rfl rfl)
theorem dX9_lightIn_38 : decode cX9_lightIn 38 = .ok (.isub, 1) := dk_100 (dk_at dksX9_lightIn_1 14 rfl rfl)
theorem dX9_lightIn_39 : decode cX9_lightIn 39 = .ok (.istore_n 3, 1) := dk_62 (dk_at dksX9_lightIn_1 15 rfl rfl)
theorem dX9_lightIn_40 : decode cX9_lightIn 40 = .ok (.iload_n 3, 1) := dk_29 (dk_at dksX9_lightIn_1 16 rfl rfl)
theorem dX9_lightIn_41 : decode cX9_lightIn 41 = .ok (.ifCond .ge 7, 3) := dk_156 0 7 (dk_at dksX9_lightIn_1 17 rfl rfl)
theorem dX9_lightIn_44 : decode cX9_lightIn 44 = .ok (.iconst 0, 1) := dk_3 (dk_at dksX9_lightIn_1 20 rfl rfl)
theorem dX9_lightIn_45 : decode cX9_lightIn 45 = .ok (.goto 4, 3) := dk_167 0 4 (dk_at dksX9_lightIn_1 21 rfl rfl)
theorem dX9_lightIn_48 : decode cX9_lightIn 48 = .ok (.iload_n 3, 1) := dk_29 (dk_at dksX9_lightIn_2 0 rfl rfl)
theorem dX9_lightIn_49 : decode cX9_lightIn 49 = .ok (.ireturn, 1) := dk_172 (dk_at dksX9_lightIn_2 1 rfl rfl)
abbrev cX9_apart : ByteArray := prog_23_method_60_code
def yX9_apart : MethodName := ⟨RX9, "apart", "(II)I"⟩
def dkwX9_apart_1 : List UInt8 := [96, 172]
abbrev dktX9_apart_1 : List UInt8 := dkwX9_apart_1 ++ []
def dkwX9_apart_0 : List UInt8 := [26, 16, 12, 112, 27, 16, 12, 112, 100, 184, 1, 114, 26, 16, 12, 108, 27, 16, 12, 108, 100, 184, 1, 114]
abbrev dktX9_apart_0 : List UInt8 := dkwX9_apart_0 ++ dktX9_apart_1
theorem dksX9_apart_0 : cX9_apart.data.toList.drop 0 = dktX9_apart_0 := by decide +kernel
theorem dksX9_apart_1 : cX9_apart.data.toList.drop 24 = dktX9_apart_1 := dk_seg dksX9_apart_0 24 rfl rfl
theorem dX9_apart_0 : decode cX9_apart 0 = .ok (.iload_n 0, 1) := dk_26 (dk_at dksX9_apart_0 0 rfl rfl)
theorem dX9_apart_1 : decode cX9_apart 1 = .ok (.bipush 12, 2) := dk_16 12 (dk_at dksX9_apart_0 1 rfl rfl)
theorem dX9_apart_3 : decode cX9_apart 3 = .ok (.irem, 1) := dk_112 (dk_at dksX9_apart_0 3 rfl rfl)
theorem dX9_apart_4 : decode cX9_apart 4 = .ok (.iload_n 1, 1) := dk_27 (dk_at dksX9_apart_0 4 rfl rfl)
theorem dX9_apart_5 : decode cX9_apart 5 = .ok (.bipush 12, 2) := dk_16 12 (dk_at dksX9_apart_0 5 rfl rfl)
theorem dX9_apart_7 : decode cX9_apart 7 = .ok (.irem, 1) := dk_112 (dk_at dksX9_apart_0 7 rfl rfl)
theorem dX9_apart_8 : decode cX9_apart 8 = .ok (.isub, 1) := dk_100 (dk_at dksX9_apart_0 8 rfl rfl)
theorem dX9_apart_9 : decode cX9_apart 9 = .ok (.invokestatic 370, 3) := dk_184 1 114 (dk_at dksX9_apart_0 9 rfl rfl)
theorem dX9_apart_12 : decode cX9_apart 12 = .ok (.iload_n 0, 1) := dk_26 (dk_at dksX9_apart_0 12 rfl rfl)
theorem dX9_apart_13 : decode cX9_apart 13 = .ok (.bipush 12, 2) := dk_16 12 (dk_at dksX9_apart_0 13 rfl rfl)
theorem dX9_apart_15 : decode cX9_apart 15 = .ok (.idiv, 1) := dk_108 (dk_at dksX9_apart_0 15 rfl rfl)
theorem dX9_apart_16 : decode cX9_apart 16 = .ok (.iload_n 1, 1) := dk_27 (dk_at dksX9_apart_0 16 rfl rfl)
theorem dX9_apart_17 : decode cX9_apart 17 = .ok (.bipush 12, 2) := dk_16 12 (dk_at dksX9_apart_0 17 rfl rfl)
theorem dX9_apart_19 : decode cX9_apart 19 = .ok (.idiv, 1) := dk_108 (dk_at dksX9_apart_0 19 rfl rfl)
theorem dX9_apart_20 : decode cX9_apart 20 = .ok (.isub, 1) := dk_100 (dk_at dksX9_apart_0 20 rfl rfl)
theorem dX9_apart_21 : decode cX9_apart 21 = .ok (.invokestatic 370, 3) := dk_184 1 114 (dk_at dksX9_apart_0 21 rfl rfl)
theorem dX9_apart_24 : decode cX9_apart 24 = .ok (.iadd, 1) := dk_96 (dk_at dksX9_apart_1 0 rfl rfl)
theorem dX9_apart_25 : decode cX9_apart 25 = .ok (.ireturn, 1) := dk_172 (dk_at dksX9_apart_1 1 rfl rfl)
abbrev cX9_size : ByteArray := prog_23_method_59_code
def yX9_size : MethodName := ⟨RX9, "size", "(I)I"⟩
def dkwX9_size_0 : List UInt8 := [26, 156, 0, 8, 26, 116, 167, 0, 4, 26, 172]
abbrev dktX9_size_0 : List UInt8 := dkwX9_size_0 ++ []
theorem dksX9_size_0 : cX9_size.data.toList.drop 0 = dktX9_size_0 := by decide +kernel
theorem dX9_size_0 : decode cX9_size 0 = .ok (.iload_n 0, 1) := dk_26 (dk_at dksX9_size_0 0 rfl rfl)
theorem dX9_size_1 : decode cX9_size 1 = .ok (.ifCond .ge 8, 3) := dk_156 0 8 (dk_at dksX9_size_0 1 rfl rfl)
theorem dX9_size_4 : decode cX9_size 4 = .ok (.iload_n 0, 1) := dk_26 (dk_at dksX9_size_0 4 rfl rfl)
theorem dX9_size_5 : decode cX9_size 5 = .ok (.ineg, 1) := dk_116 (dk_at dksX9_size_0 5 rfl rfl)
theorem dX9_size_6 : decode cX9_size 6 = .ok (.goto 4, 3) := dk_167 0 4 (dk_at dksX9_size_0 6 rfl rfl)
theorem dX9_size_9 : decode cX9_size 9 = .ok (.iload_n 0, 1) := dk_26 (dk_at dksX9_size_0 9 rfl rfl)
theorem dX9_size_10 : decode cX9_size 10 = .ok (.ireturn, 1) := dk_172 (dk_at dksX9_size_0 10 rfl rfl)
abbrev cX9_bits : ByteArray := prog_23_method_5_code
def yX9_bits : MethodName := ⟨RX9, "bits", "(I)I"⟩
def dkwX9_bits_1 : List UInt8 := [27, 172]
abbrev dktX9_bits_1 : List UInt8 := dkwX9_bits_1 ++ []
def dkwX9_bits_0 : List UInt8 := [3, 60, 3, 61, 28, 16, 6, 162, 0, 17, 27, 26, 28, 122, 4, 126, 96, 60, 132, 2, 1, 167, 255, 239]
abbrev dktX9_bits_0 : List UInt8 := dkwX9_bits_0 ++ dktX9_bits_1
theorem dksX9_bits_0 : cX9_bits.data.toList.drop 0 = dktX9_bits_0 := by decide +kernel
theorem dksX9_bits_1 : cX9_bits.data.toList.drop 24 = dktX9_bits_1 := dk_seg dksX9_bits_0 24 rfl rfl
theorem dX9_bits_0 : decode cX9_bits 0 = .ok (.iconst 0, 1) := dk_3 (dk_at dksX9_bits_0 0 rfl rfl)
theorem dX9_bits_1 : decode cX9_bits 1 = .ok (.istore_n 1, 1) := dk_60 (dk_at dksX9_bits_0 1 rfl rfl)
theorem dX9_bits_2 : decode cX9_bits 2 = .ok (.iconst 0, 1) := dk_3 (dk_at dksX9_bits_0 2 rfl rfl)
theorem dX9_bits_3 : decode cX9_bits 3 = .ok (.istore_n 2, 1) := dk_61 (dk_at dksX9_bits_0 3 rfl rfl)
theorem dX9_bits_4 : decode cX9_bits 4 = .ok (.iload_n 2, 1) := dk_28 (dk_at dksX9_bits_0 4 rfl rfl)
theorem dX9_bits_5 : decode cX9_bits 5 = .ok (.bipush 6, 2) := dk_16 6 (dk_at dksX9_bits_0 5 rfl rfl)
theorem dX9_bits_7 : decode cX9_bits 7 = .ok (.if_icmp .ge 17, 3) := dk_162 0 17 (dk_at dksX9_bits_0 7 rfl rfl)
theorem dX9_bits_10 : decode cX9_bits 10 = .ok (.iload_n 1, 1) := dk_27 (dk_at dksX9_bits_0 10 rfl rfl)
theorem dX9_bits_11 : decode cX9_bits 11 = .ok (.iload_n 0, 1) := dk_26 (dk_at dksX9_bits_0 11 rfl rfl)
theorem dX9_bits_12 : decode cX9_bits 12 = .ok (.iload_n 2, 1) := dk_28 (dk_at dksX9_bits_0 12 rfl rfl)
theorem dX9_bits_13 : decode cX9_bits 13 = .ok (.ishr, 1) := dk_122 (dk_at dksX9_bits_0 13 rfl rfl)
theorem dX9_bits_14 : decode cX9_bits 14 = .ok (.iconst 1, 1) := dk_4 (dk_at dksX9_bits_0 14 rfl rfl)
theorem dX9_bits_15 : decode cX9_bits 15 = .ok (.iand, 1) := dk_126 (dk_at dksX9_bits_0 15 rfl rfl)
theorem dX9_bits_16 : decode cX9_bits 16 = .ok (.iadd, 1) := dk_96 (dk_at dksX9_bits_0 16 rfl rfl)
theorem dX9_bits_17 : decode cX9_bits 17 = .ok (.istore_n 1, 1) := dk_60 (dk_at dksX9_bits_0 17 rfl rfl)
theorem dX9_bits_18 : decode cX9_bits 18 = .ok (.iinc 2 1, 3) := dk_132 2 1 (dk_at dksX9_bits_0 18 rfl rfl)
theorem dX9_bits_21 : decode cX9_bits 21 = .ok (.goto (-17), 3) := dk_167 255 239 (dk_at dksX9_bits_0 21 rfl rfl)
theorem dX9_bits_24 : decode cX9_bits 24 = .ok (.iload_n 1, 1) := dk_27 (dk_at dksX9_bits_1 0 rfl rfl)
theorem dX9_bits_25 : decode cX9_bits 25 = .ok (.ireturn, 1) := dk_172 (dk_at dksX9_bits_1 1 rfl rfl)
abbrev cX9_isSo : ByteArray := prog_23_method_58_code
def yX9_isSo : MethodName := ⟨RX9, "isSo", "(I)Z"⟩
def dkwX9_isSo_4 : List UInt8 := [180, 1, 105, 181, 1, 111, 42, 180, 1, 91, 154, 0, 7, 4, 167, 0, 4, 3, 172, 4, 172]
abbrev dktX9_isSo_4 : List UInt8 := dkwX9_isSo_4 ++ []
def dkwX9_isSo_3 : List UInt8 := [42, 42, 180, 0, 13, 27, 6, 96, 46, 42, 180, 0, 13, 27, 7, 96, 46, 182, 1, 108, 42, 42]
abbrev dktX9_isSo_3 : List UInt8 := dkwX9_isSo_3 ++ dktX9_isSo_4
def dkwX9_isSo_2 : List UInt8 := [154, 0, 12, 42, 180, 1, 105, 9, 148, 154, 0, 5, 3, 172, 42, 180, 0, 13, 27, 46, 5, 162, 0, 44]
abbrev dktX9_isSo_2 : List UInt8 := dkwX9_isSo_2 ++ dktX9_isSo_3
def dkwX9_isSo_1 : List UInt8 := [180, 0, 13, 27, 8, 96, 46, 42, 180, 0, 13, 27, 16, 6, 96, 46, 182, 1, 108, 42, 180, 1, 91]
abbrev dktX9_isSo_1 : List UInt8 := dkwX9_isSo_1 ++ dktX9_isSo_2
def dkwX9_isSo_0 : List UInt8 := [42, 180, 0, 13, 27, 8, 96, 46, 42, 180, 0, 13, 27, 16, 6, 96, 46, 162, 0, 42, 42, 42]
abbrev dktX9_isSo_0 : List UInt8 := dkwX9_isSo_0 ++ dktX9_isSo_1
theorem dksX9_isSo_0 : cX9_isSo.data.toList.drop 0 = dktX9_isSo_0 := by decide +kernel
theorem dksX9_isSo_1 : cX9_isSo.data.toList.drop 22 = dktX9_isSo_1 := dk_seg dksX9_isSo_0 22 rfl rfl
theorem dksX9_isSo_2 : cX9_isSo.data.toList.drop 45 = dktX9_isSo_2 := dk_seg dksX9_isSo_1 23 rfl rfl
theorem dksX9_isSo_3 : cX9_isSo.data.toList.drop 69 = dktX9_isSo_3 := dk_seg dksX9_isSo_2 24 rfl rfl
theorem dksX9_isSo_4 : cX9_isSo.data.toList.drop 91 = dktX9_isSo_4 := dk_seg dksX9_isSo_3 22 rfl rfl
theorem dX9_isSo_0 : decode cX9_isSo 0 = .ok (.aload_n 0, 1) := dk_42 (dk_at dksX9_isSo_0 0 rfl rfl)
theorem dX9_isSo_1 : decode cX9_isSo 1 = .ok (.getfield 13, 3) := dk_180 0 13 (dk_at dksX9_isSo_0 1 rfl rfl)
theorem dX9_isSo_4 : decode cX9_isSo 4 = .ok (.iload_n 1, 1) := dk_27 (dk_at dksX9_isSo_0 4 rfl rfl)
theorem dX9_isSo_5 : decode cX9_isSo 5 = .ok (.iconst 5, 1) := dk_8 (dk_at dksX9_isSo_0 5 rfl rfl)
theorem dX9_isSo_6 : decode cX9_isSo 6 = .ok (.iadd, 1) := dk_96 (dk_at dksX9_isSo_0 6 rfl rfl)
theorem dX9_isSo_7 : decode cX9_isSo 7 = .ok (.iaload, 1) := dk_46 (dk_at dksX9_isSo_0 7 rfl rfl)
theorem dX9_isSo_8 : decode cX9_isSo 8 = .ok (.aload_n 0, 1) := dk_42 (dk_at dksX9_isSo_0 8 rfl rfl)
theorem dX9_isSo_9 : decode cX9_isSo 9 = .ok (.getfield 13, 3) := dk_180 0 13 (dk_at dksX9_isSo_0 9 rfl rfl)
theorem dX9_isSo_12 : decode cX9_isSo 12 = .ok (.iload_n 1, 1) := dk_27 (dk_at dksX9_isSo_0 12 rfl rfl)
theorem dX9_isSo_13 : decode cX9_isSo 13 = .ok (.bipush 6, 2) := dk_16 6 (dk_at dksX9_isSo_0 13 rfl rfl)
theorem dX9_isSo_15 : decode cX9_isSo 15 = .ok (.iadd, 1) := dk_96 (dk_at dksX9_isSo_0 15 rfl rfl)
theorem dX9_isSo_16 : decode cX9_isSo 16 = .ok (.iaload, 1) := dk_46 (dk_at dksX9_isSo_0 16 rfl rfl)
theorem dX9_isSo_17 : decode cX9_isSo 17 = .ok (.if_icmp .ge 42, 3) := dk_162 0 42 (dk_at dksX9_isSo_0 17 rfl rfl)
theorem dX9_isSo_20 : decode cX9_isSo 20 = .ok (.aload_n 0, 1) := dk_42 (dk_at dksX9_isSo_0 20 rfl rfl)
theorem dX9_isSo_21 : decode cX9_isSo 21 = .ok (.aload_n 0, 1) := dk_42 (dk_at dksX9_isSo_0 21 rfl rfl)
theorem dX9_isSo_22 : decode cX9_isSo 22 = .ok (.getfield 13, 3) := dk_180 0 13 (dk_at dksX9_isSo_1 0 rfl rfl)
theorem dX9_isSo_25 : decode cX9_isSo 25 = .ok (.iload_n 1, 1) := dk_27 (dk_at dksX9_isSo_1 3 rfl rfl)
theorem dX9_isSo_26 : decode cX9_isSo 26 = .ok (.iconst 5, 1) := dk_8 (dk_at dksX9_isSo_1 4 rfl rfl)
theorem dX9_isSo_27 : decode cX9_isSo 27 = .ok (.iadd, 1) := dk_96 (dk_at dksX9_isSo_1 5 rfl rfl)
theorem dX9_isSo_28 : decode cX9_isSo 28 = .ok (.iaload, 1) := dk_46 (dk_at dksX9_isSo_1 6 rfl rfl)
theorem dX9_isSo_29 : decode cX9_isSo 29 = .ok (.aload_n 0, 1) := dk_42 (dk_at dksX9_isSo_1 7 rfl rfl)
theorem dX9_isSo_30 : decode cX9_isSo 30 = .ok (.getfield 13, 3) := dk_180 0 13 (dk_at dksX9_isSo_1 8 rfl rfl)
theorem dX9_isSo_33 : decode cX9_isSo 33 = .ok (.iload_n 1, 1) := dk_27 (dk_at dksX9_isSo_1 11 rfl rfl)
theorem dX9_isSo_34 : decode cX9_isSo 34 = .ok (.bipush 6, 2) := dk_16 6 (dk_at dksX9_isSo_1 12 rfl rfl)
theorem dX9_isSo_36 : decode cX9_isSo 36 = .ok (.iadd, 1) := dk_96 (dk_at dksX9_isSo_1 14 rfl rfl)
theorem dX9_isSo_37 : decode cX9_isSo 37 = .ok (.iaload, 1) := dk_46 (dk_at dksX9_isSo_1 15 rfl rfl)
theorem dX9_isSo_38 : decode cX9_isSo 38 = .ok (.invokevirtual 364, 3) := dk_182 1 108 (dk_at dksX9_isSo_1 16 rfl rfl)
theorem dX9_isSo_41 : decode cX9_isSo 41 = .ok (.aload_n 0, 1) := dk_42 (dk_at dksX9_isSo_1 19 rfl rfl)
theorem dX9_isSo_42 : decode cX9_isSo 42 = .ok (.getfield 347, 3) := dk_180 1 91 (dk_at dksX9_isSo_1 20 rfl rfl)
theorem dX9_isSo_45 : decode cX9_isSo 45 = .ok (.ifCond .ne 12, 3) := dk_154 0 12 (dk_at dksX9_isSo_2 0 rfl rfl)
theorem dX9_isSo_48 : decode cX9_isSo 48 = .ok (.aload_n 0, 1) := dk_42 (dk_at dksX9_isSo_2 3 rfl rfl)
theorem dX9_isSo_49 : decode cX9_isSo 49 = .ok (.getfield 361, 3) := dk_180 1 105 (dk_at dksX9_isSo_2 4 rfl rfl)
theorem dX9_isSo_52 : decode cX9_isSo 52 = .ok (.lconst 0, 1) := dk_9 (dk_at dksX9_isSo_2 7 rfl rfl)
theorem dX9_isSo_53 : decode cX9_isSo 53 = .ok (.lcmp, 1) := dk_148 (dk_at dksX9_isSo_2 8 rfl rfl)
theorem dX9_isSo_54 : decode cX9_isSo 54 = .ok (.ifCond .ne 5, 3) := dk_154 0 5 (dk_at dksX9_isSo_2 9 rfl rfl)
theorem dX9_isSo_57 : decode cX9_isSo 57 = .ok (.iconst 0, 1) := dk_3 (dk_at dksX9_isSo_2 12 rfl rfl)
theorem dX9_isSo_58 : decode cX9_isSo 58 = .ok (.ireturn, 1) := dk_172 (dk_at dksX9_isSo_2 13 rfl rfl)
theorem dX9_isSo_59 : decode cX9_isSo 59 = .ok (.aload_n 0, 1) := dk_42 (dk_at dksX9_isSo_2 14 rfl rfl)
theorem dX9_isSo_60 : decode cX9_isSo 60 = .ok (.getfield 13, 3) := dk_180 0 13 (dk_at dksX9_isSo_2 15 rfl rfl)
theorem dX9_isSo_63 : decode cX9_isSo 63 = .ok (.iload_n 1, 1) := dk_27 (dk_at dksX9_isSo_2 18 rfl rfl)
theorem dX9_isSo_64 : decode cX9_isSo 64 = .ok (.iaload, 1) := dk_46 (dk_at dksX9_isSo_2 19 rfl rfl)
theorem dX9_isSo_65 : decode cX9_isSo 65 = .ok (.iconst 2, 1) := dk_5 (dk_at dksX9_isSo_2 20 rfl rfl)
theorem dX9_isSo_66 : decode cX9_isSo 66 = .ok (.if_icmp .ge 44, 3) := dk_162 0 44 (dk_at dksX9_isSo_2 21 rfl rfl)
theorem dX9_isSo_69 : decode cX9_isSo 69 = .ok (.aload_n 0, 1) := dk_42 (dk_at dksX9_isSo_3 0 rfl rfl)
theorem dX9_isSo_70 : decode cX9_isSo 70 = .ok (.aload_n 0, 1) := dk_42 (dk_at dksX9_isSo_3 1 rfl rfl)
theorem dX9_isSo_71 : decode cX9_isSo 71 = .ok (.getfield 13, 3) := dk_180 0 13 (dk_at dksX9_isSo_3 2 rfl rfl)
theorem dX9_isSo_74 : decode cX9_isSo 74 = .ok (.iload_n 1, 1) := dk_27 (dk_at dksX9_isSo_3 5 rfl rfl)
theorem dX9_isSo_75 : decode cX9_isSo 75 = .ok (.iconst 3, 1) := dk_6 (dk_at dksX9_isSo_3 6 rfl rfl)
theorem dX9_isSo_76 : decode cX9_isSo 76 = .ok (.iadd, 1) := dk_96 (dk_at dksX9_isSo_3 7 rfl rfl)
theorem dX9_isSo_77 : decode cX9_isSo 77 = .ok (.iaload, 1) := dk_46 (dk_at dksX9_isSo_3 8 rfl rfl)
theorem dX9_isSo_78 : decode cX9_isSo 78 = .ok (.aload_n 0, 1) := dk_42 (dk_at dksX9_isSo_3 9 rfl rfl)
theorem dX9_isSo_79 : decode cX9_isSo 79 = .ok (.getfield 13, 3) := dk_180 0 13 (dk_at dksX9_isSo_3 10 rfl rfl)
theorem dX9_isSo_82 : decode cX9_isSo 82 = .ok (.iload_n 1, 1) := dk_27 (dk_at dksX9_isSo_3 13 rfl rfl)
theorem dX9_isSo_83 : decode cX9_isSo 83 = .ok (.iconst 4, 1) := dk_7 (dk_at dksX9_isSo_3 14 rfl rfl)
theorem dX9_isSo_84 : decode cX9_isSo 84 = .ok (.iadd, 1) := dk_96 (dk_at dksX9_isSo_3 15 rfl rfl)
theorem dX9_isSo_85 : decode cX9_isSo 85 = .ok (.iaload, 1) := dk_46 (dk_at dksX9_isSo_3 16 rfl rfl)
theorem dX9_isSo_86 : decode cX9_isSo 86 = .ok (.invokevirtual 364, 3) := dk_182 1 108 (dk_at dksX9_isSo_3 17 rfl rfl)
theorem dX9_isSo_89 : decode cX9_isSo 89 = .ok (.aload_n 0, 1) := dk_42 (dk_at dksX9_isSo_3 20 rfl rfl)
theorem dX9_isSo_90 : decode cX9_isSo 90 = .ok (.aload_n 0, 1) := dk_42 (dk_at dksX9_isSo_3 21 rfl rfl)
theorem dX9_isSo_91 : decode cX9_isSo 91 = .ok (.getfield 361, 3) := dk_180 1 105 (dk_at dksX9_isSo_4 0 rfl rfl)
theorem dX9_isSo_94 : decode cX9_isSo 94 = .ok (.putfield 367, 3) := dk_181 1 111 (dk_at dksX9_isSo_4 3 rfl rfl)
theorem dX9_isSo_97 : decode cX9_isSo 97 = .ok (.aload_n 0, 1) := dk_42 (dk_at dksX9_isSo_4 6 rfl rfl)
theorem dX9_isSo_98 : decode cX9_isSo 98 = .ok (.getfield 347, 3) := dk_180 1 91 (dk_at dksX9_isSo_4 7 rfl rfl)
theorem dX9_isSo_101 : decode cX9_isSo 101 = .ok (.ifCond .ne 7, 3) := dk_154 0 7 (dk_at dksX9_isSo_4 10 rfl rfl)
theorem dX9_isSo_104 : decode cX9_isSo 104 = .ok (.iconst 1, 1) := dk_4 (dk_at dksX9_isSo_4 13 rfl rfl)
theorem dX9_isSo_105 : decode cX9_isSo 105 = .ok (.goto 4, 3) := dk_167 0 4 (dk_at dksX9_isSo_4 14 rfl rfl)
theorem dX9_isSo_108 : decode cX9_isSo 108 = .ok (.iconst 0, 1) := dk_3 (dk_at dksX9_isSo_4 17 rfl rfl)
theorem dX9_isSo_109 : decode cX9_isSo 109 = .ok (.ireturn, 1) := dk_172 (dk_at dksX9_isSo_4 18 rfl rfl)
theorem dX9_isSo_110 : decode cX9_isSo 110 = .ok (.iconst 1, 1) := dk_4 (dk_at dksX9_isSo_4 19 rfl rfl)
theorem dX9_isSo_111 : decode cX9_isSo 111 = .ok (.ireturn, 1) := dk_172 (dk_at dksX9_isSo_4 20 rfl rfl)
abbrev cX9_reckonAll : ByteArray := prog_23_method_57_code
def yX9_reckonAll : MethodName := ⟨RX9, "reckonAll", "(II)V"⟩
def dkwX9_reckonAll_11 : List UInt8 := [167, 0, 4, 9, 181, 1, 105, 177]
abbrev dktX9_reckonAll_11 : List UInt8 := dkwX9_reckonAll_11 ++ []
def dkwX9_reckonAll_10 : List UInt8 := [21, 6, 54, 4, 167, 0, 6, 132, 3, 255, 167, 255, 24, 42, 29, 158, 0, 12, 42, 180, 0, 81, 3, 47]
abbrev dktX9_reckonAll_10 : List UInt8 := dkwX9_reckonAll_10 ++ dktX9_reckonAll_11
def dkwX9_reckonAll_9 : List UInt8 := [180, 0, 81, 29, 4, 100, 47, 21, 5, 16, 28, 160, 0, 7, 9, 167, 0, 4, 10, 148, 154, 0, 10]
abbrev dktX9_reckonAll_9 : List UInt8 := dkwX9_reckonAll_9 ++ dktX9_reckonAll_10
def dkwX9_reckonAll_8 : List UInt8 := [42, 180, 0, 81, 29, 4, 100, 10, 42, 180, 0, 81, 29, 4, 100, 47, 101, 80, 167, 0, 37, 42]
abbrev dktX9_reckonAll_8 : List UInt8 := dkwX9_reckonAll_8 ++ dktX9_reckonAll_9
def dkwX9_reckonAll_7 : List UInt8 := [184, 0, 160, 154, 0, 7, 4, 167, 0, 4, 3, 181, 1, 91, 167, 0, 65, 21, 5, 16, 27, 160, 0, 24]
abbrev dktX9_reckonAll_7 : List UInt8 := dkwX9_reckonAll_7 ++ dktX9_reckonAll_8
def dkwX9_reckonAll_6 : List UInt8 := [42, 42, 180, 1, 91, 154, 0, 23, 42, 180, 0, 81, 29, 4, 100, 47, 20, 1, 101, 20, 1, 103]
abbrev dktX9_reckonAll_6 : List UInt8 := dkwX9_reckonAll_6 ++ dktX9_reckonAll_7
def dkwX9_reckonAll_5 : List UInt8 := [29, 4, 100, 42, 21, 5, 42, 180, 0, 81, 29, 4, 100, 47, 42, 180, 0, 81, 29, 47, 182, 1, 97, 80]
abbrev dktX9_reckonAll_5 : List UInt8 := dkwX9_reckonAll_5 ++ dktX9_reckonAll_6
def dkwX9_reckonAll_4 : List UInt8 := [21, 5, 47, 80, 132, 3, 1, 167, 0, 142, 21, 5, 16, 27, 162, 0, 73, 132, 3, 255, 42, 180, 0, 81]
abbrev dktX9_reckonAll_4 : List UInt8 := dkwX9_reckonAll_4 ++ dktX9_reckonAll_5
def dkwX9_reckonAll_3 : List UInt8 := [162, 0, 33, 42, 180, 0, 81, 29, 21, 5, 154, 0, 9, 21, 6, 133, 167, 0, 10, 42, 180, 0, 78]
abbrev dktX9_reckonAll_3 : List UInt8 := dkwX9_reckonAll_3 ++ dktX9_reckonAll_4
def dkwX9_reckonAll_2 : List UInt8 := [180, 1, 94, 16, 98, 96, 5, 21, 4, 104, 96, 4, 96, 46, 54, 6, 132, 4, 1, 21, 5, 16, 20]
abbrev dktX9_reckonAll_2 : List UInt8 := dkwX9_reckonAll_2 ++ dktX9_reckonAll_3
def dkwX9_reckonAll_1 : List UInt8 := [180, 0, 13, 42, 180, 1, 94, 16, 98, 96, 5, 21, 4, 104, 96, 46, 54, 5, 42, 180, 0, 13, 42]
abbrev dktX9_reckonAll_1 : List UInt8 := dkwX9_reckonAll_1 ++ dktX9_reckonAll_2
def dkwX9_reckonAll_0 : List UInt8 := [42, 3, 181, 1, 91, 3, 62, 27, 54, 4, 21, 4, 28, 162, 0, 232, 42, 180, 1, 91, 154, 0, 225, 42]
abbrev dktX9_reckonAll_0 : List UInt8 := dkwX9_reckonAll_0 ++ dktX9_reckonAll_1
theorem dksX9_reckonAll_0 : cX9_reckonAll.data.toList.drop 0 = dktX9_reckonAll_0 := by decide +kernel
theorem dksX9_reckonAll_1 : cX9_reckonAll.data.toList.drop 24 = dktX9_reckonAll_1 := dk_seg dksX9_reckonAll_0 24 rfl rfl
theorem dksX9_reckonAll_2 : cX9_reckonAll.data.toList.drop 47 = dktX9_reckonAll_2 := dk_seg dksX9_reckonAll_1 23 rfl rfl
theorem dksX9_reckonAll_3 : cX9_reckonAll.data.toList.drop 70 = dktX9_reckonAll_3 := dk_seg dksX9_reckonAll_2 23 rfl rfl
theorem dksX9_reckonAll_4 : cX9_reckonAll.data.toList.drop 93 = dktX9_reckonAll_4 := dk_seg dksX9_reckonAll_3 23 rfl rfl
theorem dksX9_reckonAll_5 : cX9_reckonAll.data.toList.drop 117 = dktX9_reckonAll_5 := dk_seg dksX9_reckonAll_4 24 rfl rfl
theorem dksX9_reckonAll_6 : cX9_reckonAll.data.toList.drop 141 = dktX9_reckonAll_6 := dk_seg dksX9_reckonAll_5 24 rfl rfl
theorem dksX9_reckonAll_7 : cX9_reckonAll.data.toList.drop 163 = dktX9_reckonAll_7 := dk_seg dksX9_reckonAll_6 22 rfl rfl
theorem dksX9_reckonAll_8 : cX9_reckonAll.data.toList.drop 187 = dktX9_reckonAll_8 := dk_seg dksX9_reckonAll_7 24 rfl rfl
theorem dksX9_reckonAll_9 : cX9_reckonAll.data.toList.drop 209 = dktX9_reckonAll_9 := dk_seg dksX9_reckonAll_8 22 rfl rfl
theorem dksX9_reckonAll_10 : cX9_reckonAll.data.toList.drop 232 = dktX9_reckonAll_10 := dk_seg dksX9_reckonAll_9 23 rfl rfl
theorem dksX9_reckonAll_11 : cX9_reckonAll.data.toList.drop 256 = dktX9_reckonAll_11 := dk_seg dksX9_reckonAll_10 24 rfl rfl
theorem dX9_reckonAll_0 : decode cX9_reckonAll 0 = .ok (.aload_n 0, 1) := dk_42 (dk_at dksX9_reckonAll_0 0 rfl rfl)
theorem dX9_reckonAll_1 : decode cX9_reckonAll 1 = .ok (.iconst 0, 1) := dk_3 (dk_at dksX9_reckonAll_0 1 rfl rfl)
theorem dX9_reckonAll_2 : decode cX9_reckonAll 2 = .ok (.putfield 347, 3) := dk_181 1 91 (dk_at dksX9_reckonAll_0 2 rfl rfl)
theorem dX9_reckonAll_5 : decode cX9_reckonAll 5 = .ok (.iconst 0, 1) := dk_3 (dk_at dksX9_reckonAll_0 5 rfl rfl)
theorem dX9_reckonAll_6 : decode cX9_reckonAll 6 = .ok (.istore_n 3, 1) := dk_62 (dk_at dksX9_reckonAll_0 6 rfl rfl)
theorem dX9_reckonAll_7 : decode cX9_reckonAll 7 = .ok (.iload_n 1, 1) := dk_27 (dk_at dksX9_reckonAll_0 7 rfl rfl)
theorem dX9_reckonAll_8 : decode cX9_reckonAll 8 = .ok (.istore 4, 2) := dk_54 4 (dk_at dksX9_reckonAll_0 8 rfl rfl)
theorem dX9_reckonAll_10 : decode cX9_reckonAll 10 = .ok (.iload 4, 2) := dk_21 4 (dk_at dksX9_reckonAll_0 10 rfl rfl)
theorem dX9_reckonAll_12 : decode cX9_reckonAll 12 = .ok (.iload_n 2, 1) := dk_28 (dk_at dksX9_reckonAll_0 12 rfl rfl)
theorem dX9_reckonAll_13 : decode cX9_reckonAll 13 = .ok (.if_icmp .ge 232, 3) := dk_162 0 232 (dk_at dksX9_reckonAll_0 13 rfl rfl)
theorem dX9_reckonAll_16 : decode cX9_reckonAll 16 = .ok (.aload_n 0, 1) := dk_42 (dk_at dksX9_reckonAll_0 16 rfl rfl)
theorem dX9_reckonAll_17 : decode cX9_reckonAll 17 = .ok (.getfield 347, 3) := dk_180 1 91 (dk_at dksX9_reckonAll_0 17 rfl rfl)
theorem dX9_reckonAll_20 : decode cX9_reckonAll 20 = .ok (.ifCond .ne 225, 3) := dk_154 0 225 (dk_at dksX9_reckonAll_0 20 rfl rfl)
theorem dX9_reckonAll_23 : decode cX9_reckonAll 23 = .ok (.aload_n 0, 1) := dk_42 (dk_at dksX9_reckonAll_0 23 rfl rfl)
theorem dX9_reckonAll_24 : decode cX9_reckonAll 24 = .ok (.getfield 13, 3) := dk_180 0 13 (dk_at dksX9_reckonAll_1 0 rfl rfl)
theorem dX9_reckonAll_27 : decode cX9_reckonAll 27 = .ok (.aload_n 0, 1) := dk_42 (dk_at dksX9_reckonAll_1 3 rfl rfl)
theorem dX9_reckonAll_28 : decode cX9_reckonAll 28 = .ok (.getfield 350, 3) := dk_180 1 94 (dk_at dksX9_reckonAll_1 4 rfl rfl)
theorem dX9_reckonAll_31 : decode cX9_reckonAll 31 = .ok (.bipush 98, 2) := dk_16 98 (dk_at dksX9_reckonAll_1 7 rfl rfl)
theorem dX9_reckonAll_33 : decode cX9_reckonAll 33 = .ok (.iadd, 1) := dk_96 (dk_at dksX9_reckonAll_1 9 rfl rfl)
theorem dX9_reckonAll_34 : decode cX9_reckonAll 34 = .ok (.iconst 2, 1) := dk_5 (dk_at dksX9_reckonAll_1 10 rfl rfl)
theorem dX9_reckonAll_35 : decode cX9_reckonAll 35 = .ok (.iload 4, 2) := dk_21 4 (dk_at dksX9_reckonAll_1 11 rfl rfl)
theorem dX9_reckonAll_37 : decode cX9_reckonAll 37 = .ok (.imul, 1) := dk_104 (dk_at dksX9_reckonAll_1 13 rfl rfl)
theorem dX9_reckonAll_38 : decode cX9_reckonAll 38 = .ok (.iadd, 1) := dk_96 (dk_at dksX9_reckonAll_1 14 rfl rfl)
theorem dX9_reckonAll_39 : decode cX9_reckonAll 39 = .ok (.iaload, 1) := dk_46 (dk_at dksX9_reckonAll_1 15 rfl rfl)
theorem dX9_reckonAll_40 : decode cX9_reckonAll 40 = .ok (.istore 5, 2) := dk_54 5 (dk_at dksX9_reckonAll_1 16 rfl rfl)
theorem dX9_reckonAll_42 : decode cX9_reckonAll 42 = .ok (.aload_n 0, 1) := dk_42 (dk_at dksX9_reckonAll_1 18 rfl rfl)
theorem dX9_reckonAll_43 : decode cX9_reckonAll 43 = .ok (.getfield 13, 3) := dk_180 0 13 (dk_at dksX9_reckonAll_1 19 rfl rfl)
theorem dX9_reckonAll_46 : decode cX9_reckonAll 46 = .ok (.aload_n 0, 1) := dk_42 (dk_at dksX9_reckonAll_1 22 rfl rfl)
theorem dX9_reckonAll_47 : decode cX9_reckonAll 47 = .ok (.getfield 350, 3) := dk_180 1 94 (dk_at dksX9_reckonAll_2 0 rfl rfl)
theorem dX9_reckonAll_50 : decode cX9_reckonAll 50 = .ok (.bipush 98, 2) := dk_16 98 (dk_at dksX9_reckonAll_2 3 rfl rfl)
theorem dX9_reckonAll_52 : decode cX9_reckonAll 52 = .ok (.iadd, 1) := dk_96 (dk_at dksX9_reckonAll_2 5 rfl rfl)
theorem dX9_reckonAll_53 : decode cX9_reckonAll 53 = .ok (.iconst 2, 1) := dk_5 (dk_at dksX9_reckonAll_2 6 rfl rfl)
theorem dX9_reckonAll_54 : decode cX9_reckonAll 54 = .ok (.iload 4, 2) := dk_21 4 (dk_at dksX9_reckonAll_2 7 rfl rfl)
theorem dX9_reckonAll_56 : decode cX9_reckonAll 56 = .ok (.imul, 1) := dk_104 (dk_at dksX9_reckonAll_2 9 rfl rfl)
theorem dX9_reckonAll_57 : decode cX9_reckonAll 57 = .ok (.iadd, 1) := dk_96 (dk_at dksX9_reckonAll_2 10 rfl rfl)
theorem dX9_reckonAll_58 : decode cX9_reckonAll 58 = .ok (.iconst 1, 1) := dk_4 (dk_at dksX9_reckonAll_2 11 rfl rfl)
theorem dX9_reckonAll_59 : decode cX9_reckonAll 59 = .ok (.iadd, 1) := dk_96 (dk_at dksX9_reckonAll_2 12 rfl rfl)
theorem dX9_reckonAll_60 : decode cX9_reckonAll 60 = .ok (.iaload, 1) := dk_46 (dk_at dksX9_reckonAll_2 13 rfl rfl)
theorem dX9_reckonAll_61 : decode cX9_reckonAll 61 = .ok (.istore 6, 2) := dk_54 6 (dk_at dksX9_reckonAll_2 14 rfl rfl)
theorem dX9_reckonAll_63 : decode cX9_reckonAll 63 = .ok (.iinc 4 1, 3) := dk_132 4 1 (dk_at dksX9_reckonAll_2 16 rfl rfl)
theorem dX9_reckonAll_66 : decode cX9_reckonAll 66 = .ok (.iload 5, 2) := dk_21 5 (dk_at dksX9_reckonAll_2 19 rfl rfl)
theorem dX9_reckonAll_68 : decode cX9_reckonAll 68 = .ok (.bipush 20, 2) := dk_16 20 (dk_at dksX9_reckonAll_2 21 rfl rfl)
theorem dX9_reckonAll_70 : decode cX9_reckonAll 70 = .ok (.if_icmp .ge 33, 3) := dk_162 0 33 (dk_at dksX9_reckonAll_3 0 rfl rfl)
theorem dX9_reckonAll_73 : decode cX9_reckonAll 73 = .ok (.aload_n 0, 1) := dk_42 (dk_at dksX9_reckonAll_3 3 rfl rfl)
theorem dX9_reckonAll_74 : decode cX9_reckonAll 74 = .ok (.getfield 81, 3) := dk_180 0 81 (dk_at dksX9_reckonAll_3 4 rfl rfl)
theorem dX9_reckonAll_77 : decode cX9_reckonAll 77 = .ok (.iload_n 3, 1) := dk_29 (dk_at dksX9_reckonAll_3 7 rfl rfl)
theorem dX9_reckonAll_78 : decode cX9_reckonAll 78 = .ok (.iload 5, 2) := dk_21 5 (dk_at dksX9_reckonAll_3 8 rfl rfl)
theorem dX9_reckonAll_80 : decode cX9_reckonAll 80 = .ok (.ifCond .ne 9, 3) := dk_154 0 9 (dk_at dksX9_reckonAll_3 10 rfl rfl)
theorem dX9_reckonAll_83 : decode cX9_reckonAll 83 = .ok (.iload 6, 2) := dk_21 6 (dk_at dksX9_reckonAll_3 13 rfl rfl)
theorem dX9_reckonAll_85 : decode cX9_reckonAll 85 = .ok (.i2l, 1) := dk_133 (dk_at dksX9_reckonAll_3 15 rfl rfl)
theorem dX9_reckonAll_86 : decode cX9_reckonAll 86 = .ok (.goto 10, 3) := dk_167 0 10 (dk_at dksX9_reckonAll_3 16 rfl rfl)
theorem dX9_reckonAll_89 : decode cX9_reckonAll 89 = .ok (.aload_n 0, 1) := dk_42 (dk_at dksX9_reckonAll_3 19 rfl rfl)
theorem dX9_reckonAll_90 : decode cX9_reckonAll 90 = .ok (.getfield 78, 3) := dk_180 0 78 (dk_at dksX9_reckonAll_3 20 rfl rfl)
theorem dX9_reckonAll_93 : decode cX9_reckonAll 93 = .ok (.iload 5, 2) := dk_21 5 (dk_at dksX9_reckonAll_4 0 rfl rfl)
theorem dX9_reckonAll_95 : decode cX9_reckonAll 95 = .ok (.laload, 1) := dk_47 (dk_at dksX9_reckonAll_4 2 rfl rfl)
theorem dX9_reckonAll_96 : decode cX9_reckonAll 96 = .ok (.lastore, 1) := dk_80 (dk_at dksX9_reckonAll_4 3 rfl rfl)
theorem dX9_reckonAll_97 : decode cX9_reckonAll 97 = .ok (.iinc 3 1, 3) := dk_132 3 1 (dk_at dksX9_reckonAll_4 4 rfl rfl)
theorem dX9_reckonAll_100 : decode cX9_reckonAll 100 = .ok (.goto 142, 3) := dk_167 0 142 (dk_at dksX9_reckonAll_4 7 rfl rfl)
theorem dX9_reckonAll_103 : decode cX9_reckonAll 103 = .ok (.iload 5, 2) := dk_21 5 (dk_at dksX9_reckonAll_4 10 rfl rfl)
theorem dX9_reckonAll_105 : decode cX9_reckonAll 105 = .ok (.bipush 27, 2) := dk_16 27 (dk_at dksX9_reckonAll_4 12 rfl rfl)
theorem dX9_reckonAll_107 : decode cX9_reckonAll 107 = .ok (.if_icmp .ge 73, 3) := dk_162 0 73 (dk_at dksX9_reckonAll_4 14 rfl rfl)
theorem dX9_reckonAll_110 : decode cX9_reckonAll 110 = .ok (.iinc 3 (-1), 3) := dk_132 3 255 (dk_at dksX9_reckonAll_4 17 rfl rfl)
theorem dX9_reckonAll_113 : decode cX9_reckonAll 113 = .ok (.aload_n 0, 1) := dk_42 (dk_at dksX9_reckonAll_4 20 rfl rfl)
theorem dX9_reckonAll_114 : decode cX9_reckonAll 114 = .ok (.getfield 81, 3) := dk_180 0 81 (dk_at dksX9_reckonAll_4 21 rfl rfl)
theorem dX9_reckonAll_117 : decode cX9_reckonAll 117 = .ok (.iload_n 3, 1) := dk_29 (dk_at dksX9_reckonAll_5 0 rfl rfl)
theorem dX9_reckonAll_118 : decode cX9_reckonAll 118 = .ok (.iconst 1, 1) := dk_4 (dk_at dksX9_reckonAll_5 1 rfl rfl)
theorem dX9_reckonAll_119 : decode cX9_reckonAll 119 = .ok (.isub, 1) := dk_100 (dk_at dksX9_reckonAll_5 2 rfl rfl)
theorem dX9_reckonAll_120 : decode cX9_reckonAll 120 = .ok (.aload_n 0, 1) := dk_42 (dk_at dksX9_reckonAll_5 3 rfl rfl)
theorem dX9_reckonAll_121 : decode cX9_reckonAll 121 = .ok (.iload 5, 2) := dk_21 5 (dk_at dksX9_reckonAll_5 4 rfl rfl)
theorem dX9_reckonAll_123 : decode cX9_reckonAll 123 = .ok (.aload_n 0, 1) := dk_42 (dk_at dksX9_reckonAll_5 6 rfl rfl)
theorem dX9_reckonAll_124 : decode cX9_reckonAll 124 = .ok (.getfield 81, 3) := dk_180 0 81 (dk_at dksX9_reckonAll_5 7 rfl rfl)
theorem dX9_reckonAll_127 : decode cX9_reckonAll 127 = .ok (.iload_n 3, 1) := dk_29 (dk_at dksX9_reckonAll_5 10 rfl rfl)
theorem dX9_reckonAll_128 : decode cX9_reckonAll 128 = .ok (.iconst 1, 1) := dk_4 (dk_at dksX9_reckonAll_5 11 rfl rfl)
theorem dX9_reckonAll_129 : decode cX9_reckonAll 129 = .ok (.isub, 1) := dk_100 (dk_at dksX9_reckonAll_5 12 rfl rfl)
theorem dX9_reckonAll_130 : decode cX9_reckonAll 130 = .ok (.laload, 1) := dk_47 (dk_at dksX9_reckonAll_5 13 rfl rfl)
theorem dX9_reckonAll_131 : decode cX9_reckonAll 131 = .ok (.aload_n 0, 1) := dk_42 (dk_at dksX9_reckonAll_5 14 rfl rfl)
theorem dX9_reckonAll_132 : decode cX9_reckonAll 132 = .ok (.getfield 81, 3) := dk_180 0 81 (dk_at dksX9_reckonAll_5 15 rfl rfl)
theorem dX9_reckonAll_135 : decode cX9_reckonAll 135 = .ok (.iload_n 3, 1) := dk_29 (dk_at dksX9_reckonAll_5 18 rfl rfl)
theorem dX9_reckonAll_136 : decode cX9_reckonAll 136 = .ok (.laload, 1) := dk_47 (dk_at dksX9_reckonAll_5 19 rfl rfl)
theorem dX9_reckonAll_137 : decode cX9_reckonAll 137 = .ok (.invokevirtual 353, 3) := dk_182 1 97 (dk_at dksX9_reckonAll_5 20 rfl rfl)
theorem dX9_reckonAll_140 : decode cX9_reckonAll 140 = .ok (.lastore, 1) := dk_80 (dk_at dksX9_reckonAll_5 23 rfl rfl)
theorem dX9_reckonAll_141 : decode cX9_reckonAll 141 = .ok (.aload_n 0, 1) := dk_42 (dk_at dksX9_reckonAll_6 0 rfl rfl)
theorem dX9_reckonAll_142 : decode cX9_reckonAll 142 = .ok (.aload_n 0, 1) := dk_42 (dk_at dksX9_reckonAll_6 1 rfl rfl)
theorem dX9_reckonAll_143 : decode cX9_reckonAll 143 = .ok (.getfield 347, 3) := dk_180 1 91 (dk_at dksX9_reckonAll_6 2 rfl rfl)
theorem dX9_reckonAll_146 : decode cX9_reckonAll 146 = .ok (.ifCond .ne 23, 3) := dk_154 0 23 (dk_at dksX9_reckonAll_6 5 rfl rfl)
theorem dX9_reckonAll_149 : decode cX9_reckonAll 149 = .ok (.aload_n 0, 1) := dk_42 (dk_at dksX9_reckonAll_6 8 rfl rfl)
theorem dX9_reckonAll_150 : decode cX9_reckonAll 150 = .ok (.getfield 81, 3) := dk_180 0 81 (dk_at dksX9_reckonAll_6 9 rfl rfl)
theorem dX9_reckonAll_153 : decode cX9_reckonAll 153 = .ok (.iload_n 3, 1) := dk_29 (dk_at dksX9_reckonAll_6 12 rfl rfl)
theorem dX9_reckonAll_154 : decode cX9_reckonAll 154 = .ok (.iconst 1, 1) := dk_4 (dk_at dksX9_reckonAll_6 13 rfl rfl)
theorem dX9_reckonAll_155 : decode cX9_reckonAll 155 = .ok (.isub, 1) := dk_100 (dk_at dksX9_reckonAll_6 14 rfl rfl)
theorem dX9_reckonAll_156 : decode cX9_reckonAll 156 = .ok (.laload, 1) := dk_47 (dk_at dksX9_reckonAll_6 15 rfl rfl)
theorem dX9_reckonAll_157 : decode cX9_reckonAll 157 = .ok (.ldc2_w 357, 3) := dk_20 1 101 (dk_at dksX9_reckonAll_6 16 rfl rfl)
theorem dX9_reckonAll_160 : decode cX9_reckonAll 160 = .ok (.ldc2_w 359, 3) := dk_20 1 103 (dk_at dksX9_reckonAll_6 19 rfl rfl)
theorem dX9_reckonAll_163 : decode cX9_reckonAll 163 = .ok (.invokestatic 160, 3) := dk_184 0 160 (dk_at dksX9_reckonAll_7 0 rfl rfl)
theorem dX9_reckonAll_166 : decode cX9_reckonAll 166 = .ok (.ifCond .ne 7, 3) := dk_154 0 7 (dk_at dksX9_reckonAll_7 3 rfl rfl)
theorem dX9_reckonAll_169 : decode cX9_reckonAll 169 = .ok (.iconst 1, 1) := dk_4 (dk_at dksX9_reckonAll_7 6 rfl rfl)
theorem dX9_reckonAll_170 : decode cX9_reckonAll 170 = .ok (.goto 4, 3) := dk_167 0 4 (dk_at dksX9_reckonAll_7 7 rfl rfl)
theorem dX9_reckonAll_173 : decode cX9_reckonAll 173 = .ok (.iconst 0, 1) := dk_3 (dk_at dksX9_reckonAll_7 10 rfl rfl)
theorem dX9_reckonAll_174 : decode cX9_reckonAll 174 = .ok (.putfield 347, 3) := dk_181 1 91 (dk_at dksX9_reckonAll_7 11 rfl rfl)
theorem dX9_reckonAll_177 : decode cX9_reckonAll 177 = .ok (.goto 65, 3) := dk_167 0 65 (dk_at dksX9_reckonAll_7 14 rfl rfl)
theorem dX9_reckonAll_180 : decode cX9_reckonAll 180 = .ok (.iload 5, 2) := dk_21 5 (dk_at dksX9_reckonAll_7 17 rfl rfl)
theorem dX9_reckonAll_182 : decode cX9_reckonAll 182 = .ok (.bipush 27, 2) := dk_16 27 (dk_at dksX9_reckonAll_7 19 rfl rfl)
theorem dX9_reckonAll_184 : decode cX9_reckonAll 184 = .ok (.if_icmp .ne 24, 3) := dk_160 0 24 (dk_at dksX9_reckonAll_7 21 rfl rfl)
theorem dX9_reckonAll_187 : decode cX9_reckonAll 187 = .ok (.aload_n 0, 1) := dk_42 (dk_at dksX9_reckonAll_8 0 rfl rfl)
theorem dX9_reckonAll_188 : decode cX9_reckonAll 188 = .ok (.getfield 81, 3) := dk_180 0 81 (dk_at dksX9_reckonAll_8 1 rfl rfl)
theorem dX9_reckonAll_191 : decode cX9_reckonAll 191 = .ok (.iload_n 3, 1) := dk_29 (dk_at dksX9_reckonAll_8 4 rfl rfl)
theorem dX9_reckonAll_192 : decode cX9_reckonAll 192 = .ok (.iconst 1, 1) := dk_4 (dk_at dksX9_reckonAll_8 5 rfl rfl)
theorem dX9_reckonAll_193 : decode cX9_reckonAll 193 = .ok (.isub, 1) := dk_100 (dk_at dksX9_reckonAll_8 6 rfl rfl)
theorem dX9_reckonAll_194 : decode cX9_reckonAll 194 = .ok (.lconst 1, 1) := dk_10 (dk_at dksX9_reckonAll_8 7 rfl rfl)
theorem dX9_reckonAll_195 : decode cX9_reckonAll 195 = .ok (.aload_n 0, 1) := dk_42 (dk_at dksX9_reckonAll_8 8 rfl rfl)
theorem dX9_reckonAll_196 : decode cX9_reckonAll 196 = .ok (.getfield 81, 3) := dk_180 0 81 (dk_at dksX9_reckonAll_8 9 rfl rfl)
theorem dX9_reckonAll_199 : decode cX9_reckonAll 199 = .ok (.iload_n 3, 1) := dk_29 (dk_at dksX9_reckonAll_8 12 rfl rfl)
theorem dX9_reckonAll_200 : decode cX9_reckonAll 200 = .ok (.iconst 1, 1) := dk_4 (dk_at dksX9_reckonAll_8 13 rfl rfl)
theorem dX9_reckonAll_201 : decode cX9_reckonAll 201 = .ok (.isub, 1) := dk_100 (dk_at dksX9_reckonAll_8 14 rfl rfl)
theorem dX9_reckonAll_202 : decode cX9_reckonAll 202 = .ok (.laload, 1) := dk_47 (dk_at dksX9_reckonAll_8 15 rfl rfl)
theorem dX9_reckonAll_203 : decode cX9_reckonAll 203 = .ok (.lsub, 1) := dk_101 (dk_at dksX9_reckonAll_8 16 rfl rfl)
theorem dX9_reckonAll_204 : decode cX9_reckonAll 204 = .ok (.lastore, 1) := dk_80 (dk_at dksX9_reckonAll_8 17 rfl rfl)
theorem dX9_reckonAll_205 : decode cX9_reckonAll 205 = .ok (.goto 37, 3) := dk_167 0 37 (dk_at dksX9_reckonAll_8 18 rfl rfl)
theorem dX9_reckonAll_208 : decode cX9_reckonAll 208 = .ok (.aload_n 0, 1) := dk_42 (dk_at dksX9_reckonAll_8 21 rfl rfl)
theorem dX9_reckonAll_209 : decode cX9_reckonAll 209 = .ok (.getfield 81, 3) := dk_180 0 81 (dk_at dksX9_reckonAll_9 0 rfl rfl)
theorem dX9_reckonAll_212 : decode cX9_reckonAll 212 = .ok (.iload_n 3, 1) := dk_29 (dk_at dksX9_reckonAll_9 3 rfl rfl)
theorem dX9_reckonAll_213 : decode cX9_reckonAll 213 = .ok (.iconst 1, 1) := dk_4 (dk_at dksX9_reckonAll_9 4 rfl rfl)
theorem dX9_reckonAll_214 : decode cX9_reckonAll 214 = .ok (.isub, 1) := dk_100 (dk_at dksX9_reckonAll_9 5 rfl rfl)
theorem dX9_reckonAll_215 : decode cX9_reckonAll 215 = .ok (.laload, 1) := dk_47 (dk_at dksX9_reckonAll_9 6 rfl rfl)
theorem dX9_reckonAll_216 : decode cX9_reckonAll 216 = .ok (.iload 5, 2) := dk_21 5 (dk_at dksX9_reckonAll_9 7 rfl rfl)
theorem dX9_reckonAll_218 : decode cX9_reckonAll 218 = .ok (.bipush 28, 2) := dk_16 28 (dk_at dksX9_reckonAll_9 9 rfl rfl)
theorem dX9_reckonAll_220 : decode cX9_reckonAll 220 = .ok (.if_icmp .ne 7, 3) := dk_160 0 7 (dk_at dksX9_reckonAll_9 11 rfl rfl)
theorem dX9_reckonAll_223 : decode cX9_reckonAll 223 = .ok (.lconst 0, 1) := dk_9 (dk_at dksX9_reckonAll_9 14 rfl rfl)
theorem dX9_reckonAll_224 : decode cX9_reckonAll 224 = .ok (.goto 4, 3) := dk_167 0 4 (dk_at dksX9_reckonAll_9 15 rfl rfl)
theorem dX9_reckonAll_227 : decode cX9_reckonAll 227 = .ok (.lconst 1, 1) := dk_10 (dk_at dksX9_reckonAll_9 18 rfl rfl)
theorem dX9_reckonAll_228 : decode cX9_reckonAll 228 = .ok (.lcmp, 1) := dk_148 (dk_at dksX9_reckonAll_9 19 rfl rfl)
theorem dX9_reckonAll_229 : decode cX9_reckonAll 229 = .ok (.ifCond .ne 10, 3) := dk_154 0 10 (dk_at dksX9_reckonAll_9 20 rfl rfl)
theorem dX9_reckonAll_232 : decode cX9_reckonAll 232 = .ok (.iload 6, 2) := dk_21 6 (dk_at dksX9_reckonAll_10 0 rfl rfl)
theorem dX9_reckonAll_234 : decode cX9_reckonAll 234 = .ok (.istore 4, 2) := dk_54 4 (dk_at dksX9_reckonAll_10 2 rfl rfl)
theorem dX9_reckonAll_236 : decode cX9_reckonAll 236 = .ok (.goto 6, 3) := dk_167 0 6 (dk_at dksX9_reckonAll_10 4 rfl rfl)
theorem dX9_reckonAll_239 : decode cX9_reckonAll 239 = .ok (.iinc 3 (-1), 3) := dk_132 3 255 (dk_at dksX9_reckonAll_10 7 rfl rfl)
theorem dX9_reckonAll_242 : decode cX9_reckonAll 242 = .ok (.goto (-232), 3) := dk_167 255 24 (dk_at dksX9_reckonAll_10 10 rfl rfl)
theorem dX9_reckonAll_245 : decode cX9_reckonAll 245 = .ok (.aload_n 0, 1) := dk_42 (dk_at dksX9_reckonAll_10 13 rfl rfl)
theorem dX9_reckonAll_246 : decode cX9_reckonAll 246 = .ok (.iload_n 3, 1) := dk_29 (dk_at dksX9_reckonAll_10 14 rfl rfl)
theorem dX9_reckonAll_247 : decode cX9_reckonAll 247 = .ok (.ifCond .le 12, 3) := dk_158 0 12 (dk_at dksX9_reckonAll_10 15 rfl rfl)
theorem dX9_reckonAll_250 : decode cX9_reckonAll 250 = .ok (.aload_n 0, 1) := dk_42 (dk_at dksX9_reckonAll_10 18 rfl rfl)
theorem dX9_reckonAll_251 : decode cX9_reckonAll 251 = .ok (.getfield 81, 3) := dk_180 0 81 (dk_at dksX9_reckonAll_10 19 rfl rfl)
theorem dX9_reckonAll_254 : decode cX9_reckonAll 254 = .ok (.iconst 0, 1) := dk_3 (dk_at dksX9_reckonAll_10 22 rfl rfl)
theorem dX9_reckonAll_255 : decode cX9_reckonAll 255 = .ok (.laload, 1) := dk_47 (dk_at dksX9_reckonAll_10 23 rfl rfl)
theorem dX9_reckonAll_256 : decode cX9_reckonAll 256 = .ok (.goto 4, 3) := dk_167 0 4 (dk_at dksX9_reckonAll_11 0 rfl rfl)
theorem dX9_reckonAll_259 : decode cX9_reckonAll 259 = .ok (.lconst 0, 1) := dk_9 (dk_at dksX9_reckonAll_11 3 rfl rfl)
theorem dX9_reckonAll_260 : decode cX9_reckonAll 260 = .ok (.putfield 361, 3) := dk_181 1 105 (dk_at dksX9_reckonAll_11 4 rfl rfl)
theorem dX9_reckonAll_263 : decode cX9_reckonAll 263 = .ok (.return_, 1) := dk_177 (dk_at dksX9_reckonAll_11 7 rfl rfl)
abbrev cX9_reckon : ByteArray := prog_23_method_56_code
def yX9_reckon : MethodName := ⟨RX9, "reckon", "(IJJ)J"⟩
def dkwX9_reckon_5 : List UInt8 := [173, 32, 22, 4, 148, 154, 0, 7, 10, 167, 0, 4, 9, 173]
abbrev dktX9_reckon_5 : List UInt8 := dkwX9_reckon_5 ++ []
def dkwX9_reckon_4 : List UInt8 := [22, 4, 148, 156, 0, 7, 10, 167, 0, 4, 9, 173, 32, 22, 4, 148, 158, 0, 7, 10, 167, 0, 4, 9]
abbrev dktX9_reckon_4 : List UInt8 := dkwX9_reckon_4 ++ dktX9_reckon_5
def dkwX9_reckon_3 : List UInt8 := [167, 0, 4, 3, 181, 1, 91, 42, 180, 1, 91, 153, 0, 7, 9, 167, 0, 7, 32, 22, 4, 109, 173, 32]
abbrev dktX9_reckon_3 : List UInt8 := dkwX9_reckon_3 ++ dktX9_reckon_4
def dkwX9_reckon_2 : List UInt8 := [32, 22, 4, 97, 173, 32, 22, 4, 101, 173, 32, 22, 4, 105, 173, 42, 22, 4, 9, 148, 154, 0, 7, 4]
abbrev dktX9_reckon_2 : List UInt8 := dkwX9_reckon_2 ++ dktX9_reckon_3
def dkwX9_reckon_1 : List UInt8 := [170, 0, 0, 0, 0, 0, 112, 0, 0, 0, 20, 0, 0, 0, 25, 0, 0, 0, 39, 0, 0, 0, 44, 0, 0, 0, 49, 0, 0, 0, 54, 0, 0, 0, 86, 0, 0, 0, 99]
abbrev dktX9_reckon_1 : List UInt8 := dkwX9_reckon_1 ++ dktX9_reckon_2
def dkwX9_reckon_0 : List UInt8 := [27]
abbrev dktX9_reckon_0 : List UInt8 := dkwX9_reckon_0 ++ dktX9_reckon_1
theorem dksX9_reckon_0 : cX9_reckon.data.toList.drop 0 = dktX9_reckon_0 := by decide +kernel
theorem dksX9_reckon_1 : cX9_reckon.data.toList.drop 1 = dktX9_reckon_1 := dk_seg dksX9_reckon_0 1 rfl rfl
theorem dksX9_reckon_2 : cX9_reckon.data.toList.drop 40 = dktX9_reckon_2 := dk_seg dksX9_reckon_1 39 rfl rfl
theorem dksX9_reckon_3 : cX9_reckon.data.toList.drop 64 = dktX9_reckon_3 := dk_seg dksX9_reckon_2 24 rfl rfl
theorem dksX9_reckon_4 : cX9_reckon.data.toList.drop 88 = dktX9_reckon_4 := dk_seg dksX9_reckon_3 24 rfl rfl
theorem dksX9_reckon_5 : cX9_reckon.data.toList.drop 112 = dktX9_reckon_5 := dk_seg dksX9_reckon_4 24 rfl rfl
theorem dX9_reckon_0 : decode cX9_reckon 0 = .ok (.iload_n 1, 1) := dk_27 (dk_at dksX9_reckon_0 0 rfl rfl)
theorem dX9_reckon_1 : decode cX9_reckon 1 = .ok (.tableswitch 112 20 25 #[39, 44, 49, 54, 86, 99], 39) := by decide +kernel
theorem dX9_reckon_40 : decode cX9_reckon 40 = .ok (.lload_n 2, 1) := dk_32 (dk_at dksX9_reckon_2 0 rfl rfl)
theorem dX9_reckon_41 : decode cX9_reckon 41 = .ok (.lload 4, 2) := dk_22 4 (dk_at dksX9_reckon_2 1 rfl rfl)
theorem dX9_reckon_43 : decode cX9_reckon 43 = .ok (.ladd, 1) := dk_97 (dk_at dksX9_reckon_2 3 rfl rfl)
theorem dX9_reckon_44 : decode cX9_reckon 44 = .ok (.lreturn, 1) := dk_173 (dk_at dksX9_reckon_2 4 rfl rfl)
theorem dX9_reckon_45 : decode cX9_reckon 45 = .ok (.lload_n 2, 1) := dk_32 (dk_at dksX9_reckon_2 5 rfl rfl)
theorem dX9_reckon_46 : decode cX9_reckon 46 = .ok (.lload 4, 2) := dk_22 4 (dk_at dksX9_reckon_2 6 rfl rfl)
theorem dX9_reckon_48 : decode cX9_reckon 48 = .ok (.lsub, 1) := dk_101 (dk_at dksX9_reckon_2 8 rfl rfl)
theorem dX9_reckon_49 : decode cX9_reckon 49 = .ok (.lreturn, 1) := dk_173 (dk_at dksX9_reckon_2 9 rfl rfl)
theorem dX9_reckon_50 : decode cX9_reckon 50 = .ok (.lload_n 2, 1) := dk_32 (dk_at dksX9_reckon_2 10 rfl rfl)
theorem dX9_reckon_51 : decode cX9_reckon 51 = .ok (.lload 4, 2) := dk_22 4 (dk_at dksX9_reckon_2 11 rfl rfl)
theorem dX9_reckon_53 : decode cX9_reckon 53 = .ok (.lmul, 1) := dk_105 (dk_at dksX9_reckon_2 13 rfl rfl)
theorem dX9_reckon_54 : decode cX9_reckon 54 = .ok (.lreturn, 1) := dk_173 (dk_at dksX9_reckon_2 14 rfl rfl)
theorem dX9_reckon_55 : decode cX9_reckon 55 = .ok (.aload_n 0, 1) := dk_42 (dk_at dksX9_reckon_2 15 rfl rfl)
theorem dX9_reckon_56 : decode cX9_reckon 56 = .ok (.lload 4, 2) := dk_22 4 (dk_at dksX9_reckon_2 16 rfl rfl)
theorem dX9_reckon_58 : decode cX9_reckon 58 = .ok (.lconst 0, 1) := dk_9 (dk_at dksX9_reckon_2 18 rfl rfl)
theorem dX9_reckon_59 : decode cX9_reckon 59 = .ok (.lcmp, 1) := dk_148 (dk_at dksX9_reckon_2 19 rfl rfl)
theorem dX9_reckon_60 : decode cX9_reckon 60 = .ok (.ifCond .ne 7, 3) := dk_154 0 7 (dk_at dksX9_reckon_2 20 rfl rfl)
theorem dX9_reckon_63 : decode cX9_reckon 63 = .ok (.iconst 1, 1) := dk_4 (dk_at dksX9_reckon_2 23 rfl rfl)
theorem dX9_reckon_64 : decode cX9_reckon 64 = .ok (.goto 4, 3) := dk_167 0 4 (dk_at dksX9_reckon_3 0 rfl rfl)
theorem dX9_reckon_67 : decode cX9_reckon 67 = .ok (.iconst 0, 1) := dk_3 (dk_at dksX9_reckon_3 3 rfl rfl)
theorem dX9_reckon_68 : decode cX9_reckon 68 = .ok (.putfield 347, 3) := dk_181 1 91 (dk_at dksX9_reckon_3 4 rfl rfl)
theorem dX9_reckon_71 : decode cX9_reckon 71 = .ok (.aload_n 0, 1) := dk_42 (dk_at dksX9_reckon_3 7 rfl rfl)
theorem dX9_reckon_72 : decode cX9_reckon 72 = .ok (.getfield 347, 3) := dk_180 1 91 (dk_at dksX9_reckon_3 8 rfl rfl)
theorem dX9_reckon_75 : decode cX9_reckon 75 = .ok (.ifCond .eq 7, 3) := dk_153 0 7 (dk_at dksX9_reckon_3 11 rfl rfl)
theorem dX9_reckon_78 : decode cX9_reckon 78 = .ok (.lconst 0, 1) := dk_9 (dk_at dksX9_reckon_3 14 rfl rfl)
theorem dX9_reckon_79 : decode cX9_reckon 79 = .ok (.goto 7, 3) := dk_167 0 7 (dk_at dksX9_reckon_3 15 rfl rfl)
theorem dX9_reckon_82 : decode cX9_reckon 82 = .ok (.lload_n 2, 1) := dk_32 (dk_at dksX9_reckon_3 18 rfl rfl)
theorem dX9_reckon_83 : decode cX9_reckon 83 = .ok (.lload 4, 2) := dk_22 4 (dk_at dksX9_reckon_3 19 rfl rfl)
theorem dX9_reckon_85 : decode cX9_reckon 85 = .ok (.ldiv, 1) := dk_109 (dk_at dksX9_reckon_3 21 rfl rfl)
theorem dX9_reckon_86 : decode cX9_reckon 86 = .ok (.lreturn, 1) := dk_173 (dk_at dksX9_reckon_3 22 rfl rfl)
theorem dX9_reckon_87 : decode cX9_reckon 87 = .ok (.lload_n 2, 1) := dk_32 (dk_at dksX9_reckon_3 23 rfl rfl)
theorem dX9_reckon_88 : decode cX9_reckon 88 = .ok (.lload 4, 2) := dk_22 4 (dk_at dksX9_reckon_4 0 rfl rfl)
theorem dX9_reckon_90 : decode cX9_reckon 90 = .ok (.lcmp, 1) := dk_148 (dk_at dksX9_reckon_4 2 rfl rfl)
theorem dX9_reckon_91 : decode cX9_reckon 91 = .ok (.ifCond .ge 7, 3) := dk_156 0 7 (dk_at dksX9_reckon_4 3 rfl rfl)
theorem dX9_reckon_94 : decode cX9_reckon 94 = .ok (.lconst 1, 1) := dk_10 (dk_at dksX9_reckon_4 6 rfl rfl)
theorem dX9_reckon_95 : decode cX9_reckon 95 = .ok (.goto 4, 3) := dk_167 0 4 (dk_at dksX9_reckon_4 7 rfl rfl)
theorem dX9_reckon_98 : decode cX9_reckon 98 = .ok (.lconst 0, 1) := dk_9 (dk_at dksX9_reckon_4 10 rfl rfl)
theorem dX9_reckon_99 : decode cX9_reckon 99 = .ok (.lreturn, 1) := dk_173 (dk_at dksX9_reckon_4 11 rfl rfl)
theorem dX9_reckon_100 : decode cX9_reckon 100 = .ok (.lload_n 2, 1) := dk_32 (dk_at dksX9_reckon_4 12 rfl rfl)
theorem dX9_reckon_101 : decode cX9_reckon 101 = .ok (.lload 4, 2) := dk_22 4 (dk_at dksX9_reckon_4 13 rfl rfl)
theorem dX9_reckon_103 : decode cX9_reckon 103 = .ok (.lcmp, 1) := dk_148 (dk_at dksX9_reckon_4 15 rfl rfl)
theorem dX9_reckon_104 : decode cX9_reckon 104 = .ok (.ifCond .le 7, 3) := dk_158 0 7 (dk_at dksX9_reckon_4 16 rfl rfl)
theorem dX9_reckon_107 : decode cX9_reckon 107 = .ok (.lconst 1, 1) := dk_10 (dk_at dksX9_reckon_4 19 rfl rfl)
theorem dX9_reckon_108 : decode cX9_reckon 108 = .ok (.goto 4, 3) := dk_167 0 4 (dk_at dksX9_reckon_4 20 rfl rfl)
theorem dX9_reckon_111 : decode cX9_reckon 111 = .ok (.lconst 0, 1) := dk_9 (dk_at dksX9_reckon_4 23 rfl rfl)
theorem dX9_reckon_112 : decode cX9_reckon 112 = .ok (.lreturn, 1) := dk_173 (dk_at dksX9_reckon_5 0 rfl rfl)
theorem dX9_reckon_113 : decode cX9_reckon 113 = .ok (.lload_n 2, 1) := dk_32 (dk_at dksX9_reckon_5 1 rfl rfl)
theorem dX9_reckon_114 : decode cX9_reckon 114 = .ok (.lload 4, 2) := dk_22 4 (dk_at dksX9_reckon_5 2 rfl rfl)
theorem dX9_reckon_116 : decode cX9_reckon 116 = .ok (.lcmp, 1) := dk_148 (dk_at dksX9_reckon_5 4 rfl rfl)
theorem dX9_reckon_117 : decode cX9_reckon 117 = .ok (.ifCond .ne 7, 3) := dk_154 0 7 (dk_at dksX9_reckon_5 5 rfl rfl)
theorem dX9_reckon_120 : decode cX9_reckon 120 = .ok (.lconst 1, 1) := dk_10 (dk_at dksX9_reckon_5 8 rfl rfl)
theorem dX9_reckon_121 : decode cX9_reckon 121 = .ok (.goto 4, 3) := dk_167 0 4 (dk_at dksX9_reckon_5 9 rfl rfl)
theorem dX9_reckon_124 : decode cX9_reckon 124 = .ok (.lconst 0, 1) := dk_9 (dk_at dksX9_reckon_5 12 rfl rfl)
theorem dX9_reckon_125 : decode cX9_reckon 125 = .ok (.lreturn, 1) := dk_173 (dk_at dksX9_reckon_5 13 rfl rfl)
abbrev cX9_luresOf : ByteArray := prog_23_method_63_code
def yX9_luresOf : MethodName := ⟨RX9, "luresOf", "(IIII)J"⟩
def dkwX9_luresOf_1 : List UInt8 := [133, 182, 1, 129, 173]
abbrev dktX9_luresOf_1 : List UInt8 := dkwX9_luresOf_1 ++ []
def dkwX9_luresOf_0 : List UInt8 := [42, 3, 27, 28, 29, 21, 4, 42, 180, 0, 13, 16, 80, 28, 96, 46, 42, 28, 21, 4, 182, 1, 120, 96]
abbrev dktX9_luresOf_0 : List UInt8 := dkwX9_luresOf_0 ++ dktX9_luresOf_1
theorem dksX9_luresOf_0 : cX9_luresOf.data.toList.drop 0 = dktX9_luresOf_0 := by decide +kernel
theorem dksX9_luresOf_1 : cX9_luresOf.data.toList.drop 24 = dktX9_luresOf_1 := dk_seg dksX9_luresOf_0 24 rfl rfl
theorem dX9_luresOf_0 : decode cX9_luresOf 0 = .ok (.aload_n 0, 1) := dk_42 (dk_at dksX9_luresOf_0 0 rfl rfl)
theorem dX9_luresOf_1 : decode cX9_luresOf 1 = .ok (.iconst 0, 1) := dk_3 (dk_at dksX9_luresOf_0 1 rfl rfl)
theorem dX9_luresOf_2 : decode cX9_luresOf 2 = .ok (.iload_n 1, 1) := dk_27 (dk_at dksX9_luresOf_0 2 rfl rfl)
theorem dX9_luresOf_3 : decode cX9_luresOf 3 = .ok (.iload_n 2, 1) := dk_28 (dk_at dksX9_luresOf_0 3 rfl rfl)
theorem dX9_luresOf_4 : decode cX9_luresOf 4 = .ok (.iload_n 3, 1) := dk_29 (dk_at dksX9_luresOf_0 4 rfl rfl)
theorem dX9_luresOf_5 : decode cX9_luresOf 5 = .ok (.iload 4, 2) := dk_21 4 (dk_at dksX9_luresOf_0 5 rfl rfl)
theorem dX9_luresOf_7 : decode cX9_luresOf 7 = .ok (.aload_n 0, 1) := dk_42 (dk_at dksX9_luresOf_0 7 rfl rfl)
theorem dX9_luresOf_8 : decode cX9_luresOf 8 = .ok (.getfield 13, 3) := dk_180 0 13 (dk_at dksX9_luresOf_0 8 rfl rfl)
theorem dX9_luresOf_11 : decode cX9_luresOf 11 = .ok (.bipush 80, 2) := dk_16 80 (dk_at dksX9_luresOf_0 11 rfl rfl)
theorem dX9_luresOf_13 : decode cX9_luresOf 13 = .ok (.iload_n 2, 1) := dk_28 (dk_at dksX9_luresOf_0 13 rfl rfl)
theorem dX9_luresOf_14 : decode cX9_luresOf 14 = .ok (.iadd, 1) := dk_96 (dk_at dksX9_luresOf_0 14 rfl rfl)
theorem dX9_luresOf_15 : decode cX9_luresOf 15 = .ok (.iaload, 1) := dk_46 (dk_at dksX9_luresOf_0 15 rfl rfl)
theorem dX9_luresOf_16 : decode cX9_luresOf 16 = .ok (.aload_n 0, 1) := dk_42 (dk_at dksX9_luresOf_0 16 rfl rfl)
theorem dX9_luresOf_17 : decode cX9_luresOf 17 = .ok (.iload_n 2, 1) := dk_28 (dk_at dksX9_luresOf_0 17 rfl rfl)
theorem dX9_luresOf_18 : decode cX9_luresOf 18 = .ok (.iload 4, 2) := dk_21 4 (dk_at dksX9_luresOf_0 18 rfl rfl)
theorem dX9_luresOf_20 : decode cX9_luresOf 20 = .ok (.invokevirtual 376, 3) := dk_182 1 120 (dk_at dksX9_luresOf_0 20 rfl rfl)
theorem dX9_luresOf_23 : decode cX9_luresOf 23 = .ok (.iadd, 1) := dk_96 (dk_at dksX9_luresOf_0 23 rfl rfl)
theorem dX9_luresOf_24 : decode cX9_luresOf 24 = .ok (.i2l, 1) := dk_133 (dk_at dksX9_luresOf_1 0 rfl rfl)
theorem dX9_luresOf_25 : decode cX9_luresOf 25 = .ok (.invokevirtual 385, 3) := dk_182 1 129 (dk_at dksX9_luresOf_1 1 rfl rfl)
theorem dX9_luresOf_28 : decode cX9_luresOf 28 = .ok (.lreturn, 1) := dk_173 (dk_at dksX9_luresOf_1 4 rfl rfl)
abbrev cX9_day : ByteArray := prog_23_method_69_code
def yX9_day : MethodName := ⟨RX9, "day", "(II)I"⟩
def dkwX9_day_3 : List UInt8 := [180, 0, 87, 27, 46, 167, 0, 18, 28, 4, 160, 0, 7, 29, 167, 0, 9, 42, 180, 0, 96, 27, 46, 172]
abbrev dktX9_day_3 : List UInt8 := dkwX9_day_3 ++ []
def dkwX9_day_2 : List UInt8 := [180, 0, 93, 21, 4, 46, 27, 122, 4, 126, 96, 62, 132, 4, 1, 167, 255, 232, 28, 154, 0, 12, 42]
abbrev dktX9_day_2 : List UInt8 := dkwX9_day_2 ++ dktX9_day_3
def dkwX9_day_1 : List UInt8 := [154, 0, 5, 2, 172, 42, 182, 1, 153, 3, 62, 3, 54, 4, 21, 4, 16, 96, 162, 0, 23, 29, 42]
abbrev dktX9_day_1 : List UInt8 := dkwX9_day_1 ++ dktX9_day_2
def dkwX9_day_0 : List UInt8 := [42, 3, 181, 0, 150, 42, 27, 182, 0, 197, 153, 0, 15, 28, 133, 9, 20, 1, 156, 184, 0, 160]
abbrev dktX9_day_0 : List UInt8 := dkwX9_day_0 ++ dktX9_day_1
theorem dksX9_day_0 : cX9_day.data.toList.drop 0 = dktX9_day_0 := by decide +kernel
theorem dksX9_day_1 : cX9_day.data.toList.drop 22 = dktX9_day_1 := dk_seg dksX9_day_0 22 rfl rfl
theorem dksX9_day_2 : cX9_day.data.toList.drop 45 = dktX9_day_2 := dk_seg dksX9_day_1 23 rfl rfl
theorem dksX9_day_3 : cX9_day.data.toList.drop 68 = dktX9_day_3 := dk_seg dksX9_day_2 23 rfl rfl
theorem dX9_day_0 : decode cX9_day 0 = .ok (.aload_n 0, 1) := dk_42 (dk_at dksX9_day_0 0 rfl rfl)
theorem dX9_day_1 : decode cX9_day 1 = .ok (.iconst 0, 1) := dk_3 (dk_at dksX9_day_0 1 rfl rfl)
theorem dX9_day_2 : decode cX9_day 2 = .ok (.putfield 150, 3) := dk_181 0 150 (dk_at dksX9_day_0 2 rfl rfl)
theorem dX9_day_5 : decode cX9_day 5 = .ok (.aload_n 0, 1) := dk_42 (dk_at dksX9_day_0 5 rfl rfl)
theorem dX9_day_6 : decode cX9_day 6 = .ok (.iload_n 1, 1) := dk_27 (dk_at dksX9_day_0 6 rfl rfl)
theorem dX9_day_7 : decode cX9_day 7 = .ok (.invokevirtual 197, 3) := dk_182 0 197 (dk_at dksX9_day_0 7 rfl rfl)
theorem dX9_day_10 : decode cX9_day 10 = .ok (.ifCond .eq 15, 3) := dk_153 0 15 (dk_at dksX9_day_0 10 rfl rfl)
theorem dX9_day_13 : decode cX9_day 13 = .ok (.iload_n 2, 1) := dk_28 (dk_at dksX9_day_0 13 rfl rfl)
theorem dX9_day_14 : decode cX9_day 14 = .ok (.i2l, 1) := dk_133 (dk_at dksX9_day_0 14 rfl rfl)
theorem dX9_day_15 : decode cX9_day 15 = .ok (.lconst 0, 1) := dk_9 (dk_at dksX9_day_0 15 rfl rfl)
theorem dX9_day_16 : decode cX9_day 16 = .ok (.ldc2_w 412, 3) := dk_20 1 156 (dk_at dksX9_day_0 16 rfl rfl)
theorem dX9_day_19 : decode cX9_day 19 = .ok (.invokestatic 160, 3) := dk_184 0 160 (dk_at dksX9_day_0 19 rfl rfl)
theorem dX9_day_22 : decode cX9_day 22 = .ok (.ifCond .ne 5, 3) := dk_154 0 5 (dk_at dksX9_day_1 0 rfl rfl)
theorem dX9_day_25 : decode cX9_day 25 = .ok (.iconst (-1), 1) := dk_2 (dk_at dksX9_day_1 3 rfl rfl)
theorem dX9_day_26 : decode cX9_day 26 = .ok (.ireturn, 1) := dk_172 (dk_at dksX9_day_1 4 rfl rfl)
theorem dX9_day_27 : decode cX9_day 27 = .ok (.aload_n 0, 1) := dk_42 (dk_at dksX9_day_1 5 rfl rfl)
theorem dX9_day_28 : decode cX9_day 28 = .ok (.invokevirtual 409, 3) := dk_182 1 153 (dk_at dksX9_day_1 6 rfl rfl)
theorem dX9_day_31 : decode cX9_day 31 = .ok (.iconst 0, 1) := dk_3 (dk_at dksX9_day_1 9 rfl rfl)
theorem dX9_day_32 : decode cX9_day 32 = .ok (.istore_n 3, 1) := dk_62 (dk_at dksX9_day_1 10 rfl rfl)
theorem dX9_day_33 : decode cX9_day 33 = .ok (.iconst 0, 1) := dk_3 (dk_at dksX9_day_1 11 rfl rfl)
theorem dX9_day_34 : decode cX9_day 34 = .ok (.istore 4, 2) := dk_54 4 (dk_at dksX9_day_1 12 rfl rfl)
theorem dX9_day_36 : decode cX9_day 36 = .ok (.iload 4, 2) := dk_21 4 (dk_at dksX9_day_1 14 rfl rfl)
theorem dX9_day_38 : decode cX9_day 38 = .ok (.bipush 96, 2) := dk_16 96 (dk_at dksX9_day_1 16 rfl rfl)
theorem dX9_day_40 : decode cX9_day 40 = .ok (.if_icmp .ge 23, 3) := dk_162 0 23 (dk_at dksX9_day_1 18 rfl rfl)
theorem dX9_day_43 : decode cX9_day 43 = .ok (.iload_n 3, 1) := dk_29 (dk_at dksX9_day_1 21 rfl rfl)
theorem dX9_day_44 : decode cX9_day 44 = .ok (.aload_n 0, 1) := dk_42 (dk_at dksX9_day_1 22 rfl rfl)
theorem dX9_day_45 : decode cX9_day 45 = .ok (.getfield 93, 3) := dk_180 0 93 (dk_at dksX9_day_2 0 rfl rfl)
theorem dX9_day_48 : decode cX9_day 48 = .ok (.iload 4, 2) := dk_21 4 (dk_at dksX9_day_2 3 rfl rfl)
theorem dX9_day_50 : decode cX9_day 50 = .ok (.iaload, 1) := dk_46 (dk_at dksX9_day_2 5 rfl rfl)
theorem dX9_day_51 : decode cX9_day 51 = .ok (.iload_n 1, 1) := dk_27 (dk_at dksX9_day_2 6 rfl rfl)
theorem dX9_day_52 : decode cX9_day 52 = .ok (.ishr, 1) := dk_122 (dk_at dksX9_day_2 7 rfl rfl)
theorem dX9_day_53 : decode cX9_day 53 = .ok (.iconst 1, 1) := dk_4 (dk_at dksX9_day_2 8 rfl rfl)
theorem dX9_day_54 : decode cX9_day 54 = .ok (.iand, 1) := dk_126 (dk_at dksX9_day_2 9 rfl rfl)
theorem dX9_day_55 : decode cX9_day 55 = .ok (.iadd, 1) := dk_96 (dk_at dksX9_day_2 10 rfl rfl)
theorem dX9_day_56 : decode cX9_day 56 = .ok (.istore_n 3, 1) := dk_62 (dk_at dksX9_day_2 11 rfl rfl)
theorem dX9_day_57 : decode cX9_day 57 = .ok (.iinc 4 1, 3) := dk_132 4 1 (dk_at dksX9_day_2 12 rfl rfl)
theorem dX9_day_60 : decode cX9_day 60 = .ok (.goto (-24), 3) := dk_167 255 232 (dk_at dksX9_day_2 15 rfl rfl)
theorem dX9_day_63 : decode cX9_day 63 = .ok (.iload_n 2, 1) := dk_28 (dk_at dksX9_day_2 18 rfl rfl)
theorem dX9_day_64 : decode cX9_day 64 = .ok (.ifCond .ne 12, 3) := dk_154 0 12 (dk_at dksX9_day_2 19 rfl rfl)
theorem dX9_day_67 : decode cX9_day 67 = .ok (.aload_n 0, 1) := dk_42 (dk_at dksX9_day_2 22 rfl rfl)
theorem dX9_day_68 : decode cX9_day 68 = .ok (.getfield 87, 3) := dk_180 0 87 (dk_at dksX9_day_3 0 rfl rfl)
theorem dX9_day_71 : decode cX9_day 71 = .ok (.iload_n 1, 1) := dk_27 (dk_at dksX9_day_3 3 rfl rfl)
theorem dX9_day_72 : decode cX9_day 72 = .ok (.iaload, 1) := dk_46 (dk_at dksX9_day_3 4 rfl rfl)
theorem dX9_day_73 : decode cX9_day 73 = .ok (.goto 18, 3) := dk_167 0 18 (dk_at dksX9_day_3 5 rfl rfl)
theorem dX9_day_76 : decode cX9_day 76 = .ok (.iload_n 2, 1) := dk_28 (dk_at dksX9_day_3 8 rfl rfl)
theorem dX9_day_77 : decode cX9_day 77 = .ok (.iconst 1, 1) := dk_4 (dk_at dksX9_day_3 9 rfl rfl)
theorem dX9_day_78 : decode cX9_day 78 = .ok (.if_icmp .ne 7, 3) := dk_160 0 7 (dk_at dksX9_day_3 10 rfl rfl)
theorem dX9_day_81 : decode cX9_day 81 = .ok (.iload_n 3, 1) := dk_29 (dk_at dksX9_day_3 13 rfl rfl)
theorem dX9_day_82 : decode cX9_day 82 = .ok (.goto 9, 3) := dk_167 0 9 (dk_at dksX9_day_3 14 rfl rfl)
theorem dX9_day_85 : decode cX9_day 85 = .ok (.aload_n 0, 1) := dk_42 (dk_at dksX9_day_3 17 rfl rfl)
theorem dX9_day_86 : decode cX9_day 86 = .ok (.getfield 96, 3) := dk_180 0 96 (dk_at dksX9_day_3 18 rfl rfl)
theorem dX9_day_89 : decode cX9_day 89 = .ok (.iload_n 1, 1) := dk_27 (dk_at dksX9_day_3 21 rfl rfl)
theorem dX9_day_90 : decode cX9_day 90 = .ok (.iaload, 1) := dk_46 (dk_at dksX9_day_3 22 rfl rfl)
theorem dX9_day_91 : decode cX9_day 91 = .ok (.ireturn, 1) := dk_172 (dk_at dksX9_day_3 23 rfl rfl)
abbrev cX9_trail : ByteArray := prog_23_method_70_code
def yX9_trail : MethodName := ⟨RX9, "trail", "(I)I"⟩
def dkwX9_trail_1 : List UInt8 := [172]
abbrev dktX9_trail_1 : List UInt8 := dkwX9_trail_1 ++ []
def dkwX9_trail_0 : List UInt8 := [42, 3, 181, 0, 150, 27, 184, 0, 173, 154, 0, 5, 2, 172, 42, 182, 1, 153, 42, 180, 0, 93, 27, 46]
abbrev dktX9_trail_0 : List UInt8 := dkwX9_trail_0 ++ dktX9_trail_1
theorem dksX9_trail_0 : cX9_trail.data.toList.drop 0 = dktX9_trail_0 := by decide +kernel
theorem dksX9_trail_1 : cX9_trail.data.toList.drop 24 = dktX9_trail_1 := dk_seg dksX9_trail_0 24 rfl rfl
theorem dX9_trail_0 : decode cX9_trail 0 = .ok (.aload_n 0, 1) := dk_42 (dk_at dksX9_trail_0 0 rfl rfl)
theorem dX9_trail_1 : decode cX9_trail 1 = .ok (.iconst 0, 1) := dk_3 (dk_at dksX9_trail_0 1 rfl rfl)
theorem dX9_trail_2 : decode cX9_trail 2 = .ok (.putfield 150, 3) := dk_181 0 150 (dk_at dksX9_trail_0 2 rfl rfl)
theorem dX9_trail_5 : decode cX9_trail 5 = .ok (.iload_n 1, 1) := dk_27 (dk_at dksX9_trail_0 5 rfl rfl)
theorem dX9_trail_6 : decode cX9_trail 6 = .ok (.invokestatic 173, 3) := dk_184 0 173 (dk_at dksX9_trail_0 6 rfl rfl)
theorem dX9_trail_9 : decode cX9_trail 9 = .ok (.ifCond .ne 5, 3) := dk_154 0 5 (dk_at dksX9_trail_0 9 rfl rfl)
theorem dX9_trail_12 : decode cX9_trail 12 = .ok (.iconst (-1), 1) := dk_2 (dk_at dksX9_trail_0 12 rfl rfl)
theorem dX9_trail_13 : decode cX9_trail 13 = .ok (.ireturn, 1) := dk_172 (dk_at dksX9_trail_0 13 rfl rfl)
theorem dX9_trail_14 : decode cX9_trail 14 = .ok (.aload_n 0, 1) := dk_42 (dk_at dksX9_trail_0 14 rfl rfl)
theorem dX9_trail_15 : decode cX9_trail 15 = .ok (.invokevirtual 409, 3) := dk_182 1 153 (dk_at dksX9_trail_0 15 rfl rfl)
theorem dX9_trail_18 : decode cX9_trail 18 = .ok (.aload_n 0, 1) := dk_42 (dk_at dksX9_trail_0 18 rfl rfl)
theorem dX9_trail_19 : decode cX9_trail 19 = .ok (.getfield 93, 3) := dk_180 0 93 (dk_at dksX9_trail_0 19 rfl rfl)
theorem dX9_trail_22 : decode cX9_trail 22 = .ok (.iload_n 1, 1) := dk_27 (dk_at dksX9_trail_0 22 rfl rfl)
theorem dX9_trail_23 : decode cX9_trail 23 = .ok (.iaload, 1) := dk_46 (dk_at dksX9_trail_0 23 rfl rfl)
theorem dX9_trail_24 : decode cX9_trail 24 = .ok (.ireturn, 1) := dk_172 (dk_at dksX9_trail_1 0 rfl rfl)
abbrev cX9_best : ByteArray := prog_23_method_77_code
def yX9_best : MethodName := ⟨RX9, "best", "(III)I"⟩
def dkwX9_best_3 : List UInt8 := [180, 0, 114, 29, 6, 100, 46, 172]
abbrev dktX9_best_3 : List UInt8 := dkwX9_best_3 ++ []
def dkwX9_best_2 : List UInt8 := [160, 0, 10, 42, 180, 1, 161, 167, 0, 23, 29, 5, 160, 0, 10, 42, 180, 1, 164, 167, 0, 11, 42]
abbrev dktX9_best_2 : List UInt8 := dkwX9_best_2 ++ dktX9_best_3
def dkwX9_best_1 : List UInt8 := [154, 0, 5, 2, 172, 42, 27, 28, 182, 1, 185, 29, 154, 0, 10, 42, 180, 1, 158, 167, 0, 35, 29, 4]
abbrev dktX9_best_1 : List UInt8 := dkwX9_best_1 ++ dktX9_best_2
def dkwX9_best_0 : List UInt8 := [42, 3, 181, 0, 150, 42, 27, 28, 182, 1, 182, 153, 0, 15, 29, 133, 9, 20, 1, 143, 184, 0, 160]
abbrev dktX9_best_0 : List UInt8 := dkwX9_best_0 ++ dktX9_best_1
theorem dksX9_best_0 : cX9_best.data.toList.drop 0 = dktX9_best_0 := by decide +kernel
theorem dksX9_best_1 : cX9_best.data.toList.drop 23 = dktX9_best_1 := dk_seg dksX9_best_0 23 rfl rfl
theorem dksX9_best_2 : cX9_best.data.toList.drop 47 = dktX9_best_2 := dk_seg dksX9_best_1 24 rfl rfl
theorem dksX9_best_3 : cX9_best.data.toList.drop 70 = dktX9_best_3 := dk_seg dksX9_best_2 23 rfl rfl
theorem dX9_best_0 : decode cX9_best 0 = .ok (.aload_n 0, 1) := dk_42 (dk_at dksX9_best_0 0 rfl rfl)
theorem dX9_best_1 : decode cX9_best 1 = .ok (.iconst 0, 1) := dk_3 (dk_at dksX9_best_0 1 rfl rfl)
theorem dX9_best_2 : decode cX9_best 2 = .ok (.putfield 150, 3) := dk_181 0 150 (dk_at dksX9_best_0 2 rfl rfl)
theorem dX9_best_5 : decode cX9_best 5 = .ok (.aload_n 0, 1) := dk_42 (dk_at dksX9_best_0 5 rfl rfl)
theorem dX9_best_6 : decode cX9_best 6 = .ok (.iload_n 1, 1) := dk_27 (dk_at dksX9_best_0 6 rfl rfl)
theorem dX9_best_7 : decode cX9_best 7 = .ok (.iload_n 2, 1) := dk_28 (dk_at dksX9_best_0 7 rfl rfl)
theorem dX9_best_8 : decode cX9_best 8 = .ok (.invokevirtual 438, 3) := dk_182 1 182 (dk_at dksX9_best_0 8 rfl rfl)
theorem dX9_best_11 : decode cX9_best 11 = .ok (.ifCond .eq 15, 3) := dk_153 0 15 (dk_at dksX9_best_0 11 rfl rfl)
theorem dX9_best_14 : decode cX9_best 14 = .ok (.iload_n 3, 1) := dk_29 (dk_at dksX9_best_0 14 rfl rfl)
theorem dX9_best_15 : decode cX9_best 15 = .ok (.i2l, 1) := dk_133 (dk_at dksX9_best_0 15 rfl rfl)
theorem dX9_best_16 : decode cX9_best 16 = .ok (.lconst 0, 1) := dk_9 (dk_at dksX9_best_0 16 rfl rfl)
theorem dX9_best_17 : decode cX9_best 17 = .ok (.ldc2_w 399, 3) := dk_20 1 143 (dk_at dksX9_best_0 17 rfl rfl)
theorem dX9_best_20 : decode cX9_best 20 = .ok (.invokestatic 160, 3) := dk_184 0 160 (dk_at dksX9_best_0 20 rfl rfl)
theorem dX9_best_23 : decode cX9_best 23 = .ok (.ifCond .ne 5, 3) := dk_154 0 5 (dk_at dksX9_best_1 0 rfl rfl)
theorem dX9_best_26 : decode cX9_best 26 = .ok (.iconst (-1), 1) := dk_2 (dk_at dksX9_best_1 3 rfl rfl)
theorem dX9_best_27 : decode cX9_best 27 = .ok (.ireturn, 1) := dk_172 (dk_at dksX9_best_1 4 rfl rfl)
theorem dX9_best_28 : decode cX9_best 28 = .ok (.aload_n 0, 1) := dk_42 (dk_at dksX9_best_1 5 rfl rfl)
theorem dX9_best_29 : decode cX9_best 29 = .ok (.iload_n 1, 1) := dk_27 (dk_at dksX9_best_1 6 rfl rfl)
theorem dX9_best_30 : decode cX9_best 30 = .ok (.iload_n 2, 1) := dk_28 (dk_at dksX9_best_1 7 rfl rfl)
theorem dX9_best_31 : decode cX9_best 31 = .ok (.invokevirtual 441, 3) := dk_182 1 185 (dk_at dksX9_best_1 8 rfl rfl)
theorem dX9_best_34 : decode cX9_best 34 = .ok (.iload_n 3, 1) := dk_29 (dk_at dksX9_best_1 11 rfl rfl)
theorem dX9_best_35 : decode cX9_best 35 = .ok (.ifCond .ne 10, 3) := dk_154 0 10 (dk_at dksX9_best_1 12 rfl rfl)
theorem dX9_best_38 : decode cX9_best 38 = .ok (.aload_n 0, 1) := dk_42 (dk_at dksX9_best_1 15 rfl rfl)
theorem dX9_best_39 : decode cX9_best 39 = .ok (.getfield 414, 3) := dk_180 1 158 (dk_at dksX9_best_1 16 rfl rfl)
theorem dX9_best_42 : decode cX9_best 42 = .ok (.goto 35, 3) := dk_167 0 35 (dk_at dksX9_best_1 19 rfl rfl)
theorem dX9_best_45 : decode cX9_best 45 = .ok (.iload_n 3, 1) := dk_29 (dk_at dksX9_best_1 22 rfl rfl)
theorem dX9_best_46 : decode cX9_best 46 = .ok (.iconst 1, 1) := dk_4 (dk_at dksX9_best_1 23 rfl rfl)
theorem dX9_best_47 : decode cX9_best 47 = .ok (.if_icmp .ne 10, 3) := dk_160 0 10 (dk_at dksX9_best_2 0 rfl rfl)
theorem dX9_best_50 : decode cX9_best 50 = .ok (.aload_n 0, 1) := dk_42 (dk_at dksX9_best_2 3 rfl rfl)
theorem dX9_best_51 : decode cX9_best 51 = .ok (.getfield 417, 3) := dk_180 1 161 (dk_at dksX9_best_2 4 rfl rfl)
theorem dX9_best_54 : decode cX9_best 54 = .ok (.goto 23, 3) := dk_167 0 23 (dk_at dksX9_best_2 7 rfl rfl)
theorem dX9_best_57 : decode cX9_best 57 = .ok (.iload_n 3, 1) := dk_29 (dk_at dksX9_best_2 10 rfl rfl)
theorem dX9_best_58 : decode cX9_best 58 = .ok (.iconst 2, 1) := dk_5 (dk_at dksX9_best_2 11 rfl rfl)
theorem dX9_best_59 : decode cX9_best 59 = .ok (.if_icmp .ne 10, 3) := dk_160 0 10 (dk_at dksX9_best_2 12 rfl rfl)
theorem dX9_best_62 : decode cX9_best 62 = .ok (.aload_n 0, 1) := dk_42 (dk_at dksX9_best_2 15 rfl rfl)
theorem dX9_best_63 : decode cX9_best 63 = .ok (.getfield 420, 3) := dk_180 1 164 (dk_at dksX9_best_2 16 rfl rfl)
theorem dX9_best_66 : decode cX9_best 66 = .ok (.goto 11, 3) := dk_167 0 11 (dk_at dksX9_best_2 19 rfl rfl)
theorem dX9_best_69 : decode cX9_best 69 = .ok (.aload_n 0, 1) := dk_42 (dk_at dksX9_best_2 22 rfl rfl)
theorem dX9_best_70 : decode cX9_best 70 = .ok (.getfield 114, 3) := dk_180 0 114 (dk_at dksX9_best_3 0 rfl rfl)
theorem dX9_best_73 : decode cX9_best 73 = .ok (.iload_n 3, 1) := dk_29 (dk_at dksX9_best_3 3 rfl rfl)
theorem dX9_best_74 : decode cX9_best 74 = .ok (.iconst 3, 1) := dk_6 (dk_at dksX9_best_3 4 rfl rfl)
theorem dX9_best_75 : decode cX9_best 75 = .ok (.isub, 1) := dk_100 (dk_at dksX9_best_3 5 rfl rfl)
theorem dX9_best_76 : decode cX9_best 76 = .ok (.iaload, 1) := dk_46 (dk_at dksX9_best_3 6 rfl rfl)
theorem dX9_best_77 : decode cX9_best 77 = .ok (.ireturn, 1) := dk_172 (dk_at dksX9_best_3 7 rfl rfl)
abbrev cX9_arePlanned : ByteArray := prog_23_method_76_code
def yX9_arePlanned : MethodName := ⟨RX9, "arePlanned", "(II)Z"⟩
def dkwX9_arePlanned_1 : List UInt8 := [10, 101, 184, 0, 160, 153, 0, 7, 4, 167, 0, 4, 3, 172]
abbrev dktX9_arePlanned_1 : List UInt8 := dkwX9_arePlanned_1 ++ []
def dkwX9_arePlanned_0 : List UInt8 := [27, 133, 10, 20, 0, 200, 184, 0, 160, 153, 0, 27, 28, 133, 9, 4, 42, 180, 0, 13, 3, 46, 120, 133]
abbrev dktX9_arePlanned_0 : List UInt8 := dkwX9_arePlanned_0 ++ dktX9_arePlanned_1
theorem dksX9_arePlanned_0 : cX9_arePlanned.data.toList.drop 0 = dktX9_arePlanned_0 := by decide +kernel
theorem dksX9_arePlanned_1 : cX9_arePlanned.data.toList.drop 24 = dktX9_arePlanned_1 := dk_seg dksX9_arePlanned_0 24 rfl rfl
theorem dX9_arePlanned_0 : decode cX9_arePlanned 0 = .ok (.iload_n 1, 1) := dk_27 (dk_at dksX9_arePlanned_0 0 rfl rfl)
theorem dX9_arePlanned_1 : decode cX9_arePlanned 1 = .ok (.i2l, 1) := dk_133 (dk_at dksX9_arePlanned_0 1 rfl rfl)
theorem dX9_arePlanned_2 : decode cX9_arePlanned 2 = .ok (.lconst 1, 1) := dk_10 (dk_at dksX9_arePlanned_0 2 rfl rfl)
theorem dX9_arePlanned_3 : decode cX9_arePlanned 3 = .ok (.ldc2_w 200, 3) := dk_20 0 200 (dk_at dksX9_arePlanned_0 3 rfl rfl)
theorem dX9_arePlanned_6 : decode cX9_arePlanned 6 = .ok (.invokestatic 160, 3) := dk_184 0 160 (dk_at dksX9_arePlanned_0 6 rfl rfl)
theorem dX9_arePlanned_9 : decode cX9_arePlanned 9 = .ok (.ifCond .eq 27, 3) := dk_153 0 27 (dk_at dksX9_arePlanned_0 9 rfl rfl)
theorem dX9_arePlanned_12 : decode cX9_arePlanned 12 = .ok (.iload_n 2, 1) := dk_28 (dk_at dksX9_arePlanned_0 12 rfl rfl)
theorem dX9_arePlanned_13 : decode cX9_arePlanned 13 = .ok (.i2l, 1) := dk_133 (dk_at dksX9_arePlanned_0 13 rfl rfl)
theorem dX9_arePlanned_14 : decode cX9_arePlanned 14 = .ok (.lconst 0, 1) := dk_9 (dk_at dksX9_arePlanned_0 14 rfl rfl)
theorem dX9_arePlanned_15 : decode cX9_arePlanned 15 = .ok (.iconst 1, 1) := dk_4 (dk_at dksX9_arePlanned_0 15 rfl rfl)
theorem dX9_arePlanned_16 : decode cX9_arePlanned 16 = .ok (.aload_n 0, 1) := dk_42 (dk_at dksX9_arePlanned_0 16 rfl rfl)
theorem dX9_arePlanned_17 : decode cX9_arePlanned 17 = .ok (.getfield 13, 3) := dk_180 0 13 (dk_at dksX9_arePlanned_0 17 rfl rfl)
theorem dX9_arePlanned_20 : decode cX9_arePlanned 20 = .ok (.iconst 0, 1) := dk_3 (dk_at dksX9_arePlanned_0 20 rfl rfl)
theorem dX9_arePlanned_21 : decode cX9_arePlanned 21 = .ok (.iaload, 1) := dk_46 (dk_at dksX9_arePlanned_0 21 rfl rfl)
theorem dX9_arePlanned_22 : decode cX9_arePlanned 22 = .ok (.ishl, 1) := dk_120 (dk_at dksX9_arePlanned_0 22 rfl rfl)
theorem dX9_arePlanned_23 : decode cX9_arePlanned 23 = .ok (.i2l, 1) := dk_133 (dk_at dksX9_arePlanned_0 23 rfl rfl)
theorem dX9_arePlanned_24 : decode cX9_arePlanned 24 = .ok (.lconst 1, 1) := dk_10 (dk_at dksX9_arePlanned_1 0 rfl rfl)
theorem dX9_arePlanned_25 : decode cX9_arePlanned 25 = .ok (.lsub, 1) := dk_101 (dk_at dksX9_arePlanned_1 1 rfl rfl)
theorem dX9_arePlanned_26 : decode cX9_arePlanned 26 = .ok (.invokestatic 160, 3) := dk_184 0 160 (dk_at dksX9_arePlanned_1 2 rfl rfl)
theorem dX9_arePlanned_29 : decode cX9_arePlanned 29 = .ok (.ifCond .eq 7, 3) := dk_153 0 7 (dk_at dksX9_arePlanned_1 5 rfl rfl)
theorem dX9_arePlanned_32 : decode cX9_arePlanned 32 = .ok (.iconst 1, 1) := dk_4 (dk_at dksX9_arePlanned_1 8 rfl rfl)
theorem dX9_arePlanned_33 : decode cX9_arePlanned 33 = .ok (.goto 4, 3) := dk_167 0 4 (dk_at dksX9_arePlanned_1 9 rfl rfl)
theorem dX9_arePlanned_36 : decode cX9_arePlanned 36 = .ok (.iconst 0, 1) := dk_3 (dk_at dksX9_arePlanned_1 12 rfl rfl)
theorem dX9_arePlanned_37 : decode cX9_arePlanned 37 = .ok (.ireturn, 1) := dk_172 (dk_at dksX9_arePlanned_1 13 rfl rfl)
abbrev cX9_findBest : ByteArray := prog_23_method_74_code
def yX9_findBest : MethodName := ⟨RX9, "findBest", "(II)V"⟩
def dkwX9_findBest_4 : List UInt8 := [167, 255, 226, 42, 28, 182, 1, 173, 42, 27, 182, 1, 176, 62, 167, 255, 199, 177]
abbrev dktX9_findBest_4 : List UInt8 := dkwX9_findBest_4 ++ []
def dkwX9_findBest_3 : List UInt8 := [42, 21, 4, 42, 180, 0, 111, 21, 4, 46, 182, 1, 148, 42, 21, 4, 4, 96, 182, 1, 167, 132, 4, 1]
abbrev dktX9_findBest_3 : List UInt8 := dkwX9_findBest_3 ++ dktX9_findBest_4
def dkwX9_findBest_2 : List UInt8 := [42, 3, 182, 1, 167, 29, 2, 159, 0, 58, 42, 29, 182, 1, 170, 29, 54, 4, 21, 4, 27, 162, 0, 30]
abbrev dktX9_findBest_2 : List UInt8 := dkwX9_findBest_2 ++ dktX9_findBest_3
def dkwX9_findBest_1 : List UInt8 := [79, 132, 3, 1, 167, 255, 234, 42, 2, 181, 1, 158, 42, 3, 181, 1, 161, 42, 3, 181, 1, 164, 3, 62]
abbrev dktX9_findBest_1 : List UInt8 := dkwX9_findBest_1 ++ dktX9_findBest_2
def dkwX9_findBest_0 : List UInt8 := [42, 182, 1, 145, 3, 62, 29, 8, 162, 0, 23, 42, 180, 0, 111, 29, 2, 79, 42, 180, 0, 114, 29, 2]
abbrev dktX9_findBest_0 : List UInt8 := dkwX9_findBest_0 ++ dktX9_findBest_1
theorem dksX9_findBest_0 : cX9_findBest.data.toList.drop 0 = dktX9_findBest_0 := by decide +kernel
theorem dksX9_findBest_1 : cX9_findBest.data.toList.drop 24 = dktX9_findBest_1 := dk_seg dksX9_findBest_0 24 rfl rfl
theorem dksX9_findBest_2 : cX9_findBest.data.toList.drop 48 = dktX9_findBest_2 := dk_seg dksX9_findBest_1 24 rfl rfl
theorem dksX9_findBest_3 : cX9_findBest.data.toList.drop 72 = dktX9_findBest_3 := dk_seg dksX9_findBest_2 24 rfl rfl
theorem dksX9_findBest_4 : cX9_findBest.data.toList.drop 96 = dktX9_findBest_4 := dk_seg dksX9_findBest_3 24 rfl rfl
theorem dX9_findBest_0 : decode cX9_findBest 0 = .ok (.aload_n 0, 1) := dk_42 (dk_at dksX9_findBest_0 0 rfl rfl)
theorem dX9_findBest_1 : decode cX9_findBest 1 = .ok (.invokevirtual 401, 3) := dk_182 1 145 (dk_at dksX9_findBest_0 1 rfl rfl)
theorem dX9_findBest_4 : decode cX9_findBest 4 = .ok (.iconst 0, 1) := dk_3 (dk_at dksX9_findBest_0 4 rfl rfl)
theorem dX9_findBest_5 : decode cX9_findBest 5 = .ok (.istore_n 3, 1) := dk_62 (dk_at dksX9_findBest_0 5 rfl rfl)
theorem dX9_findBest_6 : decode cX9_findBest 6 = .ok (.iload_n 3, 1) := dk_29 (dk_at dksX9_findBest_0 6 rfl rfl)
theorem dX9_findBest_7 : decode cX9_findBest 7 = .ok (.iconst 5, 1) := dk_8 (dk_at dksX9_findBest_0 7 rfl rfl)
theorem dX9_findBest_8 : decode cX9_findBest 8 = .ok (.if_icmp .ge 23, 3) := dk_162 0 23 (dk_at dksX9_findBest_0 8 rfl rfl)
theorem dX9_findBest_11 : decode cX9_findBest 11 = .ok (.aload_n 0, 1) := dk_42 (dk_at dksX9_findBest_0 11 rfl rfl)
theorem dX9_findBest_12 : decode cX9_findBest 12 = .ok (.getfield 111, 3) := dk_180 0 111 (dk_at dksX9_findBest_0 12 rfl rfl)
theorem dX9_findBest_15 : decode cX9_findBest 15 = .ok (.iload_n 3, 1) := dk_29 (dk_at dksX9_findBest_0 15 rfl rfl)
theorem dX9_findBest_16 : decode cX9_findBest 16 = .ok (.iconst (-1), 1) := dk_2 (dk_at dksX9_findBest_0 16 rfl rfl)
theorem dX9_findBest_17 : decode cX9_findBest 17 = .ok (.iastore, 1) := dk_79 (dk_at dksX9_findBest_0 17 rfl rfl)
theorem dX9_findBest_18 : decode cX9_findBest 18 = .ok (.aload_n 0, 1) := dk_42 (dk_at dksX9_findBest_0 18 rfl rfl)
theorem dX9_findBest_19 : decode cX9_findBest 19 = .ok (.getfield 114, 3) := dk_180 0 114 (dk_at dksX9_findBest_0 19 rfl rfl)
theorem dX9_findBest_22 : decode cX9_findBest 22 = .ok (.iload_n 3, 1) := dk_29 (dk_at dksX9_findBest_0 22 rfl rfl)
theorem dX9_findBest_23 : decode cX9_findBest 23 = .ok (.iconst (-1), 1) := dk_2 (dk_at dksX9_findBest_0 23 rfl rfl)
theorem dX9_findBest_24 : decode cX9_findBest 24 = .ok (.iastore, 1) := dk_79 (dk_at dksX9_findBest_1 0 rfl rfl)
theorem dX9_findBest_25 : decode cX9_findBest 25 = .ok (.iinc 3 1, 3) := dk_132 3 1 (dk_at dksX9_findBest_1 1 rfl rfl)
theorem dX9_findBest_28 : decode cX9_findBest 28 = .ok (.goto (-22), 3) := dk_167 255 234 (dk_at dksX9_findBest_1 4 rfl rfl)
theorem dX9_findBest_31 : decode cX9_findBest 31 = .ok (.aload_n 0, 1) := dk_42 (dk_at dksX9_findBest_1 7 rfl rfl)
theorem dX9_findBest_32 : decode cX9_findBest 32 = .ok (.iconst (-1), 1) := dk_2 (dk_at dksX9_findBest_1 8 rfl rfl)
theorem dX9_findBest_33 : decode cX9_findBest 33 = .ok (.putfield 414, 3) := dk_181 1 158 (dk_at dksX9_findBest_1 9 rfl rfl)
theorem dX9_findBest_36 : decode cX9_findBest 36 = .ok (.aload_n 0, 1) := dk_42 (dk_at dksX9_findBest_1 12 rfl rfl)
theorem dX9_findBest_37 : decode cX9_findBest 37 = .ok (.iconst 0, 1) := dk_3 (dk_at dksX9_findBest_1 13 rfl rfl)
theorem dX9_findBest_38 : decode cX9_findBest 38 = .ok (.putfield 417, 3) := dk_181 1 161 (dk_at dksX9_findBest_1 14 rfl rfl)
theorem dX9_findBest_41 : decode cX9_findBest 41 = .ok (.aload_n 0, 1) := dk_42 (dk_at dksX9_findBest_1 17 rfl rfl)
theorem dX9_findBest_42 : decode cX9_findBest 42 = .ok (.iconst 0, 1) := dk_3 (dk_at dksX9_findBest_1 18 rfl rfl)
theorem dX9_findBest_43 : decode cX9_findBest 43 = .ok (.putfield 420, 3) := dk_181 1 164 (dk_at dksX9_findBest_1 19 rfl rfl)
theorem dX9_findBest_46 : decode cX9_findBest 46 = .ok (.iconst 0, 1) := dk_3 (dk_at dksX9_findBest_1 22 rfl rfl)
theorem dX9_findBest_47 : decode cX9_findBest 47 = .ok (.istore_n 3, 1) := dk_62 (dk_at dksX9_findBest_1 23 rfl rfl)
theorem dX9_findBest_48 : decode cX9_findBest 48 = .ok (.aload_n 0, 1) := dk_42 (dk_at dksX9_findBest_2 0 rfl rfl)
theorem dX9_findBest_49 : decode cX9_findBest 49 = .ok (.iconst 0, 1) := dk_3 (dk_at dksX9_findBest_2 1 rfl rfl)
theorem dX9_findBest_50 : decode cX9_findBest 50 = .ok (.invokevirtual 423, 3) := dk_182 1 167 (dk_at dksX9_findBest_2 2 rfl rfl)
theorem dX9_findBest_53 : decode cX9_findBest 53 = .ok (.iload_n 3, 1) := dk_29 (dk_at dksX9_findBest_2 5 rfl rfl)
theorem dX9_findBest_54 : decode cX9_findBest 54 = .ok (.iconst (-1), 1) := dk_2 (dk_at dksX9_findBest_2 6 rfl rfl)
theorem dX9_findBest_55 : decode cX9_findBest 55 = .ok (.if_icmp .eq 58, 3) := dk_159 0 58 (dk_at dksX9_findBest_2 7 rfl rfl)
theorem dX9_findBest_58 : decode cX9_findBest 58 = .ok (.aload_n 0, 1) := dk_42 (dk_at dksX9_findBest_2 10 rfl rfl)
theorem dX9_findBest_59 : decode cX9_findBest 59 = .ok (.iload_n 3, 1) := dk_29 (dk_at dksX9_findBest_2 11 rfl rfl)
theorem dX9_findBest_60 : decode cX9_findBest 60 = .ok (.invokevirtual 426, 3) := dk_182 1 170 (dk_at dksX9_findBest_2 12 rfl rfl)
theorem dX9_findBest_63 : decode cX9_findBest 63 = .ok (.iload_n 3, 1) := dk_29 (dk_at dksX9_findBest_2 15 rfl rfl)
theorem dX9_findBest_64 : decode cX9_findBest 64 = .ok (.istore 4, 2) := dk_54 4 (dk_at dksX9_findBest_2 16 rfl rfl)
theorem dX9_findBest_66 : decode cX9_findBest 66 = .ok (.iload 4, 2) := dk_21 4 (dk_at dksX9_findBest_2 18 rfl rfl)
theorem dX9_findBest_68 : decode cX9_findBest 68 = .ok (.iload_n 1, 1) := dk_27 (dk_at dksX9_findBest_2 20 rfl rfl)
theorem dX9_findBest_69 : decode cX9_findBest 69 = .ok (.if_icmp .ge 30, 3) := dk_162 0 30 (dk_at dksX9_findBest_2 21 rfl rfl)
theorem dX9_findBest_72 : decode cX9_findBest 72 = .ok (.aload_n 0, 1) := dk_42 (dk_at dksX9_findBest_3 0 rfl rfl)
theorem dX9_findBest_73 : decode cX9_findBest 73 = .ok (.iload 4, 2) := dk_21 4 (dk_at dksX9_findBest_3 1 rfl rfl)
theorem dX9_findBest_75 : decode cX9_findBest 75 = .ok (.aload_n 0, 1) := dk_42 (dk_at dksX9_findBest_3 3 rfl rfl)
theorem dX9_findBest_76 : decode cX9_findBest 76 = .ok (.getfield 111, 3) := dk_180 0 111 (dk_at dksX9_findBest_3 4 rfl rfl)
theorem dX9_findBest_79 : decode cX9_findBest 79 = .ok (.iload 4, 2) := dk_21 4 (dk_at dksX9_findBest_3 7 rfl rfl)
theorem dX9_findBest_81 : decode cX9_findBest 81 = .ok (.iaload, 1) := dk_46 (dk_at dksX9_findBest_3 9 rfl rfl)
theorem dX9_findBest_82 : decode cX9_findBest 82 = .ok (.invokevirtual 404, 3) := dk_182 1 148 (dk_at dksX9_findBest_3 10 rfl rfl)
theorem dX9_findBest_85 : decode cX9_findBest 85 = .ok (.aload_n 0, 1) := dk_42 (dk_at dksX9_findBest_3 13 rfl rfl)
theorem dX9_findBest_86 : decode cX9_findBest 86 = .ok (.iload 4, 2) := dk_21 4 (dk_at dksX9_findBest_3 14 rfl rfl)
theorem dX9_findBest_88 : decode cX9_findBest 88 = .ok (.iconst 1, 1) := dk_4 (dk_at dksX9_findBest_3 16 rfl rfl)
theorem dX9_findBest_89 : decode cX9_findBest 89 = .ok (.iadd, 1) := dk_96 (dk_at dksX9_findBest_3 17 rfl rfl)
theorem dX9_findBest_90 : decode cX9_findBest 90 = .ok (.invokevirtual 423, 3) := dk_182 1 167 (dk_at dksX9_findBest_3 18 rfl rfl)
theorem dX9_findBest_93 : decode cX9_findBest 93 = .ok (.iinc 4 1, 3) := dk_132 4 1 (dk_at dksX9_findBest_3 21 rfl rfl)
theorem dX9_findBest_96 : decode cX9_findBest 96 = .ok (.goto (-30), 3) := dk_167 255 226 (dk_at dksX9_findBest_4 0 rfl rfl)
theorem dX9_findBest_99 : decode cX9_findBest 99 = .ok (.aload_n 0, 1) := dk_42 (dk_at dksX9_findBest_4 3 rfl rfl)
theorem dX9_findBest_100 : decode cX9_findBest 100 = .ok (.iload_n 2, 1) := dk_28 (dk_at dksX9_findBest_4 4 rfl rfl)
theorem dX9_findBest_101 : decode cX9_findBest 101 = .ok (.invokevirtual 429, 3) := dk_182 1 173 (dk_at dksX9_findBest_4 5 rfl rfl)
theorem dX9_findBest_104 : decode cX9_findBest 104 = .ok (.aload_n 0, 1) := dk_42 (dk_at dksX9_findBest_4 8 rfl rfl)
theorem dX9_findBest_105 : decode cX9_findBest 105 = .ok (.iload_n 1, 1) := dk_27 (dk_at dksX9_findBest_4 9 rfl rfl)
theorem dX9_findBest_106 : decode cX9_findBest 106 = .ok (.invokevirtual 432, 3) := dk_182 1 176 (dk_at dksX9_findBest_4 10 rfl rfl)
theorem dX9_findBest_109 : decode cX9_findBest 109 = .ok (.istore_n 3, 1) := dk_62 (dk_at dksX9_findBest_4 13 rfl rfl)
theorem dX9_findBest_110 : decode cX9_findBest 110 = .ok (.goto (-57), 3) := dk_167 255 199 (dk_at dksX9_findBest_4 14 rfl rfl)
theorem dX9_findBest_113 : decode cX9_findBest 113 = .ok (.return_, 1) := dk_177 (dk_at dksX9_findBest_4 17 rfl rfl)
abbrev cX9_keepGarden : ByteArray := prog_23_method_71_code
def yX9_keepGarden : MethodName := ⟨RX9, "keepGarden", "(I)V"⟩
def dkwX9_keepGarden_3 : List UInt8 := [79, 132, 2, 1, 167, 255, 230, 177]
abbrev dktX9_keepGarden_3 : List UInt8 := dkwX9_keepGarden_3 ++ []
def dkwX9_keepGarden_2 : List UInt8 := [3, 61, 28, 16, 96, 162, 0, 26, 42, 180, 0, 108, 16, 96, 27, 104, 28, 96, 42, 180, 0, 93, 28, 46]
abbrev dktX9_keepGarden_2 : List UInt8 := dkwX9_keepGarden_2 ++ dktX9_keepGarden_3
def dkwX9_keepGarden_1 : List UInt8 := [79, 42, 180, 0, 105, 16, 6, 27, 104, 28, 96, 42, 180, 0, 87, 28, 46, 79, 132, 2, 1, 167, 255, 213]
abbrev dktX9_keepGarden_1 : List UInt8 := dkwX9_keepGarden_1 ++ dktX9_keepGarden_2
def dkwX9_keepGarden_0 : List UInt8 := [3, 61, 28, 16, 6, 162, 0, 43, 42, 180, 0, 102, 16, 6, 27, 104, 28, 96, 42, 180, 0, 84, 28, 46]
abbrev dktX9_keepGarden_0 : List UInt8 := dkwX9_keepGarden_0 ++ dktX9_keepGarden_1
theorem dksX9_keepGarden_0 : cX9_keepGarden.data.toList.drop 0 = dktX9_keepGarden_0 := by decide +kernel
theorem dksX9_keepGarden_1 : cX9_keepGarden.data.toList.drop 24 = dktX9_keepGarden_1 := dk_seg dksX9_keepGarden_0 24 rfl rfl
theorem dksX9_keepGarden_2 : cX9_keepGarden.data.toList.drop 48 = dktX9_keepGarden_2 := dk_seg dksX9_keepGarden_1 24 rfl rfl
theorem dksX9_keepGarden_3 : cX9_keepGarden.data.toList.drop 72 = dktX9_keepGarden_3 := dk_seg dksX9_keepGarden_2 24 rfl rfl
theorem dX9_keepGarden_0 : decode cX9_keepGarden 0 = .ok (.iconst 0, 1) := dk_3 (dk_at dksX9_keepGarden_0 0 rfl rfl)
theorem dX9_keepGarden_1 : decode cX9_keepGarden 1 = .ok (.istore_n 2, 1) := dk_61 (dk_at dksX9_keepGarden_0 1 rfl rfl)
theorem dX9_keepGarden_2 : decode cX9_keepGarden 2 = .ok (.iload_n 2, 1) := dk_28 (dk_at dksX9_keepGarden_0 2 rfl rfl)
theorem dX9_keepGarden_3 : decode cX9_keepGarden 3 = .ok (.bipush 6, 2) := dk_16 6 (dk_at dksX9_keepGarden_0 3 rfl rfl)
theorem dX9_keepGarden_5 : decode cX9_keepGarden 5 = .ok (.if_icmp .ge 43, 3) := dk_162 0 43 (dk_at dksX9_keepGarden_0 5 rfl rfl)
theorem dX9_keepGarden_8 : decode cX9_keepGarden 8 = .ok (.aload_n 0, 1) := dk_42 (dk_at dksX9_keepGarden_0 8 rfl rfl)
theorem dX9_keepGarden_9 : decode cX9_keepGarden 9 = .ok (.getfield 102, 3) := dk_180 0 102 (dk_at dksX9_keepGarden_0 9 rfl rfl)
theorem dX9_keepGarden_12 : decode cX9_keepGarden 12 = .ok (.bipush 6, 2) := dk_16 6 (dk_at dksX9_keepGarden_0 12 rfl rfl)
theorem dX9_keepGarden_14 : decode cX9_keepGarden 14 = .ok (.iload_n 1, 1) := dk_27 (dk_at dksX9_keepGarden_0 14 rfl rfl)
theorem dX9_keepGarden_15 : decode cX9_keepGarden 15 = .ok (.imul, 1) := dk_104 (dk_at dksX9_keepGarden_0 15 rfl rfl)
theorem dX9_keepGarden_16 : decode cX9_keepGarden 16 = .ok (.iload_n 2, 1) := dk_28 (dk_at dksX9_keepGarden_0 16 rfl rfl)
theorem dX9_keepGarden_17 : decode cX9_keepGarden 17 = .ok (.iadd, 1) := dk_96 (dk_at dksX9_keepGarden_0 17 rfl rfl)
theorem dX9_keepGarden_18 : decode cX9_keepGarden 18 = .ok (.aload_n 0, 1) := dk_42 (dk_at dksX9_keepGarden_0 18 rfl rfl)
theorem dX9_keepGarden_19 : decode cX9_keepGarden 19 = .ok (.getfield 84, 3) := dk_180 0 84 (dk_at dksX9_keepGarden_0 19 rfl rfl)
theorem dX9_keepGarden_22 : decode cX9_keepGarden 22 = .ok (.iload_n 2, 1) := dk_28 (dk_at dksX9_keepGarden_0 22 rfl rfl)
theorem dX9_keepGarden_23 : decode cX9_keepGarden 23 = .ok (.iaload, 1) := dk_46 (dk_at dksX9_keepGarden_0 23 rfl rfl)
theorem dX9_keepGarden_24 : decode cX9_keepGarden 24 = .ok (.iastore, 1) := dk_79 (dk_at dksX9_keepGarden_1 0 rfl rfl)
theorem dX9_keepGarden_25 : decode cX9_keepGarden 25 = .ok (.aload_n 0, 1) := dk_42 (dk_at dksX9_keepGarden_1 1 rfl rfl)
theorem dX9_keepGarden_26 : decode cX9_keepGarden 26 = .ok (.getfield 105, 3) := dk_180 0 105 (dk_at dksX9_keepGarden_1 2 rfl rfl)
theorem dX9_keepGarden_29 : decode cX9_keepGarden 29 = .ok (.bipush 6, 2) := dk_16 6 (dk_at dksX9_keepGarden_1 5 rfl rfl)
theorem dX9_keepGarden_31 : decode cX9_keepGarden 31 = .ok (.iload_n 1, 1) := dk_27 (dk_at dksX9_keepGarden_1 7 rfl rfl)
theorem dX9_keepGarden_32 : decode cX9_keepGarden 32 = .ok (.imul, 1) := dk_104 (dk_at dksX9_keepGarden_1 8 rfl rfl)
theorem dX9_keepGarden_33 : decode cX9_keepGarden 33 = .ok (.iload_n 2, 1) := dk_28 (dk_at dksX9_keepGarden_1 9 rfl rfl)
theorem dX9_keepGarden_34 : decode cX9_keepGarden 34 = .ok (.iadd, 1) := dk_96 (dk_at dksX9_keepGarden_1 10 rfl rfl)
theorem dX9_keepGarden_35 : decode cX9_keepGarden 35 = .ok (.aload_n 0, 1) := dk_42 (dk_at dksX9_keepGarden_1 11 rfl rfl)
theorem dX9_keepGarden_36 : decode cX9_keepGarden 36 = .ok (.getfield 87, 3) := dk_180 0 87 (dk_at dksX9_keepGarden_1 12 rfl rfl)
theorem dX9_keepGarden_39 : decode cX9_keepGarden 39 = .ok (.iload_n 2, 1) := dk_28 (dk_at dksX9_keepGarden_1 15 rfl rfl)
theorem dX9_keepGarden_40 : decode cX9_keepGarden 40 = .ok (.iaload, 1) := dk_46 (dk_at dksX9_keepGarden_1 16 rfl rfl)
theorem dX9_keepGarden_41 : decode cX9_keepGarden 41 = .ok (.iastore, 1) := dk_79 (dk_at dksX9_keepGarden_1 17 rfl rfl)
theorem dX9_keepGarden_42 : decode cX9_keepGarden 42 = .ok (.iinc 2 1, 3) := dk_132 2 1 (dk_at dksX9_keepGarden_1 18 rfl rfl)
theorem dX9_keepGarden_45 : decode cX9_keepGarden 45 = .ok (.goto (-43), 3) := dk_167 255 213 (dk_at dksX9_keepGarden_1 21 rfl rfl)
theorem dX9_keepGarden_48 : decode cX9_keepGarden 48 = .ok (.iconst 0, 1) := dk_3 (dk_at dksX9_keepGarden_2 0 rfl rfl)
theorem dX9_keepGarden_49 : decode cX9_keepGarden 49 = .ok (.istore_n 2, 1) := dk_61 (dk_at dksX9_keepGarden_2 1 rfl rfl)
theorem dX9_keepGarden_50 : decode cX9_keepGarden 50 = .ok (.iload_n 2, 1) := dk_28 (dk_at dksX9_keepGarden_2 2 rfl rfl)
theorem dX9_keepGarden_51 : decode cX9_keepGarden 51 = .ok (.bipush 96, 2) := dk_16 96 (dk_at dksX9_keepGarden_2 3 rfl rfl)
theorem dX9_keepGarden_53 : decode cX9_keepGarden 53 = .ok (.if_icmp .ge 26, 3) := dk_162 0 26 (dk_at dksX9_keepGarden_2 5 rfl rfl)
theorem dX9_keepGarden_56 : decode cX9_keepGarden 56 = .ok (.aload_n 0, 1) := dk_42 (dk_at dksX9_keepGarden_2 8 rfl rfl)
theorem dX9_keepGarden_57 : decode cX9_keepGarden 57 = .ok (.getfield 108, 3) := dk_180 0 108 (dk_at dksX9_keepGarden_2 9 rfl rfl)
theorem dX9_keepGarden_60 : decode cX9_keepGarden 60 = .ok (.bipush 96, 2) := dk_16 96 (dk_at dksX9_keepGarden_2 12 rfl rfl)
theorem dX9_keepGarden_62 : decode cX9_keepGarden 62 = .ok (.iload_n 1, 1) := dk_27 (dk_at dksX9_keepGarden_2 14 rfl rfl)
theorem dX9_keepGarden_63 : decode cX9_keepGarden 63 = .ok (.imul, 1) := dk_104 (dk_at dksX9_keepGarden_2 15 rfl rfl)
theorem dX9_keepGarden_64 : decode cX9_keepGarden 64 = .ok (.iload_n 2, 1) := dk_28 (dk_at dksX9_keepGarden_2 16 rfl rfl)
theorem dX9_keepGarden_65 : decode cX9_keepGarden 65 = .ok (.iadd, 1) := dk_96 (dk_at dksX9_keepGarden_2 17 rfl rfl)
theorem dX9_keepGarden_66 : decode cX9_keepGarden 66 = .ok (.aload_n 0, 1) := dk_42 (dk_at dksX9_keepGarden_2 18 rfl rfl)
theorem dX9_keepGarden_67 : decode cX9_keepGarden 67 = .ok (.getfield 93, 3) := dk_180 0 93 (dk_at dksX9_keepGarden_2 19 rfl rfl)
theorem dX9_keepGarden_70 : decode cX9_keepGarden 70 = .ok (.iload_n 2, 1) := dk_28 (dk_at dksX9_keepGarden_2 22 rfl rfl)
theorem dX9_keepGarden_71 : decode cX9_keepGarden 71 = .ok (.iaload, 1) := dk_46 (dk_at dksX9_keepGarden_2 23 rfl rfl)
theorem dX9_keepGarden_72 : decode cX9_keepGarden 72 = .ok (.iastore, 1) := dk_79 (dk_at dksX9_keepGarden_3 0 rfl rfl)
theorem dX9_keepGarden_73 : decode cX9_keepGarden 73 = .ok (.iinc 2 1, 3) := dk_132 2 1 (dk_at dksX9_keepGarden_3 1 rfl rfl)
theorem dX9_keepGarden_76 : decode cX9_keepGarden 76 = .ok (.goto (-26), 3) := dk_167 255 230 (dk_at dksX9_keepGarden_3 4 rfl rfl)
theorem dX9_keepGarden_79 : decode cX9_keepGarden 79 = .ok (.return_, 1) := dk_177 (dk_at dksX9_keepGarden_3 7 rfl rfl)
abbrev cX9_backTo : ByteArray := prog_23_method_72_code
def yX9_backTo : MethodName := ⟨RX9, "backTo", "(I)V"⟩
def dkwX9_backTo_3 : List UInt8 := [79, 132, 2, 1, 167, 255, 230, 177]
abbrev dktX9_backTo_3 : List UInt8 := dkwX9_backTo_3 ++ []
def dkwX9_backTo_2 : List UInt8 := [3, 61, 28, 16, 96, 162, 0, 26, 42, 180, 0, 93, 28, 42, 180, 0, 108, 16, 96, 27, 104, 28, 96, 46]
abbrev dktX9_backTo_2 : List UInt8 := dkwX9_backTo_2 ++ dktX9_backTo_3
def dkwX9_backTo_1 : List UInt8 := [79, 42, 180, 0, 87, 28, 42, 180, 0, 105, 16, 6, 27, 104, 28, 96, 46, 79, 132, 2, 1, 167, 255, 213]
abbrev dktX9_backTo_1 : List UInt8 := dkwX9_backTo_1 ++ dktX9_backTo_2
def dkwX9_backTo_0 : List UInt8 := [3, 61, 28, 16, 6, 162, 0, 43, 42, 180, 0, 84, 28, 42, 180, 0, 102, 16, 6, 27, 104, 28, 96, 46]
abbrev dktX9_backTo_0 : List UInt8 := dkwX9_backTo_0 ++ dktX9_backTo_1
theorem dksX9_backTo_0 : cX9_backTo.data.toList.drop 0 = dktX9_backTo_0 := by decide +kernel
theorem dksX9_backTo_1 : cX9_backTo.data.toList.drop 24 = dktX9_backTo_1 := dk_seg dksX9_backTo_0 24 rfl rfl
theorem dksX9_backTo_2 : cX9_backTo.data.toList.drop 48 = dktX9_backTo_2 := dk_seg dksX9_backTo_1 24 rfl rfl
theorem dksX9_backTo_3 : cX9_backTo.data.toList.drop 72 = dktX9_backTo_3 := dk_seg dksX9_backTo_2 24 rfl rfl
theorem dX9_backTo_0 : decode cX9_backTo 0 = .ok (.iconst 0, 1) := dk_3 (dk_at dksX9_backTo_0 0 rfl rfl)
theorem dX9_backTo_1 : decode cX9_backTo 1 = .ok (.istore_n 2, 1) := dk_61 (dk_at dksX9_backTo_0 1 rfl rfl)
theorem dX9_backTo_2 : decode cX9_backTo 2 = .ok (.iload_n 2, 1) := dk_28 (dk_at dksX9_backTo_0 2 rfl rfl)
theorem dX9_backTo_3 : decode cX9_backTo 3 = .ok (.bipush 6, 2) := dk_16 6 (dk_at dksX9_backTo_0 3 rfl rfl)
theorem dX9_backTo_5 : decode cX9_backTo 5 = .ok (.if_icmp .ge 43, 3) := dk_162 0 43 (dk_at dksX9_backTo_0 5 rfl rfl)
theorem dX9_backTo_8 : decode cX9_backTo 8 = .ok (.aload_n 0, 1) := dk_42 (dk_at dksX9_backTo_0 8 rfl rfl)
theorem dX9_backTo_9 : decode cX9_backTo 9 = .ok (.getfield 84, 3) := dk_180 0 84 (dk_at dksX9_backTo_0 9 rfl rfl)
theorem dX9_backTo_12 : decode cX9_backTo 12 = .ok (.iload_n 2, 1) := dk_28 (dk_at dksX9_backTo_0 12 rfl rfl)
theorem dX9_backTo_13 : decode cX9_backTo 13 = .ok (.aload_n 0, 1) := dk_42 (dk_at dksX9_backTo_0 13 rfl rfl)
theorem dX9_backTo_14 : decode cX9_backTo 14 = .ok (.getfield 102, 3) := dk_180 0 102 (dk_at dksX9_backTo_0 14 rfl rfl)
theorem dX9_backTo_17 : decode cX9_backTo 17 = .ok (.bipush 6, 2) := dk_16 6 (dk_at dksX9_backTo_0 17 rfl rfl)
theorem dX9_backTo_19 : decode cX9_backTo 19 = .ok (.iload_n 1, 1) := dk_27 (dk_at dksX9_backTo_0 19 rfl rfl)
theorem dX9_backTo_20 : decode cX9_backTo 20 = .ok (.imul, 1) := dk_104 (dk_at dksX9_backTo_0 20 rfl rfl)
theorem dX9_backTo_21 : decode cX9_backTo 21 = .ok (.iload_n 2, 1) := dk_28 (dk_at dksX9_backTo_0 21 rfl rfl)
theorem dX9_backTo_22 : decode cX9_backTo 22 = .ok (.iadd, 1) := dk_96 (dk_at dksX9_backTo_0 22 rfl rfl)
theorem dX9_backTo_23 : decode cX9_backTo 23 = .ok (.iaload, 1) := dk_46 (dk_at dksX9_backTo_0 23 rfl rfl)
theorem dX9_backTo_24 : decode cX9_backTo 24 = .ok (.iastore, 1) := dk_79 (dk_at dksX9_backTo_1 0 rfl rfl)
theorem dX9_backTo_25 : decode cX9_backTo 25 = .ok (.aload_n 0, 1) := dk_42 (dk_at dksX9_backTo_1 1 rfl rfl)
theorem dX9_backTo_26 : decode cX9_backTo 26 = .ok (.getfield 87, 3) := dk_180 0 87 (dk_at dksX9_backTo_1 2 rfl rfl)
theorem dX9_backTo_29 : decode cX9_backTo 29 = .ok (.iload_n 2, 1) := dk_28 (dk_at dksX9_backTo_1 5 rfl rfl)
theorem dX9_backTo_30 : decode cX9_backTo 30 = .ok (.aload_n 0, 1) := dk_42 (dk_at dksX9_backTo_1 6 rfl rfl)
theorem dX9_backTo_31 : decode cX9_backTo 31 = .ok (.getfield 105, 3) := dk_180 0 105 (dk_at dksX9_backTo_1 7 rfl rfl)
theorem dX9_backTo_34 : decode cX9_backTo 34 = .ok (.bipush 6, 2) := dk_16 6 (dk_at dksX9_backTo_1 10 rfl rfl)
theorem dX9_backTo_36 : decode cX9_backTo 36 = .ok (.iload_n 1, 1) := dk_27 (dk_at dksX9_backTo_1 12 rfl rfl)
theorem dX9_backTo_37 : decode cX9_backTo 37 = .ok (.imul, 1) := dk_104 (dk_at dksX9_backTo_1 13 rfl rfl)
theorem dX9_backTo_38 : decode cX9_backTo 38 = .ok (.iload_n 2, 1) := dk_28 (dk_at dksX9_backTo_1 14 rfl rfl)
theorem dX9_backTo_39 : decode cX9_backTo 39 = .ok (.iadd, 1) := dk_96 (dk_at dksX9_backTo_1 15 rfl rfl)
theorem dX9_backTo_40 : decode cX9_backTo 40 = .ok (.iaload, 1) := dk_46 (dk_at dksX9_backTo_1 16 rfl rfl)
theorem dX9_backTo_41 : decode cX9_backTo 41 = .ok (.iastore, 1) := dk_79 (dk_at dksX9_backTo_1 17 rfl rfl)
theorem dX9_backTo_42 : decode cX9_backTo 42 = .ok (.iinc 2 1, 3) := dk_132 2 1 (dk_at dksX9_backTo_1 18 rfl rfl)
theorem dX9_backTo_45 : decode cX9_backTo 45 = .ok (.goto (-43), 3) := dk_167 255 213 (dk_at dksX9_backTo_1 21 rfl rfl)
theorem dX9_backTo_48 : decode cX9_backTo 48 = .ok (.iconst 0, 1) := dk_3 (dk_at dksX9_backTo_2 0 rfl rfl)
theorem dX9_backTo_49 : decode cX9_backTo 49 = .ok (.istore_n 2, 1) := dk_61 (dk_at dksX9_backTo_2 1 rfl rfl)
theorem dX9_backTo_50 : decode cX9_backTo 50 = .ok (.iload_n 2, 1) := dk_28 (dk_at dksX9_backTo_2 2 rfl rfl)
theorem dX9_backTo_51 : decode cX9_backTo 51 = .ok (.bipush 96, 2) := dk_16 96 (dk_at dksX9_backTo_2 3 rfl rfl)
theorem dX9_backTo_53 : decode cX9_backTo 53 = .ok (.if_icmp .ge 26, 3) := dk_162 0 26 (dk_at dksX9_backTo_2 5 rfl rfl)
theorem dX9_backTo_56 : decode cX9_backTo 56 = .ok (.aload_n 0, 1) := dk_42 (dk_at dksX9_backTo_2 8 rfl rfl)
theorem dX9_backTo_57 : decode cX9_backTo 57 = .ok (.getfield 93, 3) := dk_180 0 93 (dk_at dksX9_backTo_2 9 rfl rfl)
theorem dX9_backTo_60 : decode cX9_backTo 60 = .ok (.iload_n 2, 1) := dk_28 (dk_at dksX9_backTo_2 12 rfl rfl)
theorem dX9_backTo_61 : decode cX9_backTo 61 = .ok (.aload_n 0, 1) := dk_42 (dk_at dksX9_backTo_2 13 rfl rfl)
theorem dX9_backTo_62 : decode cX9_backTo 62 = .ok (.getfield 108, 3) := dk_180 0 108 (dk_at dksX9_backTo_2 14 rfl rfl)
theorem dX9_backTo_65 : decode cX9_backTo 65 = .ok (.bipush 96, 2) := dk_16 96 (dk_at dksX9_backTo_2 17 rfl rfl)
theorem dX9_backTo_67 : decode cX9_backTo 67 = .ok (.iload_n 1, 1) := dk_27 (dk_at dksX9_backTo_2 19 rfl rfl)
theorem dX9_backTo_68 : decode cX9_backTo 68 = .ok (.imul, 1) := dk_104 (dk_at dksX9_backTo_2 20 rfl rfl)
theorem dX9_backTo_69 : decode cX9_backTo 69 = .ok (.iload_n 2, 1) := dk_28 (dk_at dksX9_backTo_2 21 rfl rfl)
theorem dX9_backTo_70 : decode cX9_backTo 70 = .ok (.iadd, 1) := dk_96 (dk_at dksX9_backTo_2 22 rfl rfl)
theorem dX9_backTo_71 : decode cX9_backTo 71 = .ok (.iaload, 1) := dk_46 (dk_at dksX9_backTo_2 23 rfl rfl)
theorem dX9_backTo_72 : decode cX9_backTo 72 = .ok (.iastore, 1) := dk_79 (dk_at dksX9_backTo_3 0 rfl rfl)
theorem dX9_backTo_73 : decode cX9_backTo 73 = .ok (.iinc 2 1, 3) := dk_132 2 1 (dk_at dksX9_backTo_3 1 rfl rfl)
theorem dX9_backTo_76 : decode cX9_backTo 76 = .ok (.goto (-26), 3) := dk_167 255 230 (dk_at dksX9_backTo_3 4 rfl rfl)
theorem dX9_backTo_79 : decode cX9_backTo 79 = .ok (.return_, 1) := dk_177 (dk_at dksX9_backTo_3 7 rfl rfl)
abbrev cX9_weigh : ByteArray := prog_23_method_75_code
def yX9_weigh : MethodName := ⟨RX9, "weigh", "(I)V"⟩
def dkwX9_weigh_7 : List UInt8 := [42, 180, 1, 161, 160, 0, 7, 4, 167, 0, 4, 3, 96, 181, 1, 164, 177]
abbrev dktX9_weigh_7 : List UInt8 := dkwX9_weigh_7 ++ []
def dkwX9_weigh_6 : List UInt8 := [21, 4, 46, 79, 132, 4, 1, 167, 255, 233, 42, 89, 180, 1, 164, 28, 42, 180, 1, 158, 160, 0, 15, 29]
abbrev dktX9_weigh_6 : List UInt8 := dkwX9_weigh_6 ++ dktX9_weigh_7
def dkwX9_weigh_5 : List UInt8 := [42, 3, 181, 1, 164, 3, 54, 4, 21, 4, 8, 162, 0, 23, 42, 180, 0, 114, 21, 4, 42, 180, 0, 111]
abbrev dktX9_weigh_5 : List UInt8 := dkwX9_weigh_5 ++ dktX9_weigh_6
def dkwX9_weigh_4 : List UInt8 := [180, 1, 158, 160, 0, 55, 29, 42, 180, 1, 161, 162, 0, 47, 42, 28, 181, 1, 158, 42, 29, 181, 1, 161]
abbrev dktX9_weigh_4 : List UInt8 := dkwX9_weigh_4 ++ dktX9_weigh_5
def dkwX9_weigh_3 : List UInt8 := [167, 0, 4, 3, 96, 62, 132, 4, 1, 167, 255, 183, 28, 42, 180, 1, 158, 163, 0, 19, 28, 42]
abbrev dktX9_weigh_3 : List UInt8 := dkwX9_weigh_3 ++ dktX9_weigh_4
def dkwX9_weigh_2 : List UInt8 := [153, 0, 7, 4, 167, 0, 4, 3, 96, 61, 29, 21, 5, 153, 0, 13, 42, 180, 0, 87, 21, 4, 46]
abbrev dktX9_weigh_2 : List UInt8 := dkwX9_weigh_2 ++ dktX9_weigh_3
def dkwX9_weigh_1 : List UInt8 := [153, 0, 18, 42, 180, 0, 87, 21, 4, 46, 2, 159, 0, 7, 4, 167, 0, 4, 3, 54, 5, 28, 21, 5]
abbrev dktX9_weigh_1 : List UInt8 := dkwX9_weigh_1 ++ dktX9_weigh_2
def dkwX9_weigh_0 : List UInt8 := [3, 61, 3, 62, 3, 54, 4, 21, 4, 42, 180, 0, 13, 3, 46, 162, 0, 68, 27, 21, 4, 184, 1, 179]
abbrev dktX9_weigh_0 : List UInt8 := dkwX9_weigh_0 ++ dktX9_weigh_1
theorem dksX9_weigh_0 : cX9_weigh.data.toList.drop 0 = dktX9_weigh_0 := by decide +kernel
theorem dksX9_weigh_1 : cX9_weigh.data.toList.drop 24 = dktX9_weigh_1 := dk_seg dksX9_weigh_0 24 rfl rfl
theorem dksX9_weigh_2 : cX9_weigh.data.toList.drop 48 = dktX9_weigh_2 := dk_seg dksX9_weigh_1 24 rfl rfl
theorem dksX9_weigh_3 : cX9_weigh.data.toList.drop 71 = dktX9_weigh_3 := dk_seg dksX9_weigh_2 23 rfl rfl
theorem dksX9_weigh_4 : cX9_weigh.data.toList.drop 93 = dktX9_weigh_4 := dk_seg dksX9_weigh_3 22 rfl rfl
theorem dksX9_weigh_5 : cX9_weigh.data.toList.drop 117 = dktX9_weigh_5 := dk_seg dksX9_weigh_4 24 rfl rfl
theorem dksX9_weigh_6 : cX9_weigh.data.toList.drop 141 = dktX9_weigh_6 := dk_seg dksX9_weigh_5 24 rfl rfl
theorem dksX9_weigh_7 : cX9_weigh.data.toList.drop 165 = dktX9_weigh_7 := dk_seg dksX9_weigh_6 24 rfl rfl
theorem dX9_weigh_0 : decode cX9_weigh 0 = .ok (.iconst 0, 1) := dk_3 (dk_at dksX9_weigh_0 0 rfl rfl)
theorem dX9_weigh_1 : decode cX9_weigh 1 = .ok (.istore_n 2, 1) := dk_61 (dk_at dksX9_weigh_0 1 rfl rfl)
theorem dX9_weigh_2 : decode cX9_weigh 2 = .ok (.iconst 0, 1) := dk_3 (dk_at dksX9_weigh_0 2 rfl rfl)
theorem dX9_weigh_3 : decode cX9_weigh 3 = .ok (.istore_n 3, 1) := dk_62 (dk_at dksX9_weigh_0 3 rfl rfl)
theorem dX9_weigh_4 : decode cX9_weigh 4 = .ok (.iconst 0, 1) := dk_3 (dk_at dksX9_weigh_0 4 rfl rfl)
theorem dX9_weigh_5 : decode cX9_weigh 5 = .ok (.istore 4, 2) := dk_54 4 (dk_at dksX9_weigh_0 5 rfl rfl)
theorem dX9_weigh_7 : decode cX9_weigh 7 = .ok (.iload 4, 2) := dk_21 4 (dk_at dksX9_weigh_0 7 rfl rfl)
theorem dX9_weigh_9 : decode cX9_weigh 9 = .ok (.aload_n 0, 1) := dk_42 (dk_at dksX9_weigh_0 9 rfl rfl)
theorem dX9_weigh_10 : decode cX9_weigh 10 = .ok (.getfield 13, 3) := dk_180 0 13 (dk_at dksX9_weigh_0 10 rfl rfl)
theorem dX9_weigh_13 : decode cX9_weigh 13 = .ok (.iconst 0, 1) := dk_3 (dk_at dksX9_weigh_0 13 rfl rfl)
theorem dX9_weigh_14 : decode cX9_weigh 14 = .ok (.iaload, 1) := dk_46 (dk_at dksX9_weigh_0 14 rfl rfl)
theorem dX9_weigh_15 : decode cX9_weigh 15 = .ok (.if_icmp .ge 68, 3) := dk_162 0 68 (dk_at dksX9_weigh_0 15 rfl rfl)
theorem dX9_weigh_18 : decode cX9_weigh 18 = .ok (.iload_n 1, 1) := dk_27 (dk_at dksX9_weigh_0 18 rfl rfl)
theorem dX9_weigh_19 : decode cX9_weigh 19 = .ok (.iload 4, 2) := dk_21 4 (dk_at dksX9_weigh_0 19 rfl rfl)
theorem dX9_weigh_21 : decode cX9_weigh 21 = .ok (.invokestatic 435, 3) := dk_184 1 179 (dk_at dksX9_weigh_0 21 rfl rfl)
theorem dX9_weigh_24 : decode cX9_weigh 24 = .ok (.ifCond .eq 18, 3) := dk_153 0 18 (dk_at dksX9_weigh_1 0 rfl rfl)
theorem dX9_weigh_27 : decode cX9_weigh 27 = .ok (.aload_n 0, 1) := dk_42 (dk_at dksX9_weigh_1 3 rfl rfl)
theorem dX9_weigh_28 : decode cX9_weigh 28 = .ok (.getfield 87, 3) := dk_180 0 87 (dk_at dksX9_weigh_1 4 rfl rfl)
theorem dX9_weigh_31 : decode cX9_weigh 31 = .ok (.iload 4, 2) := dk_21 4 (dk_at dksX9_weigh_1 7 rfl rfl)
theorem dX9_weigh_33 : decode cX9_weigh 33 = .ok (.iaload, 1) := dk_46 (dk_at dksX9_weigh_1 9 rfl rfl)
theorem dX9_weigh_34 : decode cX9_weigh 34 = .ok (.iconst (-1), 1) := dk_2 (dk_at dksX9_weigh_1 10 rfl rfl)
theorem dX9_weigh_35 : decode cX9_weigh 35 = .ok (.if_icmp .eq 7, 3) := dk_159 0 7 (dk_at dksX9_weigh_1 11 rfl rfl)
theorem dX9_weigh_38 : decode cX9_weigh 38 = .ok (.iconst 1, 1) := dk_4 (dk_at dksX9_weigh_1 14 rfl rfl)
theorem dX9_weigh_39 : decode cX9_weigh 39 = .ok (.goto 4, 3) := dk_167 0 4 (dk_at dksX9_weigh_1 15 rfl rfl)
theorem dX9_weigh_42 : decode cX9_weigh 42 = .ok (.iconst 0, 1) := dk_3 (dk_at dksX9_weigh_1 18 rfl rfl)
theorem dX9_weigh_43 : decode cX9_weigh 43 = .ok (.istore 5, 2) := dk_54 5 (dk_at dksX9_weigh_1 19 rfl rfl)
theorem dX9_weigh_45 : decode cX9_weigh 45 = .ok (.iload_n 2, 1) := dk_28 (dk_at dksX9_weigh_1 21 rfl rfl)
theorem dX9_weigh_46 : decode cX9_weigh 46 = .ok (.iload 5, 2) := dk_21 5 (dk_at dksX9_weigh_1 22 rfl rfl)
theorem dX9_weigh_48 : decode cX9_weigh 48 = .ok (.ifCond .eq 7, 3) := dk_153 0 7 (dk_at dksX9_weigh_2 0 rfl rfl)
theorem dX9_weigh_51 : decode cX9_weigh 51 = .ok (.iconst 1, 1) := dk_4 (dk_at dksX9_weigh_2 3 rfl rfl)
theorem dX9_weigh_52 : decode cX9_weigh 52 = .ok (.goto 4, 3) := dk_167 0 4 (dk_at dksX9_weigh_2 4 rfl rfl)
theorem dX9_weigh_55 : decode cX9_weigh 55 = .ok (.iconst 0, 1) := dk_3 (dk_at dksX9_weigh_2 7 rfl rfl)
theorem dX9_weigh_56 : decode cX9_weigh 56 = .ok (.iadd, 1) := dk_96 (dk_at dksX9_weigh_2 8 rfl rfl)
theorem dX9_weigh_57 : decode cX9_weigh 57 = .ok (.istore_n 2, 1) := dk_61 (dk_at dksX9_weigh_2 9 rfl rfl)
theorem dX9_weigh_58 : decode cX9_weigh 58 = .ok (.iload_n 3, 1) := dk_29 (dk_at dksX9_weigh_2 10 rfl rfl)
theorem dX9_weigh_59 : decode cX9_weigh 59 = .ok (.iload 5, 2) := dk_21 5 (dk_at dksX9_weigh_2 11 rfl rfl)
theorem dX9_weigh_61 : decode cX9_weigh 61 = .ok (.ifCond .eq 13, 3) := dk_153 0 13 (dk_at dksX9_weigh_2 13 rfl rfl)
theorem dX9_weigh_64 : decode cX9_weigh 64 = .ok (.aload_n 0, 1) := dk_42 (dk_at dksX9_weigh_2 16 rfl rfl)
theorem dX9_weigh_65 : decode cX9_weigh 65 = .ok (.getfield 87, 3) := dk_180 0 87 (dk_at dksX9_weigh_2 17 rfl rfl)
theorem dX9_weigh_68 : decode cX9_weigh 68 = .ok (.iload 4, 2) := dk_21 4 (dk_at dksX9_weigh_2 20 rfl rfl)
theorem dX9_weigh_70 : decode cX9_weigh 70 = .ok (.iaload, 1) := dk_46 (dk_at dksX9_weigh_2 22 rfl rfl)
theorem dX9_weigh_71 : decode cX9_weigh 71 = .ok (.goto 4, 3) := dk_167 0 4 (dk_at dksX9_weigh_3 0 rfl rfl)
theorem dX9_weigh_74 : decode cX9_weigh 74 = .ok (.iconst 0, 1) := dk_3 (dk_at dksX9_weigh_3 3 rfl rfl)
theorem dX9_weigh_75 : decode cX9_weigh 75 = .ok (.iadd, 1) := dk_96 (dk_at dksX9_weigh_3 4 rfl rfl)
theorem dX9_weigh_76 : decode cX9_weigh 76 = .ok (.istore_n 3, 1) := dk_62 (dk_at dksX9_weigh_3 5 rfl rfl)
theorem dX9_weigh_77 : decode cX9_weigh 77 = .ok (.iinc 4 1, 3) := dk_132 4 1 (dk_at dksX9_weigh_3 6 rfl rfl)
theorem dX9_weigh_80 : decode cX9_weigh 80 = .ok (.goto (-73), 3) := dk_167 255 183 (dk_at dksX9_weigh_3 9 rfl rfl)
theorem dX9_weigh_83 : decode cX9_weigh 83 = .ok (.iload_n 2, 1) := dk_28 (dk_at dksX9_weigh_3 12 rfl rfl)
theorem dX9_weigh_84 : decode cX9_weigh 84 = .ok (.aload_n 0, 1) := dk_42 (dk_at dksX9_weigh_3 13 rfl rfl)
theorem dX9_weigh_85 : decode cX9_weigh 85 = .ok (.getfield 414, 3) := dk_180 1 158 (dk_at dksX9_weigh_3 14 rfl rfl)
theorem dX9_weigh_88 : decode cX9_weigh 88 = .ok (.if_icmp .gt 19, 3) := dk_163 0 19 (dk_at dksX9_weigh_3 17 rfl rfl)
theorem dX9_weigh_91 : decode cX9_weigh 91 = .ok (.iload_n 2, 1) := dk_28 (dk_at dksX9_weigh_3 20 rfl rfl)
theorem dX9_weigh_92 : decode cX9_weigh 92 = .ok (.aload_n 0, 1) := dk_42 (dk_at dksX9_weigh_3 21 rfl rfl)
theorem dX9_weigh_93 : decode cX9_weigh 93 = .ok (.getfield 414, 3) := dk_180 1 158 (dk_at dksX9_weigh_4 0 rfl rfl)
theorem dX9_weigh_96 : decode cX9_weigh 96 = .ok (.if_icmp .ne 55, 3) := dk_160 0 55 (dk_at dksX9_weigh_4 3 rfl rfl)
theorem dX9_weigh_99 : decode cX9_weigh 99 = .ok (.iload_n 3, 1) := dk_29 (dk_at dksX9_weigh_4 6 rfl rfl)
theorem dX9_weigh_100 : decode cX9_weigh 100 = .ok (.aload_n 0, 1) := dk_42 (dk_at dksX9_weigh_4 7 rfl rfl)
theorem dX9_weigh_101 : decode cX9_weigh 101 = .ok (.getfield 417, 3) := dk_180 1 161 (dk_at dksX9_weigh_4 8 rfl rfl)
theorem dX9_weigh_104 : decode cX9_weigh 104 = .ok (.if_icmp .ge 47, 3) := dk_162 0 47 (dk_at dksX9_weigh_4 11 rfl rfl)
theorem dX9_weigh_107 : decode cX9_weigh 107 = .ok (.aload_n 0, 1) := dk_42 (dk_at dksX9_weigh_4 14 rfl rfl)
theorem dX9_weigh_108 : decode cX9_weigh 108 = .ok (.iload_n 2, 1) := dk_28 (dk_at dksX9_weigh_4 15 rfl rfl)
theorem dX9_weigh_109 : decode cX9_weigh 109 = .ok (.putfield 414, 3) := dk_181 1 158 (dk_at dksX9_weigh_4 16 rfl rfl)
theorem dX9_weigh_112 : decode cX9_weigh 112 = .ok (.aload_n 0, 1) := dk_42 (dk_at dksX9_weigh_4 19 rfl rfl)
theorem dX9_weigh_113 : decode cX9_weigh 113 = .ok (.iload_n 3, 1) := dk_29 (dk_at dksX9_weigh_4 20 rfl rfl)
theorem dX9_weigh_114 : decode cX9_weigh 114 = .ok (.putfield 417, 3) := dk_181 1 161 (dk_at dksX9_weigh_4 21 rfl rfl)
theorem dX9_weigh_117 : decode cX9_weigh 117 = .ok (.aload_n 0, 1) := dk_42 (dk_at dksX9_weigh_5 0 rfl rfl)
theorem dX9_weigh_118 : decode cX9_weigh 118 = .ok (.iconst 0, 1) := dk_3 (dk_at dksX9_weigh_5 1 rfl rfl)
theorem dX9_weigh_119 : decode cX9_weigh 119 = .ok (.putfield 420, 3) := dk_181 1 164 (dk_at dksX9_weigh_5 2 rfl rfl)
theorem dX9_weigh_122 : decode cX9_weigh 122 = .ok (.iconst 0, 1) := dk_3 (dk_at dksX9_weigh_5 5 rfl rfl)
theorem dX9_weigh_123 : decode cX9_weigh 123 = .ok (.istore 4, 2) := dk_54 4 (dk_at dksX9_weigh_5 6 rfl rfl)
theorem dX9_weigh_125 : decode cX9_weigh 125 = .ok (.iload 4, 2) := dk_21 4 (dk_at dksX9_weigh_5 8 rfl rfl)
theorem dX9_weigh_127 : decode cX9_weigh 127 = .ok (.iconst 5, 1) := dk_8 (dk_at dksX9_weigh_5 10 rfl rfl)
theorem dX9_weigh_128 : decode cX9_weigh 128 = .ok (.if_icmp .ge 23, 3) := dk_162 0 23 (dk_at dksX9_weigh_5 11 rfl rfl)
theorem dX9_weigh_131 : decode cX9_weigh 131 = .ok (.aload_n 0, 1) := dk_42 (dk_at dksX9_weigh_5 14 rfl rfl)
theorem dX9_weigh_132 : decode cX9_weigh 132 = .ok (.getfield 114, 3) := dk_180 0 114 (dk_at dksX9_weigh_5 15 rfl rfl)
theorem dX9_weigh_135 : decode cX9_weigh 135 = .ok (.iload 4, 2) := dk_21 4 (dk_at dksX9_weigh_5 18 rfl rfl)
theorem dX9_weigh_137 : decode cX9_weigh 137 = .ok (.aload_n 0, 1) := dk_42 (dk_at dksX9_weigh_5 20 rfl rfl)
theorem dX9_weigh_138 : decode cX9_weigh 138 = .ok (.getfield 111, 3) := dk_180 0 111 (dk_at dksX9_weigh_5 21 rfl rfl)
theorem dX9_weigh_141 : decode cX9_weigh 141 = .ok (.iload 4, 2) := dk_21 4 (dk_at dksX9_weigh_6 0 rfl rfl)
theorem dX9_weigh_143 : decode cX9_weigh 143 = .ok (.iaload, 1) := dk_46 (dk_at dksX9_weigh_6 2 rfl rfl)
theorem dX9_weigh_144 : decode cX9_weigh 144 = .ok (.iastore, 1) := dk_79 (dk_at dksX9_weigh_6 3 rfl rfl)
theorem dX9_weigh_145 : decode cX9_weigh 145 = .ok (.iinc 4 1, 3) := dk_132 4 1 (dk_at dksX9_weigh_6 4 rfl rfl)
theorem dX9_weigh_148 : decode cX9_weigh 148 = .ok (.goto (-23), 3) := dk_167 255 233 (dk_at dksX9_weigh_6 7 rfl rfl)
theorem dX9_weigh_151 : decode cX9_weigh 151 = .ok (.aload_n 0, 1) := dk_42 (dk_at dksX9_weigh_6 10 rfl rfl)
theorem dX9_weigh_152 : decode cX9_weigh 152 = .ok (.dup, 1) := dk_89 (dk_at dksX9_weigh_6 11 rfl rfl)
theorem dX9_weigh_153 : decode cX9_weigh 153 = .ok (.getfield 420, 3) := dk_180 1 164 (dk_at dksX9_weigh_6 12 rfl rfl)
theorem dX9_weigh_156 : decode cX9_weigh 156 = .ok (.iload_n 2, 1) := dk_28 (dk_at dksX9_weigh_6 15 rfl rfl)
theorem dX9_weigh_157 : decode cX9_weigh 157 = .ok (.aload_n 0, 1) := dk_42 (dk_at dksX9_weigh_6 16 rfl rfl)
theorem dX9_weigh_158 : decode cX9_weigh 158 = .ok (.getfield 414, 3) := dk_180 1 158 (dk_at dksX9_weigh_6 17 rfl rfl)
theorem dX9_weigh_161 : decode cX9_weigh 161 = .ok (.if_icmp .ne 15, 3) := dk_160 0 15 (dk_at dksX9_weigh_6 20 rfl rfl)
theorem dX9_weigh_164 : decode cX9_weigh 164 = .ok (.iload_n 3, 1) := dk_29 (dk_at dksX9_weigh_6 23 rfl rfl)
theorem dX9_weigh_165 : decode cX9_weigh 165 = .ok (.aload_n 0, 1) := dk_42 (dk_at dksX9_weigh_7 0 rfl rfl)
theorem dX9_weigh_166 : decode cX9_weigh 166 = .ok (.getfield 417, 3) := dk_180 1 161 (dk_at dksX9_weigh_7 1 rfl rfl)
theorem dX9_weigh_169 : decode cX9_weigh 169 = .ok (.if_icmp .ne 7, 3) := dk_160 0 7 (dk_at dksX9_weigh_7 4 rfl rfl)
theorem dX9_weigh_172 : decode cX9_weigh 172 = .ok (.iconst 1, 1) := dk_4 (dk_at dksX9_weigh_7 7 rfl rfl)
theorem dX9_weigh_173 : decode cX9_weigh 173 = .ok (.goto 4, 3) := dk_167 0 4 (dk_at dksX9_weigh_7 8 rfl rfl)
theorem dX9_weigh_176 : decode cX9_weigh 176 = .ok (.iconst 0, 1) := dk_3 (dk_at dksX9_weigh_7 11 rfl rfl)
theorem dX9_weigh_177 : decode cX9_weigh 177 = .ok (.iadd, 1) := dk_96 (dk_at dksX9_weigh_7 12 rfl rfl)
theorem dX9_weigh_178 : decode cX9_weigh 178 = .ok (.putfield 420, 3) := dk_181 1 164 (dk_at dksX9_weigh_7 13 rfl rfl)
theorem dX9_weigh_181 : decode cX9_weigh 181 = .ok (.return_, 1) := dk_177 (dk_at dksX9_weigh_7 16 rfl rfl)
abbrev cX9_is : ByteArray := prog_23_method_4_code
def yX9_is : MethodName := ⟨RX9, "is", "(II)Z"⟩
def dkwX9_is_0 : List UInt8 := [26, 27, 122, 4, 126, 4, 160, 0, 7, 4, 167, 0, 4, 3, 172]
abbrev dktX9_is_0 : List UInt8 := dkwX9_is_0 ++ []
theorem dksX9_is_0 : cX9_is.data.toList.drop 0 = dktX9_is_0 := by decide +kernel
theorem dX9_is_0 : decode cX9_is 0 = .ok (.iload_n 0, 1) := dk_26 (dk_at dksX9_is_0 0 rfl rfl)
theorem dX9_is_1 : decode cX9_is 1 = .ok (.iload_n 1, 1) := dk_27 (dk_at dksX9_is_0 1 rfl rfl)
theorem dX9_is_2 : decode cX9_is 2 = .ok (.ishr, 1) := dk_122 (dk_at dksX9_is_0 2 rfl rfl)
theorem dX9_is_3 : decode cX9_is 3 = .ok (.iconst 1, 1) := dk_4 (dk_at dksX9_is_0 3 rfl rfl)
theorem dX9_is_4 : decode cX9_is 4 = .ok (.iand, 1) := dk_126 (dk_at dksX9_is_0 4 rfl rfl)
theorem dX9_is_5 : decode cX9_is 5 = .ok (.iconst 1, 1) := dk_4 (dk_at dksX9_is_0 5 rfl rfl)
theorem dX9_is_6 : decode cX9_is 6 = .ok (.if_icmp .ne 7, 3) := dk_160 0 7 (dk_at dksX9_is_0 6 rfl rfl)
theorem dX9_is_9 : decode cX9_is 9 = .ok (.iconst 1, 1) := dk_4 (dk_at dksX9_is_0 9 rfl rfl)
theorem dX9_is_10 : decode cX9_is 10 = .ok (.goto 4, 3) := dk_167 0 4 (dk_at dksX9_is_0 10 rfl rfl)
theorem dX9_is_13 : decode cX9_is 13 = .ok (.iconst 0, 1) := dk_3 (dk_at dksX9_is_0 13 rfl rfl)
theorem dX9_is_14 : decode cX9_is 14 = .ok (.ireturn, 1) := dk_172 (dk_at dksX9_is_0 14 rfl rfl)
abbrev cX9_nextPlan : ByteArray := prog_23_method_73_code
def yX9_nextPlan : MethodName := ⟨RX9, "nextPlan", "(I)I"⟩
def dkwX9_nextPlan_2 : List UInt8 := [28, 92, 46, 4, 96, 79, 28, 172]
abbrev dktX9_nextPlan_2 : List UInt8 := dkwX9_nextPlan_2 ++ []
def dkwX9_nextPlan_1 : List UInt8 := [160, 0, 16, 42, 180, 0, 111, 28, 2, 79, 132, 2, 255, 167, 255, 225, 28, 155, 0, 13, 42, 180, 0, 111]
abbrev dktX9_nextPlan_1 : List UInt8 := dkwX9_nextPlan_1 ++ dktX9_nextPlan_2
def dkwX9_nextPlan_0 : List UInt8 := [27, 4, 100, 61, 28, 155, 0, 33, 42, 180, 0, 111, 28, 46, 42, 180, 0, 13, 4, 46, 4, 100]
abbrev dktX9_nextPlan_0 : List UInt8 := dkwX9_nextPlan_0 ++ dktX9_nextPlan_1
theorem dksX9_nextPlan_0 : cX9_nextPlan.data.toList.drop 0 = dktX9_nextPlan_0 := by decide +kernel
theorem dksX9_nextPlan_1 : cX9_nextPlan.data.toList.drop 22 = dktX9_nextPlan_1 := dk_seg dksX9_nextPlan_0 22 rfl rfl
theorem dksX9_nextPlan_2 : cX9_nextPlan.data.toList.drop 46 = dktX9_nextPlan_2 := dk_seg dksX9_nextPlan_1 24 rfl rfl
theorem dX9_nextPlan_0 : decode cX9_nextPlan 0 = .ok (.iload_n 1, 1) := dk_27 (dk_at dksX9_nextPlan_0 0 rfl rfl)
theorem dX9_nextPlan_1 : decode cX9_nextPlan 1 = .ok (.iconst 1, 1) := dk_4 (dk_at dksX9_nextPlan_0 1 rfl rfl)
theorem dX9_nextPlan_2 : decode cX9_nextPlan 2 = .ok (.isub, 1) := dk_100 (dk_at dksX9_nextPlan_0 2 rfl rfl)
theorem dX9_nextPlan_3 : decode cX9_nextPlan 3 = .ok (.istore_n 2, 1) := dk_61 (dk_at dksX9_nextPlan_0 3 rfl rfl)
theorem dX9_nextPlan_4 : decode cX9_nextPlan 4 = .ok (.iload_n 2, 1) := dk_28 (dk_at dksX9_nextPlan_0 4 rfl rfl)
theorem dX9_nextPlan_5 : decode cX9_nextPlan 5 = .ok (.ifCond .lt 33, 3) := dk_155 0 33 (dk_at dksX9_nextPlan_0 5 rfl rfl)
theorem dX9_nextPlan_8 : decode cX9_nextPlan 8 = .ok (.aload_n 0, 1) := dk_42 (dk_at dksX9_nextPlan_0 8 rfl rfl)
theorem dX9_nextPlan_9 : decode cX9_nextPlan 9 = .ok (.getfield 111, 3) := dk_180 0 111 (dk_at dksX9_nextPlan_0 9 rfl rfl)
theorem dX9_nextPlan_12 : decode cX9_nextPlan 12 = .ok (.iload_n 2, 1) := dk_28 (dk_at dksX9_nextPlan_0 12 rfl rfl)
theorem dX9_nextPlan_13 : decode cX9_nextPlan 13 = .ok (.iaload, 1) := dk_46 (dk_at dksX9_nextPlan_0 13 rfl rfl)
theorem dX9_nextPlan_14 : decode cX9_nextPlan 14 = .ok (.aload_n 0, 1) := dk_42 (dk_at dksX9_nextPlan_0 14 rfl rfl)
theorem dX9_nextPlan_15 : decode cX9_nextPlan 15 = .ok (.getfield 13, 3) := dk_180 0 13 (dk_at dksX9_nextPlan_0 15 rfl rfl)
theorem dX9_nextPlan_18 : decode cX9_nextPlan 18 = .ok (.iconst 1, 1) := dk_4 (dk_at dksX9_nextPlan_0 18 rfl rfl)
theorem dX9_nextPlan_19 : decode cX9_nextPlan 19 = .ok (.iaload, 1) := dk_46 (dk_at dksX9_nextPlan_0 19 rfl rfl)
theorem dX9_nextPlan_20 : decode cX9_nextPlan 20 = .ok (.iconst 1, 1) := dk_4 (dk_at dksX9_nextPlan_0 20 rfl rfl)
theorem dX9_nextPlan_21 : decode cX9_nextPlan 21 = .ok (.isub, 1) := dk_100 (dk_at dksX9_nextPlan_0 21 rfl rfl)
theorem dX9_nextPlan_22 : decode cX9_nextPlan 22 = .ok (.if_icmp .ne 16, 3) := dk_160 0 16 (dk_at dksX9_nextPlan_1 0 rfl rfl)
theorem dX9_nextPlan_25 : decode cX9_nextPlan 25 = .ok (.aload_n 0, 1) := dk_42 (dk_at dksX9_nextPlan_1 3 rfl rfl)
theorem dX9_nextPlan_26 : decode cX9_nextPlan 26 = .ok (.getfield 111, 3) := dk_180 0 111 (dk_at dksX9_nextPlan_1 4 rfl rfl)
theorem dX9_nextPlan_29 : decode cX9_nextPlan 29 = .ok (.iload_n 2, 1) := dk_28 (dk_at dksX9_nextPlan_1 7 rfl rfl)
theorem dX9_nextPlan_30 : decode cX9_nextPlan 30 = .ok (.iconst (-1), 1) := dk_2 (dk_at dksX9_nextPlan_1 8 rfl rfl)
theorem dX9_nextPlan_31 : decode cX9_nextPlan 31 = .ok (.iastore, 1) := dk_79 (dk_at dksX9_nextPlan_1 9 rfl rfl)
theorem dX9_nextPlan_32 : decode cX9_nextPlan 32 = .ok (.iinc 2 (-1), 3) := dk_132 2 255 (dk_at dksX9_nextPlan_1 10 rfl rfl)
theorem dX9_nextPlan_35 : decode cX9_nextPlan 35 = .ok (.goto (-31), 3) := dk_167 255 225 (dk_at dksX9_nextPlan_1 13 rfl rfl)
theorem dX9_nextPlan_38 : decode cX9_nextPlan 38 = .ok (.iload_n 2, 1) := dk_28 (dk_at dksX9_nextPlan_1 16 rfl rfl)
theorem dX9_nextPlan_39 : decode cX9_nextPlan 39 = .ok (.ifCond .lt 13, 3) := dk_155 0 13 (dk_at dksX9_nextPlan_1 17 rfl rfl)
theorem dX9_nextPlan_42 : decode cX9_nextPlan 42 = .ok (.aload_n 0, 1) := dk_42 (dk_at dksX9_nextPlan_1 20 rfl rfl)
theorem dX9_nextPlan_43 : decode cX9_nextPlan 43 = .ok (.getfield 111, 3) := dk_180 0 111 (dk_at dksX9_nextPlan_1 21 rfl rfl)
theorem dX9_nextPlan_46 : decode cX9_nextPlan 46 = .ok (.iload_n 2, 1) := dk_28 (dk_at dksX9_nextPlan_2 0 rfl rfl)
theorem dX9_nextPlan_47 : decode cX9_nextPlan 47 = .ok (.dup2, 1) := dk_92 (dk_at dksX9_nextPlan_2 1 rfl rfl)
theorem dX9_nextPlan_48 : decode cX9_nextPlan 48 = .ok (.iaload, 1) := dk_46 (dk_at dksX9_nextPlan_2 2 rfl rfl)
theorem dX9_nextPlan_49 : decode cX9_nextPlan 49 = .ok (.iconst 1, 1) := dk_4 (dk_at dksX9_nextPlan_2 3 rfl rfl)
theorem dX9_nextPlan_50 : decode cX9_nextPlan 50 = .ok (.iadd, 1) := dk_96 (dk_at dksX9_nextPlan_2 4 rfl rfl)
theorem dX9_nextPlan_51 : decode cX9_nextPlan 51 = .ok (.iastore, 1) := dk_79 (dk_at dksX9_nextPlan_2 5 rfl rfl)
theorem dX9_nextPlan_52 : decode cX9_nextPlan 52 = .ok (.iload_n 2, 1) := dk_28 (dk_at dksX9_nextPlan_2 6 rfl rfl)
theorem dX9_nextPlan_53 : decode cX9_nextPlan 53 = .ok (.ireturn, 1) := dk_172 (dk_at dksX9_nextPlan_2 7 rfl rfl)
abbrev cX9_light : ByteArray := prog_23_method_78_code
def yX9_light : MethodName := ⟨RX9, "light", "(II)I"⟩
def dkwX9_light_2 : List UInt8 := [79, 132, 3, 1, 167, 255, 233, 42, 42, 180, 1, 158, 182, 0, 164, 172]
abbrev dktX9_light_2 : List UInt8 := dkwX9_light_2 ++ []
def dkwX9_light_1 : List UInt8 := [182, 1, 185, 3, 62, 29, 8, 162, 0, 24, 42, 180, 0, 13, 16, 7, 29, 96, 42, 180, 0, 114, 29, 46]
abbrev dktX9_light_1 : List UInt8 := dkwX9_light_1 ++ dktX9_light_2
def dkwX9_light_0 : List UInt8 := [42, 3, 181, 0, 150, 42, 27, 28, 182, 1, 182, 154, 0, 9, 42, 2, 182, 0, 164, 172, 42, 27, 28]
abbrev dktX9_light_0 : List UInt8 := dkwX9_light_0 ++ dktX9_light_1
theorem dksX9_light_0 : cX9_light.data.toList.drop 0 = dktX9_light_0 := by decide +kernel
theorem dksX9_light_1 : cX9_light.data.toList.drop 23 = dktX9_light_1 := dk_seg dksX9_light_0 23 rfl rfl
theorem dksX9_light_2 : cX9_light.data.toList.drop 47 = dktX9_light_2 := dk_seg dksX9_light_1 24 rfl rfl
theorem dX9_light_0 : decode cX9_light 0 = .ok (.aload_n 0, 1) := dk_42 (dk_at dksX9_light_0 0 rfl rfl)
theorem dX9_light_1 : decode cX9_light 1 = .ok (.iconst 0, 1) := dk_3 (dk_at dksX9_light_0 1 rfl rfl)
theorem dX9_light_2 : decode cX9_light 2 = .ok (.putfield 150, 3) := dk_181 0 150 (dk_at dksX9_light_0 2 rfl rfl)
theorem dX9_light_5 : decode cX9_light 5 = .ok (.aload_n 0, 1) := dk_42 (dk_at dksX9_light_0 5 rfl rfl)
theorem dX9_light_6 : decode cX9_light 6 = .ok (.iload_n 1, 1) := dk_27 (dk_at dksX9_light_0 6 rfl rfl)
theorem dX9_light_7 : decode cX9_light 7 = .ok (.iload_n 2, 1) := dk_28 (dk_at dksX9_light_0 7 rfl rfl)
theorem dX9_light_8 : decode cX9_light 8 = .ok (.invokevirtual 438, 3) := dk_182 1 182 (dk_at dksX9_light_0 8 rfl rfl)
theorem dX9_light_11 : decode cX9_light 11 = .ok (.ifCond .ne 9, 3) := dk_154 0 9 (dk_at dksX9_light_0 11 rfl rfl)
theorem dX9_light_14 : decode cX9_light 14 = .ok (.aload_n 0, 1) := dk_42 (dk_at dksX9_light_0 14 rfl rfl)
theorem dX9_light_15 : decode cX9_light 15 = .ok (.iconst (-1), 1) := dk_2 (dk_at dksX9_light_0 15 rfl rfl)
theorem dX9_light_16 : decode cX9_light 16 = .ok (.invokevirtual 164, 3) := dk_182 0 164 (dk_at dksX9_light_0 16 rfl rfl)
theorem dX9_light_19 : decode cX9_light 19 = .ok (.ireturn, 1) := dk_172 (dk_at dksX9_light_0 19 rfl rfl)
theorem dX9_light_20 : decode cX9_light 20 = .ok (.aload_n 0, 1) := dk_42 (dk_at dksX9_light_0 20 rfl rfl)
theorem dX9_light_21 : decode cX9_light 21 = .ok (.iload_n 1, 1) := dk_27 (dk_at dksX9_light_0 21 rfl rfl)
theorem dX9_light_22 : decode cX9_light 22 = .ok (.iload_n 2, 1) := dk_28 (dk_at dksX9_light_0 22 rfl rfl)
theorem dX9_light_23 : decode cX9_light 23 = .ok (.invokevirtual 441, 3) := dk_182 1 185 (dk_at dksX9_light_1 0 rfl rfl)
theorem dX9_light_26 : decode cX9_light 26 = .ok (.iconst 0, 1) := dk_3 (dk_at dksX9_light_1 3 rfl rfl)
theorem dX9_light_27 : decode cX9_light 27 = .ok (.istore_n 3, 1) := dk_62 (dk_at dksX9_light_1 4 rfl rfl)
theorem dX9_light_28 : decode cX9_light 28 = .ok (.iload_n 3, 1) := dk_29 (dk_at dksX9_light_1 5 rfl rfl)
theorem dX9_light_29 : decode cX9_light 29 = .ok (.iconst 5, 1) := dk_8 (dk_at dksX9_light_1 6 rfl rfl)
theorem dX9_light_30 : decode cX9_light 30 = .ok (.if_icmp .ge 24, 3) := dk_162 0 24 (dk_at dksX9_light_1 7 rfl rfl)
theorem dX9_light_33 : decode cX9_light 33 = .ok (.aload_n 0, 1) := dk_42 (dk_at dksX9_light_1 10 rfl rfl)
theorem dX9_light_34 : decode cX9_light 34 = .ok (.getfield 13, 3) := dk_180 0 13 (dk_at dksX9_light_1 11 rfl rfl)
theorem dX9_light_37 : decode cX9_light 37 = .ok (.bipush 7, 2) := dk_16 7 (dk_at dksX9_light_1 14 rfl rfl)
theorem dX9_light_39 : decode cX9_light 39 = .ok (.iload_n 3, 1) := dk_29 (dk_at dksX9_light_1 16 rfl rfl)
theorem dX9_light_40 : decode cX9_light 40 = .ok (.iadd, 1) := dk_96 (dk_at dksX9_light_1 17 rfl rfl)
theorem dX9_light_41 : decode cX9_light 41 = .ok (.aload_n 0, 1) := dk_42 (dk_at dksX9_light_1 18 rfl rfl)
theorem dX9_light_42 : decode cX9_light 42 = .ok (.getfield 114, 3) := dk_180 0 114 (dk_at dksX9_light_1 19 rfl rfl)
theorem dX9_light_45 : decode cX9_light 45 = .ok (.iload_n 3, 1) := dk_29 (dk_at dksX9_light_1 22 rfl rfl)
theorem dX9_light_46 : decode cX9_light 46 = .ok (.iaload, 1) := dk_46 (dk_at dksX9_light_1 23 rfl rfl)
theorem dX9_light_47 : decode cX9_light 47 = .ok (.iastore, 1) := dk_79 (dk_at dksX9_light_2 0 rfl rfl)
theorem dX9_light_48 : decode cX9_light 48 = .ok (.iinc 3 1, 3) := dk_132 3 1 (dk_at dksX9_light_2 1 rfl rfl)
theorem dX9_light_51 : decode cX9_light 51 = .ok (.goto (-23), 3) := dk_167 255 233 (dk_at dksX9_light_2 4 rfl rfl)
theorem dX9_light_54 : decode cX9_light 54 = .ok (.aload_n 0, 1) := dk_42 (dk_at dksX9_light_2 7 rfl rfl)
theorem dX9_light_55 : decode cX9_light 55 = .ok (.aload_n 0, 1) := dk_42 (dk_at dksX9_light_2 8 rfl rfl)
theorem dX9_light_56 : decode cX9_light 56 = .ok (.getfield 414, 3) := dk_180 1 158 (dk_at dksX9_light_2 9 rfl rfl)
theorem dX9_light_59 : decode cX9_light 59 = .ok (.invokevirtual 164, 3) := dk_182 0 164 (dk_at dksX9_light_2 12 rfl rfl)
theorem dX9_light_62 : decode cX9_light 62 = .ok (.ireturn, 1) := dk_172 (dk_at dksX9_light_2 15 rfl rfl)
abbrev cX9_duel : ByteArray := prog_23_method_80_code
def yX9_duel : MethodName := ⟨RX9, "duel", "(III)I"⟩
def dkwX9_duel_9 : List UInt8 := [154, 0, 12, 42, 180, 0, 117, 3, 46, 167, 0, 9, 42, 180, 0, 120, 3, 46, 172]
abbrev dktX9_duel_9 : List UInt8 := dkwX9_duel_9 ++ []
def dkwX9_duel_8 : List UInt8 := [27, 21, 4, 2, 160, 0, 7, 3, 167, 0, 5, 21, 4, 21, 5, 182, 1, 189, 167, 255, 135, 29]
abbrev dktX9_duel_8 : List UInt8 := dkwX9_duel_8 ++ dktX9_duel_9
def dkwX9_duel_7 : List UInt8 := [180, 0, 84, 28, 46, 42, 28, 4, 182, 0, 169, 184, 1, 117, 54, 5, 42, 27, 182, 1, 176, 54, 4, 42]
abbrev dktX9_duel_7 : List UInt8 := dkwX9_duel_7 ++ dktX9_duel_8
def dkwX9_duel_6 : List UInt8 := [162, 0, 23, 42, 180, 0, 123, 21, 5, 42, 180, 0, 111, 21, 5, 46, 79, 132, 5, 1, 167, 255, 233, 42]
abbrev dktX9_duel_6 : List UInt8 := dkwX9_duel_6 ++ dktX9_duel_7
def dkwX9_duel_5 : List UInt8 := [182, 1, 148, 42, 21, 5, 4, 96, 182, 1, 167, 132, 5, 1, 167, 255, 226, 3, 54, 5, 21, 5, 27]
abbrev dktX9_duel_5 : List UInt8 := dkwX9_duel_5 ++ dktX9_duel_6
def dkwX9_duel_4 : List UInt8 := [182, 1, 170, 21, 4, 54, 5, 21, 5, 27, 162, 0, 30, 42, 21, 5, 42, 180, 0, 111, 21, 5, 46]
abbrev dktX9_duel_4 : List UInt8 := dkwX9_duel_4 ++ dktX9_duel_5
def dkwX9_duel_3 : List UInt8 := [132, 4, 1, 167, 255, 229, 3, 54, 4, 42, 3, 182, 1, 167, 21, 4, 2, 159, 0, 121, 42, 21, 4]
abbrev dktX9_duel_3 : List UInt8 := dkwX9_duel_3 ++ dktX9_duel_4
def dkwX9_duel_2 : List UInt8 := [8, 162, 0, 27, 42, 180, 0, 111, 21, 4, 2, 79, 42, 180, 0, 117, 21, 4, 19, 1, 188, 79]
abbrev dktX9_duel_2 : List UInt8 := dkwX9_duel_2 ++ dktX9_duel_3
def dkwX9_duel_1 : List UInt8 := [153, 0, 13, 29, 133, 9, 10, 184, 0, 160, 154, 0, 5, 2, 172, 42, 182, 1, 145, 3, 54, 4, 21, 4]
abbrev dktX9_duel_1 : List UInt8 := dkwX9_duel_1 ++ dktX9_duel_2
def dkwX9_duel_0 : List UInt8 := [42, 3, 181, 0, 150, 27, 133, 10, 20, 0, 200, 184, 0, 160, 153, 0, 21, 42, 28, 182, 0, 197]
abbrev dktX9_duel_0 : List UInt8 := dkwX9_duel_0 ++ dktX9_duel_1
theorem dksX9_duel_0 : cX9_duel.data.toList.drop 0 = dktX9_duel_0 := by decide +kernel
theorem dksX9_duel_1 : cX9_duel.data.toList.drop 22 = dktX9_duel_1 := dk_seg dksX9_duel_0 22 rfl rfl
theorem dksX9_duel_2 : cX9_duel.data.toList.drop 46 = dktX9_duel_2 := dk_seg dksX9_duel_1 24 rfl rfl
theorem dksX9_duel_3 : cX9_duel.data.toList.drop 68 = dktX9_duel_3 := dk_seg dksX9_duel_2 22 rfl rfl
theorem dksX9_duel_4 : cX9_duel.data.toList.drop 91 = dktX9_duel_4 := dk_seg dksX9_duel_3 23 rfl rfl
theorem dksX9_duel_5 : cX9_duel.data.toList.drop 114 = dktX9_duel_5 := dk_seg dksX9_duel_4 23 rfl rfl
theorem dksX9_duel_6 : cX9_duel.data.toList.drop 137 = dktX9_duel_6 := dk_seg dksX9_duel_5 23 rfl rfl
theorem dksX9_duel_7 : cX9_duel.data.toList.drop 161 = dktX9_duel_7 := dk_seg dksX9_duel_6 24 rfl rfl
theorem dksX9_duel_8 : cX9_duel.data.toList.drop 185 = dktX9_duel_8 := dk_seg dksX9_duel_7 24 rfl rfl
theorem dksX9_duel_9 : cX9_duel.data.toList.drop 207 = dktX9_duel_9 := dk_seg dksX9_duel_8 22 rfl rfl
theorem dX9_duel_0 : decode cX9_duel 0 = .ok (.aload_n 0, 1) := dk_42 (dk_at dksX9_duel_0 0 rfl rfl)
theorem dX9_duel_1 : decode cX9_duel 1 = .ok (.iconst 0, 1) := dk_3 (dk_at dksX9_duel_0 1 rfl rfl)
theorem dX9_duel_2 : decode cX9_duel 2 = .ok (.putfield 150, 3) := dk_181 0 150 (dk_at dksX9_duel_0 2 rfl rfl)
theorem dX9_duel_5 : decode cX9_duel 5 = .ok (.iload_n 1, 1) := dk_27 (dk_at dksX9_duel_0 5 rfl rfl)
theorem dX9_duel_6 : decode cX9_duel 6 = .ok (.i2l, 1) := dk_133 (dk_at dksX9_duel_0 6 rfl rfl)
theorem dX9_duel_7 : decode cX9_duel 7 = .ok (.lconst 1, 1) := dk_10 (dk_at dksX9_duel_0 7 rfl rfl)
theorem dX9_duel_8 : decode cX9_duel 8 = .ok (.ldc2_w 200, 3) := dk_20 0 200 (dk_at dksX9_duel_0 8 rfl rfl)
theorem dX9_duel_11 : decode cX9_duel 11 = .ok (.invokestatic 160, 3) := dk_184 0 160 (dk_at dksX9_duel_0 11 rfl rfl)
theorem dX9_duel_14 : decode cX9_duel 14 = .ok (.ifCond .eq 21, 3) := dk_153 0 21 (dk_at dksX9_duel_0 14 rfl rfl)
theorem dX9_duel_17 : decode cX9_duel 17 = .ok (.aload_n 0, 1) := dk_42 (dk_at dksX9_duel_0 17 rfl rfl)
theorem dX9_duel_18 : decode cX9_duel 18 = .ok (.iload_n 2, 1) := dk_28 (dk_at dksX9_duel_0 18 rfl rfl)
theorem dX9_duel_19 : decode cX9_duel 19 = .ok (.invokevirtual 197, 3) := dk_182 0 197 (dk_at dksX9_duel_0 19 rfl rfl)
theorem dX9_duel_22 : decode cX9_duel 22 = .ok (.ifCond .eq 13, 3) := dk_153 0 13 (dk_at dksX9_duel_1 0 rfl rfl)
theorem dX9_duel_25 : decode cX9_duel 25 = .ok (.iload_n 3, 1) := dk_29 (dk_at dksX9_duel_1 3 rfl rfl)
theorem dX9_duel_26 : decode cX9_duel 26 = .ok (.i2l, 1) := dk_133 (dk_at dksX9_duel_1 4 rfl rfl)
theorem dX9_duel_27 : decode cX9_duel 27 = .ok (.lconst 0, 1) := dk_9 (dk_at dksX9_duel_1 5 rfl rfl)
theorem dX9_duel_28 : decode cX9_duel 28 = .ok (.lconst 1, 1) := dk_10 (dk_at dksX9_duel_1 6 rfl rfl)
theorem dX9_duel_29 : decode cX9_duel 29 = .ok (.invokestatic 160, 3) := dk_184 0 160 (dk_at dksX9_duel_1 7 rfl rfl)
theorem dX9_duel_32 : decode cX9_duel 32 = .ok (.ifCond .ne 5, 3) := dk_154 0 5 (dk_at dksX9_duel_1 10 rfl rfl)
theorem dX9_duel_35 : decode cX9_duel 35 = .ok (.iconst (-1), 1) := dk_2 (dk_at dksX9_duel_1 13 rfl rfl)
theorem dX9_duel_36 : decode cX9_duel 36 = .ok (.ireturn, 1) := dk_172 (dk_at dksX9_duel_1 14 rfl rfl)
theorem dX9_duel_37 : decode cX9_duel 37 = .ok (.aload_n 0, 1) := dk_42 (dk_at dksX9_duel_1 15 rfl rfl)
theorem dX9_duel_38 : decode cX9_duel 38 = .ok (.invokevirtual 401, 3) := dk_182 1 145 (dk_at dksX9_duel_1 16 rfl rfl)
theorem dX9_duel_41 : decode cX9_duel 41 = .ok (.iconst 0, 1) := dk_3 (dk_at dksX9_duel_1 19 rfl rfl)
theorem dX9_duel_42 : decode cX9_duel 42 = .ok (.istore 4, 2) := dk_54 4 (dk_at dksX9_duel_1 20 rfl rfl)
theorem dX9_duel_44 : decode cX9_duel 44 = .ok (.iload 4, 2) := dk_21 4 (dk_at dksX9_duel_1 22 rfl rfl)
theorem dX9_duel_46 : decode cX9_duel 46 = .ok (.iconst 5, 1) := dk_8 (dk_at dksX9_duel_2 0 rfl rfl)
theorem dX9_duel_47 : decode cX9_duel 47 = .ok (.if_icmp .ge 27, 3) := dk_162 0 27 (dk_at dksX9_duel_2 1 rfl rfl)
theorem dX9_duel_50 : decode cX9_duel 50 = .ok (.aload_n 0, 1) := dk_42 (dk_at dksX9_duel_2 4 rfl rfl)
theorem dX9_duel_51 : decode cX9_duel 51 = .ok (.getfield 111, 3) := dk_180 0 111 (dk_at dksX9_duel_2 5 rfl rfl)
theorem dX9_duel_54 : decode cX9_duel 54 = .ok (.iload 4, 2) := dk_21 4 (dk_at dksX9_duel_2 8 rfl rfl)
theorem dX9_duel_56 : decode cX9_duel 56 = .ok (.iconst (-1), 1) := dk_2 (dk_at dksX9_duel_2 10 rfl rfl)
theorem dX9_duel_57 : decode cX9_duel 57 = .ok (.iastore, 1) := dk_79 (dk_at dksX9_duel_2 11 rfl rfl)
theorem dX9_duel_58 : decode cX9_duel 58 = .ok (.aload_n 0, 1) := dk_42 (dk_at dksX9_duel_2 12 rfl rfl)
theorem dX9_duel_59 : decode cX9_duel 59 = .ok (.getfield 117, 3) := dk_180 0 117 (dk_at dksX9_duel_2 13 rfl rfl)
theorem dX9_duel_62 : decode cX9_duel 62 = .ok (.iload 4, 2) := dk_21 4 (dk_at dksX9_duel_2 16 rfl rfl)
theorem dX9_duel_64 : decode cX9_duel 64 = .ok (.ldc_w 444, 3) := dk_19 1 188 (dk_at dksX9_duel_2 18 rfl rfl)
theorem dX9_duel_67 : decode cX9_duel 67 = .ok (.iastore, 1) := dk_79 (dk_at dksX9_duel_2 21 rfl rfl)
theorem dX9_duel_68 : decode cX9_duel 68 = .ok (.iinc 4 1, 3) := dk_132 4 1 (dk_at dksX9_duel_3 0 rfl rfl)
theorem dX9_duel_71 : decode cX9_duel 71 = .ok (.goto (-27), 3) := dk_167 255 229 (dk_at dksX9_duel_3 3 rfl rfl)
theorem dX9_duel_74 : decode cX9_duel 74 = .ok (.iconst 0, 1) := dk_3 (dk_at dksX9_duel_3 6 rfl rfl)
theorem dX9_duel_75 : decode cX9_duel 75 = .ok (.istore 4, 2) := dk_54 4 (dk_at dksX9_duel_3 7 rfl rfl)
theorem dX9_duel_77 : decode cX9_duel 77 = .ok (.aload_n 0, 1) := dk_42 (dk_at dksX9_duel_3 9 rfl rfl)
theorem dX9_duel_78 : decode cX9_duel 78 = .ok (.iconst 0, 1) := dk_3 (dk_at dksX9_duel_3 10 rfl rfl)
theorem dX9_duel_79 : decode cX9_duel 79 = .ok (.invokevirtual 423, 3) := dk_182 1 167 (dk_at dksX9_duel_3 11 rfl rfl)
theorem dX9_duel_82 : decode cX9_duel 82 = .ok (.iload 4, 2) := dk_21 4 (dk_at dksX9_duel_3 14 rfl rfl)
theorem dX9_duel_84 : decode cX9_duel 84 = .ok (.iconst (-1), 1) := dk_2 (dk_at dksX9_duel_3 16 rfl rfl)
theorem dX9_duel_85 : decode cX9_duel 85 = .ok (.if_icmp .eq 121, 3) := dk_159 0 121 (dk_at dksX9_duel_3 17 rfl rfl)
theorem dX9_duel_88 : decode cX9_duel 88 = .ok (.aload_n 0, 1) := dk_42 (dk_at dksX9_duel_3 20 rfl rfl)
theorem dX9_duel_89 : decode cX9_duel 89 = .ok (.iload 4, 2) := dk_21 4 (dk_at dksX9_duel_3 21 rfl rfl)
theorem dX9_duel_91 : decode cX9_duel 91 = .ok (.invokevirtual 426, 3) := dk_182 1 170 (dk_at dksX9_duel_4 0 rfl rfl)
theorem dX9_duel_94 : decode cX9_duel 94 = .ok (.iload 4, 2) := dk_21 4 (dk_at dksX9_duel_4 3 rfl rfl)
theorem dX9_duel_96 : decode cX9_duel 96 = .ok (.istore 5, 2) := dk_54 5 (dk_at dksX9_duel_4 5 rfl rfl)
theorem dX9_duel_98 : decode cX9_duel 98 = .ok (.iload 5, 2) := dk_21 5 (dk_at dksX9_duel_4 7 rfl rfl)
theorem dX9_duel_100 : decode cX9_duel 100 = .ok (.iload_n 1, 1) := dk_27 (dk_at dksX9_duel_4 9 rfl rfl)
theorem dX9_duel_101 : decode cX9_duel 101 = .ok (.if_icmp .ge 30, 3) := dk_162 0 30 (dk_at dksX9_duel_4 10 rfl rfl)
theorem dX9_duel_104 : decode cX9_duel 104 = .ok (.aload_n 0, 1) := dk_42 (dk_at dksX9_duel_4 13 rfl rfl)
theorem dX9_duel_105 : decode cX9_duel 105 = .ok (.iload 5, 2) := dk_21 5 (dk_at dksX9_duel_4 14 rfl rfl)
theorem dX9_duel_107 : decode cX9_duel 107 = .ok (.aload_n 0, 1) := dk_42 (dk_at dksX9_duel_4 16 rfl rfl)
theorem dX9_duel_108 : decode cX9_duel 108 = .ok (.getfield 111, 3) := dk_180 0 111 (dk_at dksX9_duel_4 17 rfl rfl)
theorem dX9_duel_111 : decode cX9_duel 111 = .ok (.iload 5, 2) := dk_21 5 (dk_at dksX9_duel_4 20 rfl rfl)
theorem dX9_duel_113 : decode cX9_duel 113 = .ok (.iaload, 1) := dk_46 (dk_at dksX9_duel_4 22 rfl rfl)
theorem dX9_duel_114 : decode cX9_duel 114 = .ok (.invokevirtual 404, 3) := dk_182 1 148 (dk_at dksX9_duel_5 0 rfl rfl)
theorem dX9_duel_117 : decode cX9_duel 117 = .ok (.aload_n 0, 1) := dk_42 (dk_at dksX9_duel_5 3 rfl rfl)
theorem dX9_duel_118 : decode cX9_duel 118 = .ok (.iload 5, 2) := dk_21 5 (dk_at dksX9_duel_5 4 rfl rfl)
theorem dX9_duel_120 : decode cX9_duel 120 = .ok (.iconst 1, 1) := dk_4 (dk_at dksX9_duel_5 6 rfl rfl)
theorem dX9_duel_121 : decode cX9_duel 121 = .ok (.iadd, 1) := dk_96 (dk_at dksX9_duel_5 7 rfl rfl)
theorem dX9_duel_122 : decode cX9_duel 122 = .ok (.invokevirtual 423, 3) := dk_182 1 167 (dk_at dksX9_duel_5 8 rfl rfl)
theorem dX9_duel_125 : decode cX9_duel 125 = .ok (.iinc 5 1, 3) := dk_132 5 1 (dk_at dksX9_duel_5 11 rfl rfl)
theorem dX9_duel_128 : decode cX9_duel 128 = .ok (.goto (-30), 3) := dk_167 255 226 (dk_at dksX9_duel_5 14 rfl rfl)
theorem dX9_duel_131 : decode cX9_duel 131 = .ok (.iconst 0, 1) := dk_3 (dk_at dksX9_duel_5 17 rfl rfl)
theorem dX9_duel_132 : decode cX9_duel 132 = .ok (.istore 5, 2) := dk_54 5 (dk_at dksX9_duel_5 18 rfl rfl)
theorem dX9_duel_134 : decode cX9_duel 134 = .ok (.iload 5, 2) := dk_21 5 (dk_at dksX9_duel_5 20 rfl rfl)
theorem dX9_duel_136 : decode cX9_duel 136 = .ok (.iload_n 1, 1) := dk_27 (dk_at dksX9_duel_5 22 rfl rfl)
theorem dX9_duel_137 : decode cX9_duel 137 = .ok (.if_icmp .ge 23, 3) := dk_162 0 23 (dk_at dksX9_duel_6 0 rfl rfl)
theorem dX9_duel_140 : decode cX9_duel 140 = .ok (.aload_n 0, 1) := dk_42 (dk_at dksX9_duel_6 3 rfl rfl)
theorem dX9_duel_141 : decode cX9_duel 141 = .ok (.getfield 123, 3) := dk_180 0 123 (dk_at dksX9_duel_6 4 rfl rfl)
theorem dX9_duel_144 : decode cX9_duel 144 = .ok (.iload 5, 2) := dk_21 5 (dk_at dksX9_duel_6 7 rfl rfl)
theorem dX9_duel_146 : decode cX9_duel 146 = .ok (.aload_n 0, 1) := dk_42 (dk_at dksX9_duel_6 9 rfl rfl)
theorem dX9_duel_147 : decode cX9_duel 147 = .ok (.getfield 111, 3) := dk_180 0 111 (dk_at dksX9_duel_6 10 rfl rfl)
theorem dX9_duel_150 : decode cX9_duel 150 = .ok (.iload 5, 2) := dk_21 5 (dk_at dksX9_duel_6 13 rfl rfl)
theorem dX9_duel_152 : decode cX9_duel 152 = .ok (.iaload, 1) := dk_46 (dk_at dksX9_duel_6 15 rfl rfl)
theorem dX9_duel_153 : decode cX9_duel 153 = .ok (.iastore, 1) := dk_79 (dk_at dksX9_duel_6 16 rfl rfl)
theorem dX9_duel_154 : decode cX9_duel 154 = .ok (.iinc 5 1, 3) := dk_132 5 1 (dk_at dksX9_duel_6 17 rfl rfl)
theorem dX9_duel_157 : decode cX9_duel 157 = .ok (.goto (-23), 3) := dk_167 255 233 (dk_at dksX9_duel_6 20 rfl rfl)
theorem dX9_duel_160 : decode cX9_duel 160 = .ok (.aload_n 0, 1) := dk_42 (dk_at dksX9_duel_6 23 rfl rfl)
theorem dX9_duel_161 : decode cX9_duel 161 = .ok (.getfield 84, 3) := dk_180 0 84 (dk_at dksX9_duel_7 0 rfl rfl)
theorem dX9_duel_164 : decode cX9_duel 164 = .ok (.iload_n 2, 1) := dk_28 (dk_at dksX9_duel_7 3 rfl rfl)
theorem dX9_duel_165 : decode cX9_duel 165 = .ok (.iaload, 1) := dk_46 (dk_at dksX9_duel_7 4 rfl rfl)
theorem dX9_duel_166 : decode cX9_duel 166 = .ok (.aload_n 0, 1) := dk_42 (dk_at dksX9_duel_7 5 rfl rfl)
theorem dX9_duel_167 : decode cX9_duel 167 = .ok (.iload_n 2, 1) := dk_28 (dk_at dksX9_duel_7 6 rfl rfl)
theorem dX9_duel_168 : decode cX9_duel 168 = .ok (.iconst 1, 1) := dk_4 (dk_at dksX9_duel_7 7 rfl rfl)
theorem dX9_duel_169 : decode cX9_duel 169 = .ok (.invokevirtual 169, 3) := dk_182 0 169 (dk_at dksX9_duel_7 8 rfl rfl)
theorem dX9_duel_172 : decode cX9_duel 172 = .ok (.invokestatic 373, 3) := dk_184 1 117 (dk_at dksX9_duel_7 11 rfl rfl)
theorem dX9_duel_175 : decode cX9_duel 175 = .ok (.istore 5, 2) := dk_54 5 (dk_at dksX9_duel_7 14 rfl rfl)
theorem dX9_duel_177 : decode cX9_duel 177 = .ok (.aload_n 0, 1) := dk_42 (dk_at dksX9_duel_7 16 rfl rfl)
theorem dX9_duel_178 : decode cX9_duel 178 = .ok (.iload_n 1, 1) := dk_27 (dk_at dksX9_duel_7 17 rfl rfl)
theorem dX9_duel_179 : decode cX9_duel 179 = .ok (.invokevirtual 432, 3) := dk_182 1 176 (dk_at dksX9_duel_7 18 rfl rfl)
theorem dX9_duel_182 : decode cX9_duel 182 = .ok (.istore 4, 2) := dk_54 4 (dk_at dksX9_duel_7 21 rfl rfl)
theorem dX9_duel_184 : decode cX9_duel 184 = .ok (.aload_n 0, 1) := dk_42 (dk_at dksX9_duel_7 23 rfl rfl)
theorem dX9_duel_185 : decode cX9_duel 185 = .ok (.iload_n 1, 1) := dk_27 (dk_at dksX9_duel_8 0 rfl rfl)
theorem dX9_duel_186 : decode cX9_duel 186 = .ok (.iload 4, 2) := dk_21 4 (dk_at dksX9_duel_8 1 rfl rfl)
theorem dX9_duel_188 : decode cX9_duel 188 = .ok (.iconst (-1), 1) := dk_2 (dk_at dksX9_duel_8 3 rfl rfl)
theorem dX9_duel_189 : decode cX9_duel 189 = .ok (.if_icmp .ne 7, 3) := dk_160 0 7 (dk_at dksX9_duel_8 4 rfl rfl)
theorem dX9_duel_192 : decode cX9_duel 192 = .ok (.iconst 0, 1) := dk_3 (dk_at dksX9_duel_8 7 rfl rfl)
theorem dX9_duel_193 : decode cX9_duel 193 = .ok (.goto 5, 3) := dk_167 0 5 (dk_at dksX9_duel_8 8 rfl rfl)
theorem dX9_duel_196 : decode cX9_duel 196 = .ok (.iload 4, 2) := dk_21 4 (dk_at dksX9_duel_8 11 rfl rfl)
theorem dX9_duel_198 : decode cX9_duel 198 = .ok (.iload 5, 2) := dk_21 5 (dk_at dksX9_duel_8 13 rfl rfl)
theorem dX9_duel_200 : decode cX9_duel 200 = .ok (.invokevirtual 445, 3) := dk_182 1 189 (dk_at dksX9_duel_8 15 rfl rfl)
theorem dX9_duel_203 : decode cX9_duel 203 = .ok (.goto (-121), 3) := dk_167 255 135 (dk_at dksX9_duel_8 18 rfl rfl)
theorem dX9_duel_206 : decode cX9_duel 206 = .ok (.iload_n 3, 1) := dk_29 (dk_at dksX9_duel_8 21 rfl rfl)
theorem dX9_duel_207 : decode cX9_duel 207 = .ok (.ifCond .ne 12, 3) := dk_154 0 12 (dk_at dksX9_duel_9 0 rfl rfl)
theorem dX9_duel_210 : decode cX9_duel 210 = .ok (.aload_n 0, 1) := dk_42 (dk_at dksX9_duel_9 3 rfl rfl)
theorem dX9_duel_211 : decode cX9_duel 211 = .ok (.getfield 117, 3) := dk_180 0 117 (dk_at dksX9_duel_9 4 rfl rfl)
theorem dX9_duel_214 : decode cX9_duel 214 = .ok (.iconst 0, 1) := dk_3 (dk_at dksX9_duel_9 7 rfl rfl)
theorem dX9_duel_215 : decode cX9_duel 215 = .ok (.iaload, 1) := dk_46 (dk_at dksX9_duel_9 8 rfl rfl)
theorem dX9_duel_216 : decode cX9_duel 216 = .ok (.goto 9, 3) := dk_167 0 9 (dk_at dksX9_duel_9 9 rfl rfl)
theorem dX9_duel_219 : decode cX9_duel 219 = .ok (.aload_n 0, 1) := dk_42 (dk_at dksX9_duel_9 12 rfl rfl)
theorem dX9_duel_220 : decode cX9_duel 220 = .ok (.getfield 120, 3) := dk_180 0 120 (dk_at dksX9_duel_9 13 rfl rfl)
theorem dX9_duel_223 : decode cX9_duel 223 = .ok (.iconst 0, 1) := dk_3 (dk_at dksX9_duel_9 16 rfl rfl)
theorem dX9_duel_224 : decode cX9_duel 224 = .ok (.iaload, 1) := dk_46 (dk_at dksX9_duel_9 17 rfl rfl)
theorem dX9_duel_225 : decode cX9_duel 225 = .ok (.ireturn, 1) := dk_172 (dk_at dksX9_duel_9 18 rfl rfl)
abbrev cX9_settleDuel : ByteArray := prog_23_method_79_code
def yX9_settleDuel : MethodName := ⟨RX9, "settleDuel", "(III)V"⟩
def dkwX9_settleDuel_5 : List UInt8 := [19, 1, 188, 79, 132, 5, 255, 167, 255, 140, 177]
abbrev dktX9_settleDuel_5 : List UInt8 := dkwX9_settleDuel_5 ++ []
def dkwX9_settleDuel_4 : List UInt8 := [46, 79, 42, 180, 0, 117, 21, 5, 46, 54, 4, 21, 5, 28, 164, 0, 13, 42, 180, 0, 117, 21, 5]
abbrev dktX9_settleDuel_4 : List UInt8 := dkwX9_settleDuel_4 ++ dktX9_settleDuel_5
def dkwX9_settleDuel_3 : List UInt8 := [164, 0, 26, 42, 180, 0, 117, 21, 5, 21, 4, 79, 42, 180, 0, 120, 21, 5, 42, 180, 0, 123, 21, 5]
abbrev dktX9_settleDuel_3 : List UInt8 := dkwX9_settleDuel_3 ++ dktX9_settleDuel_4
def dkwX9_settleDuel_2 : List UInt8 := [21, 4, 42, 180, 0, 117, 21, 5, 46, 162, 0, 41, 167, 0, 15, 21, 4, 42, 180, 0, 117, 21, 5, 46]
abbrev dktX9_settleDuel_2 : List UInt8 := dkwX9_settleDuel_2 ++ dktX9_settleDuel_3
def dkwX9_settleDuel_1 : List UInt8 := [167, 0, 4, 3, 54, 6, 42, 180, 0, 117, 21, 5, 46, 19, 1, 188, 159, 0, 35, 21, 6, 153, 0, 18]
abbrev dktX9_settleDuel_1 : List UInt8 := dkwX9_settleDuel_1 ++ dktX9_settleDuel_2
def dkwX9_settleDuel_0 : List UInt8 := [29, 54, 4, 27, 4, 100, 54, 5, 21, 5, 28, 161, 0, 116, 21, 5, 5, 112, 154, 0, 7, 4]
abbrev dktX9_settleDuel_0 : List UInt8 := dkwX9_settleDuel_0 ++ dktX9_settleDuel_1
theorem dksX9_settleDuel_0 : cX9_settleDuel.data.toList.drop 0 = dktX9_settleDuel_0 := by decide +kernel
theorem dksX9_settleDuel_1 : cX9_settleDuel.data.toList.drop 22 = dktX9_settleDuel_1 := dk_seg dksX9_settleDuel_0 22 rfl rfl
theorem dksX9_settleDuel_2 : cX9_settleDuel.data.toList.drop 46 = dktX9_settleDuel_2 := dk_seg dksX9_settleDuel_1 24 rfl rfl
theorem dksX9_settleDuel_3 : cX9_settleDuel.data.toList.drop 70 = dktX9_settleDuel_3 := dk_seg dksX9_settleDuel_2 24 rfl rfl
theorem dksX9_settleDuel_4 : cX9_settleDuel.data.toList.drop 94 = dktX9_settleDuel_4 := dk_seg dksX9_settleDuel_3 24 rfl rfl
theorem dksX9_settleDuel_5 : cX9_settleDuel.data.toList.drop 117 = dktX9_settleDuel_5 := dk_seg dksX9_settleDuel_4 23 rfl rfl
theorem dX9_settleDuel_0 : decode cX9_settleDuel 0 = .ok (.iload_n 3, 1) := dk_29 (dk_at dksX9_settleDuel_0 0 rfl rfl)
theorem dX9_settleDuel_1 : decode cX9_settleDuel 1 = .ok (.istore 4, 2) := dk_54 4 (dk_at dksX9_settleDuel_0 1 rfl rfl)
theorem dX9_settleDuel_3 : decode cX9_settleDuel 3 = .ok (.iload_n 1, 1) := dk_27 (dk_at dksX9_settleDuel_0 3 rfl rfl)
theorem dX9_settleDuel_4 : decode cX9_settleDuel 4 = .ok (.iconst 1, 1) := dk_4 (dk_at dksX9_settleDuel_0 4 rfl rfl)
theorem dX9_settleDuel_5 : decode cX9_settleDuel 5 = .ok (.isub, 1) := dk_100 (dk_at dksX9_settleDuel_0 5 rfl rfl)
theorem dX9_settleDuel_6 : decode cX9_settleDuel 6 = .ok (.istore 5, 2) := dk_54 5 (dk_at dksX9_settleDuel_0 6 rfl rfl)
theorem dX9_settleDuel_8 : decode cX9_settleDuel 8 = .ok (.iload 5, 2) := dk_21 5 (dk_at dksX9_settleDuel_0 8 rfl rfl)
theorem dX9_settleDuel_10 : decode cX9_settleDuel 10 = .ok (.iload_n 2, 1) := dk_28 (dk_at dksX9_settleDuel_0 10 rfl rfl)
theorem dX9_settleDuel_11 : decode cX9_settleDuel 11 = .ok (.if_icmp .lt 116, 3) := dk_161 0 116 (dk_at dksX9_settleDuel_0 11 rfl rfl)
theorem dX9_settleDuel_14 : decode cX9_settleDuel 14 = .ok (.iload 5, 2) := dk_21 5 (dk_at dksX9_settleDuel_0 14 rfl rfl)
theorem dX9_settleDuel_16 : decode cX9_settleDuel 16 = .ok (.iconst 2, 1) := dk_5 (dk_at dksX9_settleDuel_0 16 rfl rfl)
theorem dX9_settleDuel_17 : decode cX9_settleDuel 17 = .ok (.irem, 1) := dk_112 (dk_at dksX9_settleDuel_0 17 rfl rfl)
theorem dX9_settleDuel_18 : decode cX9_settleDuel 18 = .ok (.ifCond .ne 7, 3) := dk_154 0 7 (dk_at dksX9_settleDuel_0 18 rfl rfl)
theorem dX9_settleDuel_21 : decode cX9_settleDuel 21 = .ok (.iconst 1, 1) := dk_4 (dk_at dksX9_settleDuel_0 21 rfl rfl)
theorem dX9_settleDuel_22 : decode cX9_settleDuel 22 = .ok (.goto 4, 3) := dk_167 0 4 (dk_at dksX9_settleDuel_1 0 rfl rfl)
theorem dX9_settleDuel_25 : decode cX9_settleDuel 25 = .ok (.iconst 0, 1) := dk_3 (dk_at dksX9_settleDuel_1 3 rfl rfl)
theorem dX9_settleDuel_26 : decode cX9_settleDuel 26 = .ok (.istore 6, 2) := dk_54 6 (dk_at dksX9_settleDuel_1 4 rfl rfl)
theorem dX9_settleDuel_28 : decode cX9_settleDuel 28 = .ok (.aload_n 0, 1) := dk_42 (dk_at dksX9_settleDuel_1 6 rfl rfl)
theorem dX9_settleDuel_29 : decode cX9_settleDuel 29 = .ok (.getfield 117, 3) := dk_180 0 117 (dk_at dksX9_settleDuel_1 7 rfl rfl)
theorem dX9_settleDuel_32 : decode cX9_settleDuel 32 = .ok (.iload 5, 2) := dk_21 5 (dk_at dksX9_settleDuel_1 10 rfl rfl)
theorem dX9_settleDuel_34 : decode cX9_settleDuel 34 = .ok (.iaload, 1) := dk_46 (dk_at dksX9_settleDuel_1 12 rfl rfl)
theorem dX9_settleDuel_35 : decode cX9_settleDuel 35 = .ok (.ldc_w 444, 3) := dk_19 1 188 (dk_at dksX9_settleDuel_1 13 rfl rfl)
theorem dX9_settleDuel_38 : decode cX9_settleDuel 38 = .ok (.if_icmp .eq 35, 3) := dk_159 0 35 (dk_at dksX9_settleDuel_1 16 rfl rfl)
theorem dX9_settleDuel_41 : decode cX9_settleDuel 41 = .ok (.iload 6, 2) := dk_21 6 (dk_at dksX9_settleDuel_1 19 rfl rfl)
theorem dX9_settleDuel_43 : decode cX9_settleDuel 43 = .ok (.ifCond .eq 18, 3) := dk_153 0 18 (dk_at dksX9_settleDuel_1 21 rfl rfl)
theorem dX9_settleDuel_46 : decode cX9_settleDuel 46 = .ok (.iload 4, 2) := dk_21 4 (dk_at dksX9_settleDuel_2 0 rfl rfl)
theorem dX9_settleDuel_48 : decode cX9_settleDuel 48 = .ok (.aload_n 0, 1) := dk_42 (dk_at dksX9_settleDuel_2 2 rfl rfl)
theorem dX9_settleDuel_49 : decode cX9_settleDuel 49 = .ok (.getfield 117, 3) := dk_180 0 117 (dk_at dksX9_settleDuel_2 3 rfl rfl)
theorem dX9_settleDuel_52 : decode cX9_settleDuel 52 = .ok (.iload 5, 2) := dk_21 5 (dk_at dksX9_settleDuel_2 6 rfl rfl)
theorem dX9_settleDuel_54 : decode cX9_settleDuel 54 = .ok (.iaload, 1) := dk_46 (dk_at dksX9_settleDuel_2 8 rfl rfl)
theorem dX9_settleDuel_55 : decode cX9_settleDuel 55 = .ok (.if_icmp .ge 41, 3) := dk_162 0 41 (dk_at dksX9_settleDuel_2 9 rfl rfl)
theorem dX9_settleDuel_58 : decode cX9_settleDuel 58 = .ok (.goto 15, 3) := dk_167 0 15 (dk_at dksX9_settleDuel_2 12 rfl rfl)
theorem dX9_settleDuel_61 : decode cX9_settleDuel 61 = .ok (.iload 4, 2) := dk_21 4 (dk_at dksX9_settleDuel_2 15 rfl rfl)
theorem dX9_settleDuel_63 : decode cX9_settleDuel 63 = .ok (.aload_n 0, 1) := dk_42 (dk_at dksX9_settleDuel_2 17 rfl rfl)
theorem dX9_settleDuel_64 : decode cX9_settleDuel 64 = .ok (.getfield 117, 3) := dk_180 0 117 (dk_at dksX9_settleDuel_2 18 rfl rfl)
theorem dX9_settleDuel_67 : decode cX9_settleDuel 67 = .ok (.iload 5, 2) := dk_21 5 (dk_at dksX9_settleDuel_2 21 rfl rfl)
theorem dX9_settleDuel_69 : decode cX9_settleDuel 69 = .ok (.iaload, 1) := dk_46 (dk_at dksX9_settleDuel_2 23 rfl rfl)
theorem dX9_settleDuel_70 : decode cX9_settleDuel 70 = .ok (.if_icmp .le 26, 3) := dk_164 0 26 (dk_at dksX9_settleDuel_3 0 rfl rfl)
theorem dX9_settleDuel_73 : decode cX9_settleDuel 73 = .ok (.aload_n 0, 1) := dk_42 (dk_at dksX9_settleDuel_3 3 rfl rfl)
theorem dX9_settleDuel_74 : decode cX9_settleDuel 74 = .ok (.getfield 117, 3) := dk_180 0 117 (dk_at dksX9_settleDuel_3 4 rfl rfl)
theorem dX9_settleDuel_77 : decode cX9_settleDuel 77 = .ok (.iload 5, 2) := dk_21 5 (dk_at dksX9_settleDuel_3 7 rfl rfl)
theorem dX9_settleDuel_79 : decode cX9_settleDuel 79 = .ok (.iload 4, 2) := dk_21 4 (dk_at dksX9_settleDuel_3 9 rfl rfl)
theorem dX9_settleDuel_81 : decode cX9_settleDuel 81 = .ok (.iastore, 1) := dk_79 (dk_at dksX9_settleDuel_3 11 rfl rfl)
theorem dX9_settleDuel_82 : decode cX9_settleDuel 82 = .ok (.aload_n 0, 1) := dk_42 (dk_at dksX9_settleDuel_3 12 rfl rfl)
theorem dX9_settleDuel_83 : decode cX9_settleDuel 83 = .ok (.getfield 120, 3) := dk_180 0 120 (dk_at dksX9_settleDuel_3 13 rfl rfl)
theorem dX9_settleDuel_86 : decode cX9_settleDuel 86 = .ok (.iload 5, 2) := dk_21 5 (dk_at dksX9_settleDuel_3 16 rfl rfl)
theorem dX9_settleDuel_88 : decode cX9_settleDuel 88 = .ok (.aload_n 0, 1) := dk_42 (dk_at dksX9_settleDuel_3 18 rfl rfl)
theorem dX9_settleDuel_89 : decode cX9_settleDuel 89 = .ok (.getfield 123, 3) := dk_180 0 123 (dk_at dksX9_settleDuel_3 19 rfl rfl)
theorem dX9_settleDuel_92 : decode cX9_settleDuel 92 = .ok (.iload 5, 2) := dk_21 5 (dk_at dksX9_settleDuel_3 22 rfl rfl)
theorem dX9_settleDuel_94 : decode cX9_settleDuel 94 = .ok (.iaload, 1) := dk_46 (dk_at dksX9_settleDuel_4 0 rfl rfl)
theorem dX9_settleDuel_95 : decode cX9_settleDuel 95 = .ok (.iastore, 1) := dk_79 (dk_at dksX9_settleDuel_4 1 rfl rfl)
theorem dX9_settleDuel_96 : decode cX9_settleDuel 96 = .ok (.aload_n 0, 1) := dk_42 (dk_at dksX9_settleDuel_4 2 rfl rfl)
theorem dX9_settleDuel_97 : decode cX9_settleDuel 97 = .ok (.getfield 117, 3) := dk_180 0 117 (dk_at dksX9_settleDuel_4 3 rfl rfl)
theorem dX9_settleDuel_100 : decode cX9_settleDuel 100 = .ok (.iload 5, 2) := dk_21 5 (dk_at dksX9_settleDuel_4 6 rfl rfl)
theorem dX9_settleDuel_102 : decode cX9_settleDuel 102 = .ok (.iaload, 1) := dk_46 (dk_at dksX9_settleDuel_4 8 rfl rfl)
theorem dX9_settleDuel_103 : decode cX9_settleDuel 103 = .ok (.istore 4, 2) := dk_54 4 (dk_at dksX9_settleDuel_4 9 rfl rfl)
theorem dX9_settleDuel_105 : decode cX9_settleDuel 105 = .ok (.iload 5, 2) := dk_21 5 (dk_at dksX9_settleDuel_4 11 rfl rfl)
theorem dX9_settleDuel_107 : decode cX9_settleDuel 107 = .ok (.iload_n 2, 1) := dk_28 (dk_at dksX9_settleDuel_4 13 rfl rfl)
theorem dX9_settleDuel_108 : decode cX9_settleDuel 108 = .ok (.if_icmp .le 13, 3) := dk_164 0 13 (dk_at dksX9_settleDuel_4 14 rfl rfl)
theorem dX9_settleDuel_111 : decode cX9_settleDuel 111 = .ok (.aload_n 0, 1) := dk_42 (dk_at dksX9_settleDuel_4 17 rfl rfl)
theorem dX9_settleDuel_112 : decode cX9_settleDuel 112 = .ok (.getfield 117, 3) := dk_180 0 117 (dk_at dksX9_settleDuel_4 18 rfl rfl)
theorem dX9_settleDuel_115 : decode cX9_settleDuel 115 = .ok (.iload 5, 2) := dk_21 5 (dk_at dksX9_settleDuel_4 21 rfl rfl)
theorem dX9_settleDuel_117 : decode cX9_settleDuel 117 = .ok (.ldc_w 444, 3) := dk_19 1 188 (dk_at dksX9_settleDuel_5 0 rfl rfl)
theorem dX9_settleDuel_120 : decode cX9_settleDuel 120 = .ok (.iastore, 1) := dk_79 (dk_at dksX9_settleDuel_5 3 rfl rfl)
theorem dX9_settleDuel_121 : decode cX9_settleDuel 121 = .ok (.iinc 5 (-1), 3) := dk_132 5 255 (dk_at dksX9_settleDuel_5 4 rfl rfl)
theorem dX9_settleDuel_124 : decode cX9_settleDuel 124 = .ok (.goto (-116), 3) := dk_167 255 140 (dk_at dksX9_settleDuel_5 7 rfl rfl)
theorem dX9_settleDuel_127 : decode cX9_settleDuel 127 = .ok (.return_, 1) := dk_177 (dk_at dksX9_settleDuel_5 10 rfl rfl)
abbrev cX9_read : ByteArray := prog_23_method_87_code
def yX9_read : MethodName := ⟨RX9, "read", "(I)I"⟩
def dkwX9_read_1 : List UInt8 := [27, 182, 1, 207, 153, 0, 7, 4, 167, 0, 4, 3, 172]
abbrev dktX9_read_1 : List UInt8 := dkwX9_read_1 ++ []
def dkwX9_read_0 : List UInt8 := [42, 3, 181, 0, 150, 27, 133, 9, 42, 182, 1, 204, 133, 184, 0, 160, 154, 0, 7, 2, 167, 0, 16, 42]
abbrev dktX9_read_0 : List UInt8 := dkwX9_read_0 ++ dktX9_read_1
theorem dksX9_read_0 : cX9_read.data.toList.drop 0 = dktX9_read_0 := by decide +kernel
theorem dksX9_read_1 : cX9_read.data.toList.drop 24 = dktX9_read_1 := dk_seg dksX9_read_0 24 rfl rfl
theorem dX9_read_0 : decode cX9_read 0 = .ok (.aload_n 0, 1) := dk_42 (dk_at dksX9_read_0 0 rfl rfl)
theorem dX9_read_1 : decode cX9_read 1 = .ok (.iconst 0, 1) := dk_3 (dk_at dksX9_read_0 1 rfl rfl)
theorem dX9_read_2 : decode cX9_read 2 = .ok (.putfield 150, 3) := dk_181 0 150 (dk_at dksX9_read_0 2 rfl rfl)
theorem dX9_read_5 : decode cX9_read 5 = .ok (.iload_n 1, 1) := dk_27 (dk_at dksX9_read_0 5 rfl rfl)
theorem dX9_read_6 : decode cX9_read 6 = .ok (.i2l, 1) := dk_133 (dk_at dksX9_read_0 6 rfl rfl)
theorem dX9_read_7 : decode cX9_read 7 = .ok (.lconst 0, 1) := dk_9 (dk_at dksX9_read_0 7 rfl rfl)
theorem dX9_read_8 : decode cX9_read 8 = .ok (.aload_n 0, 1) := dk_42 (dk_at dksX9_read_0 8 rfl rfl)
theorem dX9_read_9 : decode cX9_read 9 = .ok (.invokevirtual 460, 3) := dk_182 1 204 (dk_at dksX9_read_0 9 rfl rfl)
theorem dX9_read_12 : decode cX9_read 12 = .ok (.i2l, 1) := dk_133 (dk_at dksX9_read_0 12 rfl rfl)
theorem dX9_read_13 : decode cX9_read 13 = .ok (.invokestatic 160, 3) := dk_184 0 160 (dk_at dksX9_read_0 13 rfl rfl)
theorem dX9_read_16 : decode cX9_read 16 = .ok (.ifCond .ne 7, 3) := dk_154 0 7 (dk_at dksX9_read_0 16 rfl rfl)
theorem dX9_read_19 : decode cX9_read 19 = .ok (.iconst (-1), 1) := dk_2 (dk_at dksX9_read_0 19 rfl rfl)
theorem dX9_read_20 : decode cX9_read 20 = .ok (.goto 16, 3) := dk_167 0 16 (dk_at dksX9_read_0 20 rfl rfl)
theorem dX9_read_23 : decode cX9_read 23 = .ok (.aload_n 0, 1) := dk_42 (dk_at dksX9_read_0 23 rfl rfl)
theorem dX9_read_24 : decode cX9_read 24 = .ok (.iload_n 1, 1) := dk_27 (dk_at dksX9_read_1 0 rfl rfl)
theorem dX9_read_25 : decode cX9_read 25 = .ok (.invokevirtual 463, 3) := dk_182 1 207 (dk_at dksX9_read_1 1 rfl rfl)
theorem dX9_read_28 : decode cX9_read 28 = .ok (.ifCond .eq 7, 3) := dk_153 0 7 (dk_at dksX9_read_1 4 rfl rfl)
theorem dX9_read_31 : decode cX9_read 31 = .ok (.iconst 1, 1) := dk_4 (dk_at dksX9_read_1 7 rfl rfl)
theorem dX9_read_32 : decode cX9_read 32 = .ok (.goto 4, 3) := dk_167 0 4 (dk_at dksX9_read_1 8 rfl rfl)
theorem dX9_read_35 : decode cX9_read 35 = .ok (.iconst 0, 1) := dk_3 (dk_at dksX9_read_1 11 rfl rfl)
theorem dX9_read_36 : decode cX9_read 36 = .ok (.ireturn, 1) := dk_172 (dk_at dksX9_read_1 12 rfl rfl)
abbrev cX9_allSnails : ByteArray := prog_23_method_86_code
def yX9_allSnails : MethodName := ⟨RX9, "allSnails", "()I"⟩
def dkwX9_allSnails_0 : List UInt8 := [4, 42, 180, 0, 13, 3, 46, 120, 4, 100, 172]
abbrev dktX9_allSnails_0 : List UInt8 := dkwX9_allSnails_0 ++ []
theorem dksX9_allSnails_0 : cX9_allSnails.data.toList.drop 0 = dktX9_allSnails_0 := by decide +kernel
theorem dX9_allSnails_0 : decode cX9_allSnails 0 = .ok (.iconst 1, 1) := dk_4 (dk_at dksX9_allSnails_0 0 rfl rfl)
theorem dX9_allSnails_1 : decode cX9_allSnails 1 = .ok (.aload_n 0, 1) := dk_42 (dk_at dksX9_allSnails_0 1 rfl rfl)
theorem dX9_allSnails_2 : decode cX9_allSnails 2 = .ok (.getfield 13, 3) := dk_180 0 13 (dk_at dksX9_allSnails_0 2 rfl rfl)
theorem dX9_allSnails_5 : decode cX9_allSnails 5 = .ok (.iconst 0, 1) := dk_3 (dk_at dksX9_allSnails_0 5 rfl rfl)
theorem dX9_allSnails_6 : decode cX9_allSnails 6 = .ok (.iaload, 1) := dk_46 (dk_at dksX9_allSnails_0 6 rfl rfl)
theorem dX9_allSnails_7 : decode cX9_allSnails 7 = .ok (.ishl, 1) := dk_120 (dk_at dksX9_allSnails_0 7 rfl rfl)
theorem dX9_allSnails_8 : decode cX9_allSnails 8 = .ok (.iconst 1, 1) := dk_4 (dk_at dksX9_allSnails_0 8 rfl rfl)
theorem dX9_allSnails_9 : decode cX9_allSnails 9 = .ok (.isub, 1) := dk_100 (dk_at dksX9_allSnails_0 9 rfl rfl)
theorem dX9_allSnails_10 : decode cX9_allSnails 10 = .ok (.ireturn, 1) := dk_172 (dk_at dksX9_allSnails_0 10 rfl rfl)
abbrev cX9_isRead : ByteArray := prog_23_method_84_code
def yX9_isRead : MethodName := ⟨RX9, "isRead", "(I)Z"⟩
def dkwX9_isRead_2 : List UInt8 := [182, 1, 198, 172]
abbrev dktX9_isRead_2 : List UInt8 := dkwX9_isRead_2 ++ []
def dkwX9_isRead_1 : List UInt8 := [42, 42, 28, 8, 182, 0, 169, 182, 1, 195, 132, 2, 1, 167, 255, 225, 42, 42, 180, 0, 13, 8, 46]
abbrev dktX9_isRead_1 : List UInt8 := dkwX9_isRead_1 ++ dktX9_isRead_2
def dkwX9_isRead_0 : List UInt8 := [42, 182, 1, 192, 3, 61, 28, 42, 180, 0, 13, 3, 46, 162, 0, 27, 27, 28, 184, 1, 179, 153, 0, 13]
abbrev dktX9_isRead_0 : List UInt8 := dkwX9_isRead_0 ++ dktX9_isRead_1
theorem dksX9_isRead_0 : cX9_isRead.data.toList.drop 0 = dktX9_isRead_0 := by decide +kernel
theorem dksX9_isRead_1 : cX9_isRead.data.toList.drop 24 = dktX9_isRead_1 := dk_seg dksX9_isRead_0 24 rfl rfl
theorem dksX9_isRead_2 : cX9_isRead.data.toList.drop 47 = dktX9_isRead_2 := dk_seg dksX9_isRead_1 23 rfl rfl
theorem dX9_isRead_0 : decode cX9_isRead 0 = .ok (.aload_n 0, 1) := dk_42 (dk_at dksX9_isRead_0 0 rfl rfl)
theorem dX9_isRead_1 : decode cX9_isRead 1 = .ok (.invokevirtual 448, 3) := dk_182 1 192 (dk_at dksX9_isRead_0 1 rfl rfl)
theorem dX9_isRead_4 : decode cX9_isRead 4 = .ok (.iconst 0, 1) := dk_3 (dk_at dksX9_isRead_0 4 rfl rfl)
theorem dX9_isRead_5 : decode cX9_isRead 5 = .ok (.istore_n 2, 1) := dk_61 (dk_at dksX9_isRead_0 5 rfl rfl)
theorem dX9_isRead_6 : decode cX9_isRead 6 = .ok (.iload_n 2, 1) := dk_28 (dk_at dksX9_isRead_0 6 rfl rfl)
theorem dX9_isRead_7 : decode cX9_isRead 7 = .ok (.aload_n 0, 1) := dk_42 (dk_at dksX9_isRead_0 7 rfl rfl)
theorem dX9_isRead_8 : decode cX9_isRead 8 = .ok (.getfield 13, 3) := dk_180 0 13 (dk_at dksX9_isRead_0 8 rfl rfl)
theorem dX9_isRead_11 : decode cX9_isRead 11 = .ok (.iconst 0, 1) := dk_3 (dk_at dksX9_isRead_0 11 rfl rfl)
theorem dX9_isRead_12 : decode cX9_isRead 12 = .ok (.iaload, 1) := dk_46 (dk_at dksX9_isRead_0 12 rfl rfl)
theorem dX9_isRead_13 : decode cX9_isRead 13 = .ok (.if_icmp .ge 27, 3) := dk_162 0 27 (dk_at dksX9_isRead_0 13 rfl rfl)
theorem dX9_isRead_16 : decode cX9_isRead 16 = .ok (.iload_n 1, 1) := dk_27 (dk_at dksX9_isRead_0 16 rfl rfl)
theorem dX9_isRead_17 : decode cX9_isRead 17 = .ok (.iload_n 2, 1) := dk_28 (dk_at dksX9_isRead_0 17 rfl rfl)
theorem dX9_isRead_18 : decode cX9_isRead 18 = .ok (.invokestatic 435, 3) := dk_184 1 179 (dk_at dksX9_isRead_0 18 rfl rfl)
theorem dX9_isRead_21 : decode cX9_isRead 21 = .ok (.ifCond .eq 13, 3) := dk_153 0 13 (dk_at dksX9_isRead_0 21 rfl rfl)
theorem dX9_isRead_24 : decode cX9_isRead 24 = .ok (.aload_n 0, 1) := dk_42 (dk_at dksX9_isRead_1 0 rfl rfl)
theorem dX9_isRead_25 : decode cX9_isRead 25 = .ok (.aload_n 0, 1) := dk_42 (dk_at dksX9_isRead_1 1 rfl rfl)
theorem dX9_isRead_26 : decode cX9_isRead 26 = .ok (.iload_n 2, 1) := dk_28 (dk_at dksX9_isRead_1 2 rfl rfl)
theorem dX9_isRead_27 : decode cX9_isRead 27 = .ok (.iconst 5, 1) := dk_8 (dk_at dksX9_isRead_1 3 rfl rfl)
theorem dX9_isRead_28 : decode cX9_isRead 28 = .ok (.invokevirtual 169, 3) := dk_182 0 169 (dk_at dksX9_isRead_1 4 rfl rfl)
theorem dX9_isRead_31 : decode cX9_isRead 31 = .ok (.invokevirtual 451, 3) := dk_182 1 195 (dk_at dksX9_isRead_1 7 rfl rfl)
theorem dX9_isRead_34 : decode cX9_isRead 34 = .ok (.iinc 2 1, 3) := dk_132 2 1 (dk_at dksX9_isRead_1 10 rfl rfl)
theorem dX9_isRead_37 : decode cX9_isRead 37 = .ok (.goto (-31), 3) := dk_167 255 225 (dk_at dksX9_isRead_1 13 rfl rfl)
theorem dX9_isRead_40 : decode cX9_isRead 40 = .ok (.aload_n 0, 1) := dk_42 (dk_at dksX9_isRead_1 16 rfl rfl)
theorem dX9_isRead_41 : decode cX9_isRead 41 = .ok (.aload_n 0, 1) := dk_42 (dk_at dksX9_isRead_1 17 rfl rfl)
theorem dX9_isRead_42 : decode cX9_isRead 42 = .ok (.getfield 13, 3) := dk_180 0 13 (dk_at dksX9_isRead_1 18 rfl rfl)
theorem dX9_isRead_45 : decode cX9_isRead 45 = .ok (.iconst 5, 1) := dk_8 (dk_at dksX9_isRead_1 21 rfl rfl)
theorem dX9_isRead_46 : decode cX9_isRead 46 = .ok (.iaload, 1) := dk_46 (dk_at dksX9_isRead_1 22 rfl rfl)
theorem dX9_isRead_47 : decode cX9_isRead 47 = .ok (.invokevirtual 454, 3) := dk_182 1 198 (dk_at dksX9_isRead_2 0 rfl rfl)
theorem dX9_isRead_50 : decode cX9_isRead 50 = .ok (.ireturn, 1) := dk_172 (dk_at dksX9_isRead_2 3 rfl rfl)
abbrev cX9_noSteps : ByteArray := prog_23_method_83_code
def yX9_noSteps : MethodName := ⟨RX9, "noSteps", "()V"⟩
def dkwX9_noSteps_0 : List UInt8 := [3, 60, 27, 16, 6, 162, 0, 16, 42, 180, 0, 126, 27, 3, 79, 132, 1, 1, 167, 255, 240, 177]
abbrev dktX9_noSteps_0 : List UInt8 := dkwX9_noSteps_0 ++ []
theorem dksX9_noSteps_0 : cX9_noSteps.data.toList.drop 0 = dktX9_noSteps_0 := by decide +kernel
theorem dX9_noSteps_0 : decode cX9_noSteps 0 = .ok (.iconst 0, 1) := dk_3 (dk_at dksX9_noSteps_0 0 rfl rfl)
theorem dX9_noSteps_1 : decode cX9_noSteps 1 = .ok (.istore_n 1, 1) := dk_60 (dk_at dksX9_noSteps_0 1 rfl rfl)
theorem dX9_noSteps_2 : decode cX9_noSteps 2 = .ok (.iload_n 1, 1) := dk_27 (dk_at dksX9_noSteps_0 2 rfl rfl)
theorem dX9_noSteps_3 : decode cX9_noSteps 3 = .ok (.bipush 6, 2) := dk_16 6 (dk_at dksX9_noSteps_0 3 rfl rfl)
theorem dX9_noSteps_5 : decode cX9_noSteps 5 = .ok (.if_icmp .ge 16, 3) := dk_162 0 16 (dk_at dksX9_noSteps_0 5 rfl rfl)
theorem dX9_noSteps_8 : decode cX9_noSteps 8 = .ok (.aload_n 0, 1) := dk_42 (dk_at dksX9_noSteps_0 8 rfl rfl)
theorem dX9_noSteps_9 : decode cX9_noSteps 9 = .ok (.getfield 126, 3) := dk_180 0 126 (dk_at dksX9_noSteps_0 9 rfl rfl)
theorem dX9_noSteps_12 : decode cX9_noSteps 12 = .ok (.iload_n 1, 1) := dk_27 (dk_at dksX9_noSteps_0 12 rfl rfl)
theorem dX9_noSteps_13 : decode cX9_noSteps 13 = .ok (.iconst 0, 1) := dk_3 (dk_at dksX9_noSteps_0 13 rfl rfl)
theorem dX9_noSteps_14 : decode cX9_noSteps 14 = .ok (.iastore, 1) := dk_79 (dk_at dksX9_noSteps_0 14 rfl rfl)
theorem dX9_noSteps_15 : decode cX9_noSteps 15 = .ok (.iinc 1 1, 3) := dk_132 1 1 (dk_at dksX9_noSteps_0 15 rfl rfl)
theorem dX9_noSteps_18 : decode cX9_noSteps 18 = .ok (.goto (-16), 3) := dk_167 255 240 (dk_at dksX9_noSteps_0 18 rfl rfl)
theorem dX9_noSteps_21 : decode cX9_noSteps 21 = .ok (.return_, 1) := dk_177 (dk_at dksX9_noSteps_0 21 rfl rfl)
abbrev cX9_put1 : ByteArray := prog_23_method_81_code
def yX9_put1 : MethodName := ⟨RX9, "put1", "(I)V"⟩
def dkwX9_put1_3 : List UInt8 := [61, 132, 3, 255, 167, 255, 186, 177]
abbrev dktX9_put1_3 : List UInt8 := dkwX9_put1_3 ++ []
def dkwX9_put1_2 : List UInt8 := [42, 180, 0, 126, 29, 46, 79, 21, 4, 153, 0, 7, 3, 167, 0, 11, 28, 42, 180, 0, 126, 29, 46, 130]
abbrev dktX9_put1_2 : List UInt8 := dkwX9_put1_2 ++ dktX9_put1_3
def dkwX9_put1_1 : List UInt8 := [154, 0, 7, 4, 167, 0, 4, 3, 54, 4, 42, 180, 0, 126, 29, 21, 4, 153, 0, 7, 28, 167, 0, 9]
abbrev dktX9_put1_1 : List UInt8 := dkwX9_put1_1 ++ dktX9_put1_2
def dkwX9_put1_0 : List UInt8 := [27, 61, 8, 62, 29, 155, 0, 72, 28, 29, 184, 1, 179, 153, 0, 58, 42, 180, 0, 126, 29, 46]
abbrev dktX9_put1_0 : List UInt8 := dkwX9_put1_0 ++ dktX9_put1_1
theorem dksX9_put1_0 : cX9_put1.data.toList.drop 0 = dktX9_put1_0 := by decide +kernel
theorem dksX9_put1_1 : cX9_put1.data.toList.drop 22 = dktX9_put1_1 := dk_seg dksX9_put1_0 22 rfl rfl
theorem dksX9_put1_2 : cX9_put1.data.toList.drop 46 = dktX9_put1_2 := dk_seg dksX9_put1_1 24 rfl rfl
theorem dksX9_put1_3 : cX9_put1.data.toList.drop 70 = dktX9_put1_3 := dk_seg dksX9_put1_2 24 rfl rfl
theorem dX9_put1_0 : decode cX9_put1 0 = .ok (.iload_n 1, 1) := dk_27 (dk_at dksX9_put1_0 0 rfl rfl)
theorem dX9_put1_1 : decode cX9_put1 1 = .ok (.istore_n 2, 1) := dk_61 (dk_at dksX9_put1_0 1 rfl rfl)
theorem dX9_put1_2 : decode cX9_put1 2 = .ok (.iconst 5, 1) := dk_8 (dk_at dksX9_put1_0 2 rfl rfl)
theorem dX9_put1_3 : decode cX9_put1 3 = .ok (.istore_n 3, 1) := dk_62 (dk_at dksX9_put1_0 3 rfl rfl)
theorem dX9_put1_4 : decode cX9_put1 4 = .ok (.iload_n 3, 1) := dk_29 (dk_at dksX9_put1_0 4 rfl rfl)
theorem dX9_put1_5 : decode cX9_put1 5 = .ok (.ifCond .lt 72, 3) := dk_155 0 72 (dk_at dksX9_put1_0 5 rfl rfl)
theorem dX9_put1_8 : decode cX9_put1 8 = .ok (.iload_n 2, 1) := dk_28 (dk_at dksX9_put1_0 8 rfl rfl)
theorem dX9_put1_9 : decode cX9_put1 9 = .ok (.iload_n 3, 1) := dk_29 (dk_at dksX9_put1_0 9 rfl rfl)
theorem dX9_put1_10 : decode cX9_put1 10 = .ok (.invokestatic 435, 3) := dk_184 1 179 (dk_at dksX9_put1_0 10 rfl rfl)
theorem dX9_put1_13 : decode cX9_put1 13 = .ok (.ifCond .eq 58, 3) := dk_153 0 58 (dk_at dksX9_put1_0 13 rfl rfl)
theorem dX9_put1_16 : decode cX9_put1 16 = .ok (.aload_n 0, 1) := dk_42 (dk_at dksX9_put1_0 16 rfl rfl)
theorem dX9_put1_17 : decode cX9_put1 17 = .ok (.getfield 126, 3) := dk_180 0 126 (dk_at dksX9_put1_0 17 rfl rfl)
theorem dX9_put1_20 : decode cX9_put1 20 = .ok (.iload_n 3, 1) := dk_29 (dk_at dksX9_put1_0 20 rfl rfl)
theorem dX9_put1_21 : decode cX9_put1 21 = .ok (.iaload, 1) := dk_46 (dk_at dksX9_put1_0 21 rfl rfl)
theorem dX9_put1_22 : decode cX9_put1 22 = .ok (.ifCond .ne 7, 3) := dk_154 0 7 (dk_at dksX9_put1_1 0 rfl rfl)
theorem dX9_put1_25 : decode cX9_put1 25 = .ok (.iconst 1, 1) := dk_4 (dk_at dksX9_put1_1 3 rfl rfl)
theorem dX9_put1_26 : decode cX9_put1 26 = .ok (.goto 4, 3) := dk_167 0 4 (dk_at dksX9_put1_1 4 rfl rfl)
theorem dX9_put1_29 : decode cX9_put1 29 = .ok (.iconst 0, 1) := dk_3 (dk_at dksX9_put1_1 7 rfl rfl)
theorem dX9_put1_30 : decode cX9_put1 30 = .ok (.istore 4, 2) := dk_54 4 (dk_at dksX9_put1_1 8 rfl rfl)
theorem dX9_put1_32 : decode cX9_put1 32 = .ok (.aload_n 0, 1) := dk_42 (dk_at dksX9_put1_1 10 rfl rfl)
theorem dX9_put1_33 : decode cX9_put1 33 = .ok (.getfield 126, 3) := dk_180 0 126 (dk_at dksX9_put1_1 11 rfl rfl)
theorem dX9_put1_36 : decode cX9_put1 36 = .ok (.iload_n 3, 1) := dk_29 (dk_at dksX9_put1_1 14 rfl rfl)
theorem dX9_put1_37 : decode cX9_put1 37 = .ok (.iload 4, 2) := dk_21 4 (dk_at dksX9_put1_1 15 rfl rfl)
theorem dX9_put1_39 : decode cX9_put1 39 = .ok (.ifCond .eq 7, 3) := dk_153 0 7 (dk_at dksX9_put1_1 17 rfl rfl)
theorem dX9_put1_42 : decode cX9_put1 42 = .ok (.iload_n 2, 1) := dk_28 (dk_at dksX9_put1_1 20 rfl rfl)
theorem dX9_put1_43 : decode cX9_put1 43 = .ok (.goto 9, 3) := dk_167 0 9 (dk_at dksX9_put1_1 21 rfl rfl)
theorem dX9_put1_46 : decode cX9_put1 46 = .ok (.aload_n 0, 1) := dk_42 (dk_at dksX9_put1_2 0 rfl rfl)
theorem dX9_put1_47 : decode cX9_put1 47 = .ok (.getfield 126, 3) := dk_180 0 126 (dk_at dksX9_put1_2 1 rfl rfl)
theorem dX9_put1_50 : decode cX9_put1 50 = .ok (.iload_n 3, 1) := dk_29 (dk_at dksX9_put1_2 4 rfl rfl)
theorem dX9_put1_51 : decode cX9_put1 51 = .ok (.iaload, 1) := dk_46 (dk_at dksX9_put1_2 5 rfl rfl)
theorem dX9_put1_52 : decode cX9_put1 52 = .ok (.iastore, 1) := dk_79 (dk_at dksX9_put1_2 6 rfl rfl)
theorem dX9_put1_53 : decode cX9_put1 53 = .ok (.iload 4, 2) := dk_21 4 (dk_at dksX9_put1_2 7 rfl rfl)
theorem dX9_put1_55 : decode cX9_put1 55 = .ok (.ifCond .eq 7, 3) := dk_153 0 7 (dk_at dksX9_put1_2 9 rfl rfl)
theorem dX9_put1_58 : decode cX9_put1 58 = .ok (.iconst 0, 1) := dk_3 (dk_at dksX9_put1_2 12 rfl rfl)
theorem dX9_put1_59 : decode cX9_put1 59 = .ok (.goto 11, 3) := dk_167 0 11 (dk_at dksX9_put1_2 13 rfl rfl)
theorem dX9_put1_62 : decode cX9_put1 62 = .ok (.iload_n 2, 1) := dk_28 (dk_at dksX9_put1_2 16 rfl rfl)
theorem dX9_put1_63 : decode cX9_put1 63 = .ok (.aload_n 0, 1) := dk_42 (dk_at dksX9_put1_2 17 rfl rfl)
theorem dX9_put1_64 : decode cX9_put1 64 = .ok (.getfield 126, 3) := dk_180 0 126 (dk_at dksX9_put1_2 18 rfl rfl)
theorem dX9_put1_67 : decode cX9_put1 67 = .ok (.iload_n 3, 1) := dk_29 (dk_at dksX9_put1_2 21 rfl rfl)
theorem dX9_put1_68 : decode cX9_put1 68 = .ok (.iaload, 1) := dk_46 (dk_at dksX9_put1_2 22 rfl rfl)
theorem dX9_put1_69 : decode cX9_put1 69 = .ok (.ixor, 1) := dk_130 (dk_at dksX9_put1_2 23 rfl rfl)
theorem dX9_put1_70 : decode cX9_put1 70 = .ok (.istore_n 2, 1) := dk_61 (dk_at dksX9_put1_3 0 rfl rfl)
theorem dX9_put1_71 : decode cX9_put1 71 = .ok (.iinc 3 (-1), 3) := dk_132 3 255 (dk_at dksX9_put1_3 1 rfl rfl)
theorem dX9_put1_74 : decode cX9_put1 74 = .ok (.goto (-70), 3) := dk_167 255 186 (dk_at dksX9_put1_3 4 rfl rfl)
theorem dX9_put1_77 : decode cX9_put1 77 = .ok (.return_, 1) := dk_177 (dk_at dksX9_put1_3 7 rfl rfl)
abbrev cX9_areKnown : ByteArray := prog_23_method_85_code
def yX9_areKnown : MethodName := ⟨RX9, "areKnown", "(I)Z"⟩
def dkwX9_areKnown_1 : List UInt8 := [167, 0, 4, 3, 61, 132, 3, 1, 167, 255, 228, 28, 172]
abbrev dktX9_areKnown_1 : List UInt8 := dkwX9_areKnown_1 ++ []
def dkwX9_areKnown_0 : List UInt8 := [4, 61, 3, 62, 29, 27, 162, 0, 29, 28, 153, 0, 17, 42, 4, 29, 120, 182, 1, 201, 153, 0, 7, 4]
abbrev dktX9_areKnown_0 : List UInt8 := dkwX9_areKnown_0 ++ dktX9_areKnown_1
theorem dksX9_areKnown_0 : cX9_areKnown.data.toList.drop 0 = dktX9_areKnown_0 := by decide +kernel
theorem dksX9_areKnown_1 : cX9_areKnown.data.toList.drop 24 = dktX9_areKnown_1 := dk_seg dksX9_areKnown_0 24 rfl rfl
theorem dX9_areKnown_0 : decode cX9_areKnown 0 = .ok (.iconst 1, 1) := dk_4 (dk_at dksX9_areKnown_0 0 rfl rfl)
theorem dX9_areKnown_1 : decode cX9_areKnown 1 = .ok (.istore_n 2, 1) := dk_61 (dk_at dksX9_areKnown_0 1 rfl rfl)
theorem dX9_areKnown_2 : decode cX9_areKnown 2 = .ok (.iconst 0, 1) := dk_3 (dk_at dksX9_areKnown_0 2 rfl rfl)
theorem dX9_areKnown_3 : decode cX9_areKnown 3 = .ok (.istore_n 3, 1) := dk_62 (dk_at dksX9_areKnown_0 3 rfl rfl)
theorem dX9_areKnown_4 : decode cX9_areKnown 4 = .ok (.iload_n 3, 1) := dk_29 (dk_at dksX9_areKnown_0 4 rfl rfl)
theorem dX9_areKnown_5 : decode cX9_areKnown 5 = .ok (.iload_n 1, 1) := dk_27 (dk_at dksX9_areKnown_0 5 rfl rfl)
theorem dX9_areKnown_6 : decode cX9_areKnown 6 = .ok (.if_icmp .ge 29, 3) := dk_162 0 29 (dk_at dksX9_areKnown_0 6 rfl rfl)
theorem dX9_areKnown_9 : decode cX9_areKnown 9 = .ok (.iload_n 2, 1) := dk_28 (dk_at dksX9_areKnown_0 9 rfl rfl)
theorem dX9_areKnown_10 : decode cX9_areKnown 10 = .ok (.ifCond .eq 17, 3) := dk_153 0 17 (dk_at dksX9_areKnown_0 10 rfl rfl)
theorem dX9_areKnown_13 : decode cX9_areKnown 13 = .ok (.aload_n 0, 1) := dk_42 (dk_at dksX9_areKnown_0 13 rfl rfl)
theorem dX9_areKnown_14 : decode cX9_areKnown 14 = .ok (.iconst 1, 1) := dk_4 (dk_at dksX9_areKnown_0 14 rfl rfl)
theorem dX9_areKnown_15 : decode cX9_areKnown 15 = .ok (.iload_n 3, 1) := dk_29 (dk_at dksX9_areKnown_0 15 rfl rfl)
theorem dX9_areKnown_16 : decode cX9_areKnown 16 = .ok (.ishl, 1) := dk_120 (dk_at dksX9_areKnown_0 16 rfl rfl)
theorem dX9_areKnown_17 : decode cX9_areKnown 17 = .ok (.invokevirtual 457, 3) := dk_182 1 201 (dk_at dksX9_areKnown_0 17 rfl rfl)
theorem dX9_areKnown_20 : decode cX9_areKnown 20 = .ok (.ifCond .eq 7, 3) := dk_153 0 7 (dk_at dksX9_areKnown_0 20 rfl rfl)
theorem dX9_areKnown_23 : decode cX9_areKnown 23 = .ok (.iconst 1, 1) := dk_4 (dk_at dksX9_areKnown_0 23 rfl rfl)
theorem dX9_areKnown_24 : decode cX9_areKnown 24 = .ok (.goto 4, 3) := dk_167 0 4 (dk_at dksX9_areKnown_1 0 rfl rfl)
theorem dX9_areKnown_27 : decode cX9_areKnown 27 = .ok (.iconst 0, 1) := dk_3 (dk_at dksX9_areKnown_1 3 rfl rfl)
theorem dX9_areKnown_28 : decode cX9_areKnown 28 = .ok (.istore_n 2, 1) := dk_61 (dk_at dksX9_areKnown_1 4 rfl rfl)
theorem dX9_areKnown_29 : decode cX9_areKnown 29 = .ok (.iinc 3 1, 3) := dk_132 3 1 (dk_at dksX9_areKnown_1 5 rfl rfl)
theorem dX9_areKnown_32 : decode cX9_areKnown 32 = .ok (.goto (-28), 3) := dk_167 255 228 (dk_at dksX9_areKnown_1 8 rfl rfl)
theorem dX9_areKnown_35 : decode cX9_areKnown 35 = .ok (.iload_n 2, 1) := dk_28 (dk_at dksX9_areKnown_1 11 rfl rfl)
theorem dX9_areKnown_36 : decode cX9_areKnown 36 = .ok (.ireturn, 1) := dk_172 (dk_at dksX9_areKnown_1 12 rfl rfl)
abbrev cX9_isKnown : ByteArray := prog_23_method_82_code
def yX9_isKnown : MethodName := ⟨RX9, "isKnown", "(I)Z"⟩
def dkwX9_isKnown_1 : List UInt8 := [167, 0, 4, 3, 130, 61, 132, 3, 255, 167, 255, 228, 28, 154, 0, 7, 4, 167, 0, 4, 3, 172]
abbrev dktX9_isKnown_1 : List UInt8 := dkwX9_isKnown_1 ++ []
def dkwX9_isKnown_0 : List UInt8 := [27, 61, 8, 62, 29, 155, 0, 30, 28, 28, 29, 184, 1, 179, 153, 0, 12, 42, 180, 0, 126, 29, 46]
abbrev dktX9_isKnown_0 : List UInt8 := dkwX9_isKnown_0 ++ dktX9_isKnown_1
theorem dksX9_isKnown_0 : cX9_isKnown.data.toList.drop 0 = dktX9_isKnown_0 := by decide +kernel
theorem dksX9_isKnown_1 : cX9_isKnown.data.toList.drop 23 = dktX9_isKnown_1 := dk_seg dksX9_isKnown_0 23 rfl rfl
theorem dX9_isKnown_0 : decode cX9_isKnown 0 = .ok (.iload_n 1, 1) := dk_27 (dk_at dksX9_isKnown_0 0 rfl rfl)
theorem dX9_isKnown_1 : decode cX9_isKnown 1 = .ok (.istore_n 2, 1) := dk_61 (dk_at dksX9_isKnown_0 1 rfl rfl)
theorem dX9_isKnown_2 : decode cX9_isKnown 2 = .ok (.iconst 5, 1) := dk_8 (dk_at dksX9_isKnown_0 2 rfl rfl)
theorem dX9_isKnown_3 : decode cX9_isKnown 3 = .ok (.istore_n 3, 1) := dk_62 (dk_at dksX9_isKnown_0 3 rfl rfl)
theorem dX9_isKnown_4 : decode cX9_isKnown 4 = .ok (.iload_n 3, 1) := dk_29 (dk_at dksX9_isKnown_0 4 rfl rfl)
theorem dX9_isKnown_5 : decode cX9_isKnown 5 = .ok (.ifCond .lt 30, 3) := dk_155 0 30 (dk_at dksX9_isKnown_0 5 rfl rfl)
theorem dX9_isKnown_8 : decode cX9_isKnown 8 = .ok (.iload_n 2, 1) := dk_28 (dk_at dksX9_isKnown_0 8 rfl rfl)
theorem dX9_isKnown_9 : decode cX9_isKnown 9 = .ok (.iload_n 2, 1) := dk_28 (dk_at dksX9_isKnown_0 9 rfl rfl)
theorem dX9_isKnown_10 : decode cX9_isKnown 10 = .ok (.iload_n 3, 1) := dk_29 (dk_at dksX9_isKnown_0 10 rfl rfl)
theorem dX9_isKnown_11 : decode cX9_isKnown 11 = .ok (.invokestatic 435, 3) := dk_184 1 179 (dk_at dksX9_isKnown_0 11 rfl rfl)
theorem dX9_isKnown_14 : decode cX9_isKnown 14 = .ok (.ifCond .eq 12, 3) := dk_153 0 12 (dk_at dksX9_isKnown_0 14 rfl rfl)
theorem dX9_isKnown_17 : decode cX9_isKnown 17 = .ok (.aload_n 0, 1) := dk_42 (dk_at dksX9_isKnown_0 17 rfl rfl)
theorem dX9_isKnown_18 : decode cX9_isKnown 18 = .ok (.getfield 126, 3) := dk_180 0 126 (dk_at dksX9_isKnown_0 18 rfl rfl)
theorem dX9_isKnown_21 : decode cX9_isKnown 21 = .ok (.iload_n 3, 1) := dk_29 (dk_at dksX9_isKnown_0 21 rfl rfl)
theorem dX9_isKnown_22 : decode cX9_isKnown 22 = .ok (.iaload, 1) := dk_46 (dk_at dksX9_isKnown_0 22 rfl rfl)
theorem dX9_isKnown_23 : decode cX9_isKnown 23 = .ok (.goto 4, 3) := dk_167 0 4 (dk_at dksX9_isKnown_1 0 rfl rfl)
theorem dX9_isKnown_26 : decode cX9_isKnown 26 = .ok (.iconst 0, 1) := dk_3 (dk_at dksX9_isKnown_1 3 rfl rfl)
theorem dX9_isKnown_27 : decode cX9_isKnown 27 = .ok (.ixor, 1) := dk_130 (dk_at dksX9_isKnown_1 4 rfl rfl)
theorem dX9_isKnown_28 : decode cX9_isKnown 28 = .ok (.istore_n 2, 1) := dk_61 (dk_at dksX9_isKnown_1 5 rfl rfl)
theorem dX9_isKnown_29 : decode cX9_isKnown 29 = .ok (.iinc 3 (-1), 3) := dk_132 3 255 (dk_at dksX9_isKnown_1 6 rfl rfl)
theorem dX9_isKnown_32 : decode cX9_isKnown 32 = .ok (.goto (-28), 3) := dk_167 255 228 (dk_at dksX9_isKnown_1 9 rfl rfl)
theorem dX9_isKnown_35 : decode cX9_isKnown 35 = .ok (.iload_n 2, 1) := dk_28 (dk_at dksX9_isKnown_1 12 rfl rfl)
theorem dX9_isKnown_36 : decode cX9_isKnown 36 = .ok (.ifCond .ne 7, 3) := dk_154 0 7 (dk_at dksX9_isKnown_1 13 rfl rfl)
theorem dX9_isKnown_39 : decode cX9_isKnown 39 = .ok (.iconst 1, 1) := dk_4 (dk_at dksX9_isKnown_1 16 rfl rfl)
theorem dX9_isKnown_40 : decode cX9_isKnown 40 = .ok (.goto 4, 3) := dk_167 0 4 (dk_at dksX9_isKnown_1 17 rfl rfl)
theorem dX9_isKnown_43 : decode cX9_isKnown 43 = .ok (.iconst 0, 1) := dk_3 (dk_at dksX9_isKnown_1 20 rfl rfl)
theorem dX9_isKnown_44 : decode cX9_isKnown 44 = .ok (.ireturn, 1) := dk_172 (dk_at dksX9_isKnown_1 21 rfl rfl)
abbrev cX9_safe : ByteArray := prog_23_method_88_code
def yX9_safe : MethodName := ⟨RX9, "safe", "()I"⟩
def dkwX9_safe_2 : List UInt8 := [60, 132, 2, 1, 167, 255, 214, 27, 4, 100, 172]
abbrev dktX9_safe_2 : List UInt8 := dkwX9_safe_2 ++ []
def dkwX9_safe_1 : List UInt8 := [27, 162, 0, 22, 42, 42, 182, 1, 204, 28, 2, 130, 126, 182, 1, 207, 154, 0, 7, 29, 167, 0, 4, 27]
abbrev dktX9_safe_1 : List UInt8 := dkwX9_safe_1 ++ dktX9_safe_2
def dkwX9_safe_0 : List UInt8 := [42, 3, 181, 0, 150, 16, 7, 60, 3, 61, 28, 42, 182, 1, 204, 163, 0, 40, 28, 184, 1, 123, 62, 29]
abbrev dktX9_safe_0 : List UInt8 := dkwX9_safe_0 ++ dktX9_safe_1
theorem dksX9_safe_0 : cX9_safe.data.toList.drop 0 = dktX9_safe_0 := by decide +kernel
theorem dksX9_safe_1 : cX9_safe.data.toList.drop 24 = dktX9_safe_1 := dk_seg dksX9_safe_0 24 rfl rfl
theorem dksX9_safe_2 : cX9_safe.data.toList.drop 48 = dktX9_safe_2 := dk_seg dksX9_safe_1 24 rfl rfl
theorem dX9_safe_0 : decode cX9_safe 0 = .ok (.aload_n 0, 1) := dk_42 (dk_at dksX9_safe_0 0 rfl rfl)
theorem dX9_safe_1 : decode cX9_safe 1 = .ok (.iconst 0, 1) := dk_3 (dk_at dksX9_safe_0 1 rfl rfl)
theorem dX9_safe_2 : decode cX9_safe 2 = .ok (.putfield 150, 3) := dk_181 0 150 (dk_at dksX9_safe_0 2 rfl rfl)
theorem dX9_safe_5 : decode cX9_safe 5 = .ok (.bipush 7, 2) := dk_16 7 (dk_at dksX9_safe_0 5 rfl rfl)
theorem dX9_safe_7 : decode cX9_safe 7 = .ok (.istore_n 1, 1) := dk_60 (dk_at dksX9_safe_0 7 rfl rfl)
theorem dX9_safe_8 : decode cX9_safe 8 = .ok (.iconst 0, 1) := dk_3 (dk_at dksX9_safe_0 8 rfl rfl)
theorem dX9_safe_9 : decode cX9_safe 9 = .ok (.istore_n 2, 1) := dk_61 (dk_at dksX9_safe_0 9 rfl rfl)
theorem dX9_safe_10 : decode cX9_safe 10 = .ok (.iload_n 2, 1) := dk_28 (dk_at dksX9_safe_0 10 rfl rfl)
theorem dX9_safe_11 : decode cX9_safe 11 = .ok (.aload_n 0, 1) := dk_42 (dk_at dksX9_safe_0 11 rfl rfl)
theorem dX9_safe_12 : decode cX9_safe 12 = .ok (.invokevirtual 460, 3) := dk_182 1 204 (dk_at dksX9_safe_0 12 rfl rfl)
theorem dX9_safe_15 : decode cX9_safe 15 = .ok (.if_icmp .gt 40, 3) := dk_163 0 40 (dk_at dksX9_safe_0 15 rfl rfl)
theorem dX9_safe_18 : decode cX9_safe 18 = .ok (.iload_n 2, 1) := dk_28 (dk_at dksX9_safe_0 18 rfl rfl)
theorem dX9_safe_19 : decode cX9_safe 19 = .ok (.invokestatic 379, 3) := dk_184 1 123 (dk_at dksX9_safe_0 19 rfl rfl)
theorem dX9_safe_22 : decode cX9_safe 22 = .ok (.istore_n 3, 1) := dk_62 (dk_at dksX9_safe_0 22 rfl rfl)
theorem dX9_safe_23 : decode cX9_safe 23 = .ok (.iload_n 3, 1) := dk_29 (dk_at dksX9_safe_0 23 rfl rfl)
theorem dX9_safe_24 : decode cX9_safe 24 = .ok (.iload_n 1, 1) := dk_27 (dk_at dksX9_safe_1 0 rfl rfl)
theorem dX9_safe_25 : decode cX9_safe 25 = .ok (.if_icmp .ge 22, 3) := dk_162 0 22 (dk_at dksX9_safe_1 1 rfl rfl)
theorem dX9_safe_28 : decode cX9_safe 28 = .ok (.aload_n 0, 1) := dk_42 (dk_at dksX9_safe_1 4 rfl rfl)
theorem dX9_safe_29 : decode cX9_safe 29 = .ok (.aload_n 0, 1) := dk_42 (dk_at dksX9_safe_1 5 rfl rfl)
theorem dX9_safe_30 : decode cX9_safe 30 = .ok (.invokevirtual 460, 3) := dk_182 1 204 (dk_at dksX9_safe_1 6 rfl rfl)
theorem dX9_safe_33 : decode cX9_safe 33 = .ok (.iload_n 2, 1) := dk_28 (dk_at dksX9_safe_1 9 rfl rfl)
theorem dX9_safe_34 : decode cX9_safe 34 = .ok (.iconst (-1), 1) := dk_2 (dk_at dksX9_safe_1 10 rfl rfl)
theorem dX9_safe_35 : decode cX9_safe 35 = .ok (.ixor, 1) := dk_130 (dk_at dksX9_safe_1 11 rfl rfl)
theorem dX9_safe_36 : decode cX9_safe 36 = .ok (.iand, 1) := dk_126 (dk_at dksX9_safe_1 12 rfl rfl)
theorem dX9_safe_37 : decode cX9_safe 37 = .ok (.invokevirtual 463, 3) := dk_182 1 207 (dk_at dksX9_safe_1 13 rfl rfl)
theorem dX9_safe_40 : decode cX9_safe 40 = .ok (.ifCond .ne 7, 3) := dk_154 0 7 (dk_at dksX9_safe_1 16 rfl rfl)
theorem dX9_safe_43 : decode cX9_safe 43 = .ok (.iload_n 3, 1) := dk_29 (dk_at dksX9_safe_1 19 rfl rfl)
theorem dX9_safe_44 : decode cX9_safe 44 = .ok (.goto 4, 3) := dk_167 0 4 (dk_at dksX9_safe_1 20 rfl rfl)
theorem dX9_safe_47 : decode cX9_safe 47 = .ok (.iload_n 1, 1) := dk_27 (dk_at dksX9_safe_1 23 rfl rfl)
theorem dX9_safe_48 : decode cX9_safe 48 = .ok (.istore_n 1, 1) := dk_60 (dk_at dksX9_safe_2 0 rfl rfl)
theorem dX9_safe_49 : decode cX9_safe 49 = .ok (.iinc 2 1, 3) := dk_132 2 1 (dk_at dksX9_safe_2 1 rfl rfl)
theorem dX9_safe_52 : decode cX9_safe 52 = .ok (.goto (-42), 3) := dk_167 255 214 (dk_at dksX9_safe_2 4 rfl rfl)
theorem dX9_safe_55 : decode cX9_safe 55 = .ok (.iload_n 1, 1) := dk_27 (dk_at dksX9_safe_2 7 rfl rfl)
theorem dX9_safe_56 : decode cX9_safe 56 = .ok (.iconst 1, 1) := dk_4 (dk_at dksX9_safe_2 8 rfl rfl)
theorem dX9_safe_57 : decode cX9_safe 57 = .ok (.isub, 1) := dk_100 (dk_at dksX9_safe_2 9 rfl rfl)
theorem dX9_safe_58 : decode cX9_safe 58 = .ok (.ireturn, 1) := dk_172 (dk_at dksX9_safe_2 10 rfl rfl)
abbrev cX9_odds : ByteArray := prog_23_method_90_code
def yX9_odds : MethodName := ⟨RX9, "odds", "()J"⟩
def dkwX9_odds_0 : List UInt8 := [42, 3, 181, 0, 150, 42, 42, 182, 1, 204, 182, 1, 210, 173]
abbrev dktX9_odds_0 : List UInt8 := dkwX9_odds_0 ++ []
theorem dksX9_odds_0 : cX9_odds.data.toList.drop 0 = dktX9_odds_0 := by decide +kernel
theorem dX9_odds_0 : decode cX9_odds 0 = .ok (.aload_n 0, 1) := dk_42 (dk_at dksX9_odds_0 0 rfl rfl)
theorem dX9_odds_1 : decode cX9_odds 1 = .ok (.iconst 0, 1) := dk_3 (dk_at dksX9_odds_0 1 rfl rfl)
theorem dX9_odds_2 : decode cX9_odds 2 = .ok (.putfield 150, 3) := dk_181 0 150 (dk_at dksX9_odds_0 2 rfl rfl)
theorem dX9_odds_5 : decode cX9_odds 5 = .ok (.aload_n 0, 1) := dk_42 (dk_at dksX9_odds_0 5 rfl rfl)
theorem dX9_odds_6 : decode cX9_odds 6 = .ok (.aload_n 0, 1) := dk_42 (dk_at dksX9_odds_0 6 rfl rfl)
theorem dX9_odds_7 : decode cX9_odds 7 = .ok (.invokevirtual 460, 3) := dk_182 1 204 (dk_at dksX9_odds_0 7 rfl rfl)
theorem dX9_odds_10 : decode cX9_odds 10 = .ok (.invokevirtual 466, 3) := dk_182 1 210 (dk_at dksX9_odds_0 10 rfl rfl)
theorem dX9_odds_13 : decode cX9_odds 13 = .ok (.lreturn, 1) := dk_173 (dk_at dksX9_odds_0 13 rfl rfl)
abbrev cX9_oddsOf : ByteArray := prog_23_method_89_code
def yX9_oddsOf : MethodName := ⟨RX9, "oddsOf", "(I)J"⟩
def dkwX9_oddsOf_5 : List UInt8 := [167, 255, 147, 32, 173]
abbrev dktX9_oddsOf_5 : List UInt8 := dkwX9_oddsOf_5 ++ []
def dkwX9_oddsOf_4 : List UInt8 := [167, 0, 6, 21, 8, 133, 105, 55, 5, 132, 7, 1, 167, 255, 191, 32, 22, 5, 97, 65, 132, 4, 1]
abbrev dktX9_oddsOf_4 : List UInt8 := dkwX9_oddsOf_4 ++ dktX9_oddsOf_5
def dkwX9_oddsOf_3 : List UInt8 := [20, 0, 189, 167, 0, 25, 21, 4, 21, 7, 184, 1, 179, 153, 0, 12, 16, 100, 21, 8, 100, 133]
abbrev dktX9_oddsOf_3 : List UInt8 := dkwX9_oddsOf_3 ++ dktX9_oddsOf_4
def dkwX9_oddsOf_2 : List UInt8 := [162, 0, 60, 42, 21, 7, 7, 182, 0, 169, 54, 8, 22, 5, 27, 21, 7, 184, 1, 179, 154, 0, 9]
abbrev dktX9_oddsOf_2 : List UInt8 := dkwX9_oddsOf_2 ++ dktX9_oddsOf_3
def dkwX9_oddsOf_1 : List UInt8 := [21, 4, 182, 1, 207, 153, 0, 82, 10, 55, 5, 3, 54, 7, 21, 7, 42, 180, 0, 13, 3, 46]
abbrev dktX9_oddsOf_1 : List UInt8 := dkwX9_oddsOf_1 ++ dktX9_oddsOf_2
def dkwX9_oddsOf_0 : List UInt8 := [9, 65, 3, 54, 4, 21, 4, 42, 182, 1, 204, 163, 0, 106, 21, 4, 27, 2, 130, 126, 154, 0, 91, 42]
abbrev dktX9_oddsOf_0 : List UInt8 := dkwX9_oddsOf_0 ++ dktX9_oddsOf_1
theorem dksX9_oddsOf_0 : cX9_oddsOf.data.toList.drop 0 = dktX9_oddsOf_0 := by decide +kernel
theorem dksX9_oddsOf_1 : cX9_oddsOf.data.toList.drop 24 = dktX9_oddsOf_1 := dk_seg dksX9_oddsOf_0 24 rfl rfl
theorem dksX9_oddsOf_2 : cX9_oddsOf.data.toList.drop 46 = dktX9_oddsOf_2 := dk_seg dksX9_oddsOf_1 22 rfl rfl
theorem dksX9_oddsOf_3 : cX9_oddsOf.data.toList.drop 69 = dktX9_oddsOf_3 := dk_seg dksX9_oddsOf_2 23 rfl rfl
theorem dksX9_oddsOf_4 : cX9_oddsOf.data.toList.drop 91 = dktX9_oddsOf_4 := dk_seg dksX9_oddsOf_3 22 rfl rfl
theorem dksX9_oddsOf_5 : cX9_oddsOf.data.toList.drop 114 = dktX9_oddsOf_5 := dk_seg dksX9_oddsOf_4 23 rfl rfl
theorem dX9_oddsOf_0 : decode cX9_oddsOf 0 = .ok (.lconst 0, 1) := dk_9 (dk_at dksX9_oddsOf_0 0 rfl rfl)
theorem dX9_oddsOf_1 : decode cX9_oddsOf 1 = .ok (.lstore_n 2, 1) := dk_65 (dk_at dksX9_oddsOf_0 1 rfl rfl)
theorem dX9_oddsOf_2 : decode cX9_oddsOf 2 = .ok (.iconst 0, 1) := dk_3 (dk_at dksX9_oddsOf_0 2 rfl rfl)
theorem dX9_oddsOf_3 : decode cX9_oddsOf 3 = .ok (.istore 4, 2) := dk_54 4 (dk_at dksX9_oddsOf_0 3 rfl rfl)
theorem dX9_oddsOf_5 : decode cX9_oddsOf 5 = .ok (.iload 4, 2) := dk_21 4 (dk_at dksX9_oddsOf_0 5 rfl rfl)
theorem dX9_oddsOf_7 : decode cX9_oddsOf 7 = .ok (.aload_n 0, 1) := dk_42 (dk_at dksX9_oddsOf_0 7 rfl rfl)
theorem dX9_oddsOf_8 : decode cX9_oddsOf 8 = .ok (.invokevirtual 460, 3) := dk_182 1 204 (dk_at dksX9_oddsOf_0 8 rfl rfl)
theorem dX9_oddsOf_11 : decode cX9_oddsOf 11 = .ok (.if_icmp .gt 106, 3) := dk_163 0 106 (dk_at dksX9_oddsOf_0 11 rfl rfl)
theorem dX9_oddsOf_14 : decode cX9_oddsOf 14 = .ok (.iload 4, 2) := dk_21 4 (dk_at dksX9_oddsOf_0 14 rfl rfl)
theorem dX9_oddsOf_16 : decode cX9_oddsOf 16 = .ok (.iload_n 1, 1) := dk_27 (dk_at dksX9_oddsOf_0 16 rfl rfl)
theorem dX9_oddsOf_17 : decode cX9_oddsOf 17 = .ok (.iconst (-1), 1) := dk_2 (dk_at dksX9_oddsOf_0 17 rfl rfl)
theorem dX9_oddsOf_18 : decode cX9_oddsOf 18 = .ok (.ixor, 1) := dk_130 (dk_at dksX9_oddsOf_0 18 rfl rfl)
theorem dX9_oddsOf_19 : decode cX9_oddsOf 19 = .ok (.iand, 1) := dk_126 (dk_at dksX9_oddsOf_0 19 rfl rfl)
theorem dX9_oddsOf_20 : decode cX9_oddsOf 20 = .ok (.ifCond .ne 91, 3) := dk_154 0 91 (dk_at dksX9_oddsOf_0 20 rfl rfl)
theorem dX9_oddsOf_23 : decode cX9_oddsOf 23 = .ok (.aload_n 0, 1) := dk_42 (dk_at dksX9_oddsOf_0 23 rfl rfl)
theorem dX9_oddsOf_24 : decode cX9_oddsOf 24 = .ok (.iload 4, 2) := dk_21 4 (dk_at dksX9_oddsOf_1 0 rfl rfl)
theorem dX9_oddsOf_26 : decode cX9_oddsOf 26 = .ok (.invokevirtual 463, 3) := dk_182 1 207 (dk_at dksX9_oddsOf_1 2 rfl rfl)
theorem dX9_oddsOf_29 : decode cX9_oddsOf 29 = .ok (.ifCond .eq 82, 3) := dk_153 0 82 (dk_at dksX9_oddsOf_1 5 rfl rfl)
theorem dX9_oddsOf_32 : decode cX9_oddsOf 32 = .ok (.lconst 1, 1) := dk_10 (dk_at dksX9_oddsOf_1 8 rfl rfl)
theorem dX9_oddsOf_33 : decode cX9_oddsOf 33 = .ok (.lstore 5, 2) := dk_55 5 (dk_at dksX9_oddsOf_1 9 rfl rfl)
theorem dX9_oddsOf_35 : decode cX9_oddsOf 35 = .ok (.iconst 0, 1) := dk_3 (dk_at dksX9_oddsOf_1 11 rfl rfl)
theorem dX9_oddsOf_36 : decode cX9_oddsOf 36 = .ok (.istore 7, 2) := dk_54 7 (dk_at dksX9_oddsOf_1 12 rfl rfl)
theorem dX9_oddsOf_38 : decode cX9_oddsOf 38 = .ok (.iload 7, 2) := dk_21 7 (dk_at dksX9_oddsOf_1 14 rfl rfl)
theorem dX9_oddsOf_40 : decode cX9_oddsOf 40 = .ok (.aload_n 0, 1) := dk_42 (dk_at dksX9_oddsOf_1 16 rfl rfl)
theorem dX9_oddsOf_41 : decode cX9_oddsOf 41 = .ok (.getfield 13, 3) := dk_180 0 13 (dk_at dksX9_oddsOf_1 17 rfl rfl)
theorem dX9_oddsOf_44 : decode cX9_oddsOf 44 = .ok (.iconst 0, 1) := dk_3 (dk_at dksX9_oddsOf_1 20 rfl rfl)
theorem dX9_oddsOf_45 : decode cX9_oddsOf 45 = .ok (.iaload, 1) := dk_46 (dk_at dksX9_oddsOf_1 21 rfl rfl)
theorem dX9_oddsOf_46 : decode cX9_oddsOf 46 = .ok (.if_icmp .ge 60, 3) := dk_162 0 60 (dk_at dksX9_oddsOf_2 0 rfl rfl)
theorem dX9_oddsOf_49 : decode cX9_oddsOf 49 = .ok (.aload_n 0, 1) := dk_42 (dk_at dksX9_oddsOf_2 3 rfl rfl)
theorem dX9_oddsOf_50 : decode cX9_oddsOf 50 = .ok (.iload 7, 2) := dk_21 7 (dk_at dksX9_oddsOf_2 4 rfl rfl)
theorem dX9_oddsOf_52 : decode cX9_oddsOf 52 = .ok (.iconst 4, 1) := dk_7 (dk_at dksX9_oddsOf_2 6 rfl rfl)
theorem dX9_oddsOf_53 : decode cX9_oddsOf 53 = .ok (.invokevirtual 169, 3) := dk_182 0 169 (dk_at dksX9_oddsOf_2 7 rfl rfl)
theorem dX9_oddsOf_56 : decode cX9_oddsOf 56 = .ok (.istore 8, 2) := dk_54 8 (dk_at dksX9_oddsOf_2 10 rfl rfl)
theorem dX9_oddsOf_58 : decode cX9_oddsOf 58 = .ok (.lload 5, 2) := dk_22 5 (dk_at dksX9_oddsOf_2 12 rfl rfl)
theorem dX9_oddsOf_60 : decode cX9_oddsOf 60 = .ok (.iload_n 1, 1) := dk_27 (dk_at dksX9_oddsOf_2 14 rfl rfl)
theorem dX9_oddsOf_61 : decode cX9_oddsOf 61 = .ok (.iload 7, 2) := dk_21 7 (dk_at dksX9_oddsOf_2 15 rfl rfl)
theorem dX9_oddsOf_63 : decode cX9_oddsOf 63 = .ok (.invokestatic 435, 3) := dk_184 1 179 (dk_at dksX9_oddsOf_2 17 rfl rfl)
theorem dX9_oddsOf_66 : decode cX9_oddsOf 66 = .ok (.ifCond .ne 9, 3) := dk_154 0 9 (dk_at dksX9_oddsOf_2 20 rfl rfl)
theorem dX9_oddsOf_69 : decode cX9_oddsOf 69 = .ok (.ldc2_w 189, 3) := dk_20 0 189 (dk_at dksX9_oddsOf_3 0 rfl rfl)
theorem dX9_oddsOf_72 : decode cX9_oddsOf 72 = .ok (.goto 25, 3) := dk_167 0 25 (dk_at dksX9_oddsOf_3 3 rfl rfl)
theorem dX9_oddsOf_75 : decode cX9_oddsOf 75 = .ok (.iload 4, 2) := dk_21 4 (dk_at dksX9_oddsOf_3 6 rfl rfl)
theorem dX9_oddsOf_77 : decode cX9_oddsOf 77 = .ok (.iload 7, 2) := dk_21 7 (dk_at dksX9_oddsOf_3 8 rfl rfl)
theorem dX9_oddsOf_79 : decode cX9_oddsOf 79 = .ok (.invokestatic 435, 3) := dk_184 1 179 (dk_at dksX9_oddsOf_3 10 rfl rfl)
theorem dX9_oddsOf_82 : decode cX9_oddsOf 82 = .ok (.ifCond .eq 12, 3) := dk_153 0 12 (dk_at dksX9_oddsOf_3 13 rfl rfl)
theorem dX9_oddsOf_85 : decode cX9_oddsOf 85 = .ok (.bipush 100, 2) := dk_16 100 (dk_at dksX9_oddsOf_3 16 rfl rfl)
theorem dX9_oddsOf_87 : decode cX9_oddsOf 87 = .ok (.iload 8, 2) := dk_21 8 (dk_at dksX9_oddsOf_3 18 rfl rfl)
theorem dX9_oddsOf_89 : decode cX9_oddsOf 89 = .ok (.isub, 1) := dk_100 (dk_at dksX9_oddsOf_3 20 rfl rfl)
theorem dX9_oddsOf_90 : decode cX9_oddsOf 90 = .ok (.i2l, 1) := dk_133 (dk_at dksX9_oddsOf_3 21 rfl rfl)
theorem dX9_oddsOf_91 : decode cX9_oddsOf 91 = .ok (.goto 6, 3) := dk_167 0 6 (dk_at dksX9_oddsOf_4 0 rfl rfl)
theorem dX9_oddsOf_94 : decode cX9_oddsOf 94 = .ok (.iload 8, 2) := dk_21 8 (dk_at dksX9_oddsOf_4 3 rfl rfl)
theorem dX9_oddsOf_96 : decode cX9_oddsOf 96 = .ok (.i2l, 1) := dk_133 (dk_at dksX9_oddsOf_4 5 rfl rfl)
theorem dX9_oddsOf_97 : decode cX9_oddsOf 97 = .ok (.lmul, 1) := dk_105 (dk_at dksX9_oddsOf_4 6 rfl rfl)
theorem dX9_oddsOf_98 : decode cX9_oddsOf 98 = .ok (.lstore 5, 2) := dk_55 5 (dk_at dksX9_oddsOf_4 7 rfl rfl)
theorem dX9_oddsOf_100 : decode cX9_oddsOf 100 = .ok (.iinc 7 1, 3) := dk_132 7 1 (dk_at dksX9_oddsOf_4 9 rfl rfl)
theorem dX9_oddsOf_103 : decode cX9_oddsOf 103 = .ok (.goto (-65), 3) := dk_167 255 191 (dk_at dksX9_oddsOf_4 12 rfl rfl)
theorem dX9_oddsOf_106 : decode cX9_oddsOf 106 = .ok (.lload_n 2, 1) := dk_32 (dk_at dksX9_oddsOf_4 15 rfl rfl)
theorem dX9_oddsOf_107 : decode cX9_oddsOf 107 = .ok (.lload 5, 2) := dk_22 5 (dk_at dksX9_oddsOf_4 16 rfl rfl)
theorem dX9_oddsOf_109 : decode cX9_oddsOf 109 = .ok (.ladd, 1) := dk_97 (dk_at dksX9_oddsOf_4 18 rfl rfl)
theorem dX9_oddsOf_110 : decode cX9_oddsOf 110 = .ok (.lstore_n 2, 1) := dk_65 (dk_at dksX9_oddsOf_4 19 rfl rfl)
theorem dX9_oddsOf_111 : decode cX9_oddsOf 111 = .ok (.iinc 4 1, 3) := dk_132 4 1 (dk_at dksX9_oddsOf_4 20 rfl rfl)
theorem dX9_oddsOf_114 : decode cX9_oddsOf 114 = .ok (.goto (-109), 3) := dk_167 255 147 (dk_at dksX9_oddsOf_5 0 rfl rfl)
theorem dX9_oddsOf_117 : decode cX9_oddsOf 117 = .ok (.lload_n 2, 1) := dk_32 (dk_at dksX9_oddsOf_5 3 rfl rfl)
theorem dX9_oddsOf_118 : decode cX9_oddsOf 118 = .ok (.lreturn, 1) := dk_173 (dk_at dksX9_oddsOf_5 4 rfl rfl)
abbrev cX9_keys : ByteArray := prog_23_method_91_code
def yX9_keys : MethodName := ⟨RX9, "keys", "()I"⟩
def dkwX9_keys_2 : List UInt8 := [132, 2, 1, 167, 255, 216, 27, 172]
abbrev dktX9_keys_2 : List UInt8 := dkwX9_keys_2 ++ []
def dkwX9_keys_1 : List UInt8 := [182, 1, 204, 4, 28, 120, 2, 130, 126, 182, 1, 207, 153, 0, 7, 3, 167, 0, 6, 4, 28, 120, 128, 60]
abbrev dktX9_keys_1 : List UInt8 := dkwX9_keys_1 ++ dktX9_keys_2
def dkwX9_keys_0 : List UInt8 := [42, 3, 181, 0, 150, 3, 60, 3, 61, 28, 42, 180, 0, 13, 3, 46, 162, 0, 36, 27, 42, 42]
abbrev dktX9_keys_0 : List UInt8 := dkwX9_keys_0 ++ dktX9_keys_1
theorem dksX9_keys_0 : cX9_keys.data.toList.drop 0 = dktX9_keys_0 := by decide +kernel
theorem dksX9_keys_1 : cX9_keys.data.toList.drop 22 = dktX9_keys_1 := dk_seg dksX9_keys_0 22 rfl rfl
theorem dksX9_keys_2 : cX9_keys.data.toList.drop 46 = dktX9_keys_2 := dk_seg dksX9_keys_1 24 rfl rfl
theorem dX9_keys_0 : decode cX9_keys 0 = .ok (.aload_n 0, 1) := dk_42 (dk_at dksX9_keys_0 0 rfl rfl)
theorem dX9_keys_1 : decode cX9_keys 1 = .ok (.iconst 0, 1) := dk_3 (dk_at dksX9_keys_0 1 rfl rfl)
theorem dX9_keys_2 : decode cX9_keys 2 = .ok (.putfield 150, 3) := dk_181 0 150 (dk_at dksX9_keys_0 2 rfl rfl)
theorem dX9_keys_5 : decode cX9_keys 5 = .ok (.iconst 0, 1) := dk_3 (dk_at dksX9_keys_0 5 rfl rfl)
theorem dX9_keys_6 : decode cX9_keys 6 = .ok (.istore_n 1, 1) := dk_60 (dk_at dksX9_keys_0 6 rfl rfl)
theorem dX9_keys_7 : decode cX9_keys 7 = .ok (.iconst 0, 1) := dk_3 (dk_at dksX9_keys_0 7 rfl rfl)
theorem dX9_keys_8 : decode cX9_keys 8 = .ok (.istore_n 2, 1) := dk_61 (dk_at dksX9_keys_0 8 rfl rfl)
theorem dX9_keys_9 : decode cX9_keys 9 = .ok (.iload_n 2, 1) := dk_28 (dk_at dksX9_keys_0 9 rfl rfl)
theorem dX9_keys_10 : decode cX9_keys 10 = .ok (.aload_n 0, 1) := dk_42 (dk_at dksX9_keys_0 10 rfl rfl)
theorem dX9_keys_11 : decode cX9_keys 11 = .ok (.getfield 13, 3) := dk_180 0 13 (dk_at dksX9_keys_0 11 rfl rfl)
theorem dX9_keys_14 : decode cX9_keys 14 = .ok (.iconst 0, 1) := dk_3 (dk_at dksX9_keys_0 14 rfl rfl)
theorem dX9_keys_15 : decode cX9_keys 15 = .ok (.iaload, 1) := dk_46 (dk_at dksX9_keys_0 15 rfl rfl)
theorem dX9_keys_16 : decode cX9_keys 16 = .ok (.if_icmp .ge 36, 3) := dk_162 0 36 (dk_at dksX9_keys_0 16 rfl rfl)
theorem dX9_keys_19 : decode cX9_keys 19 = .ok (.iload_n 1, 1) := dk_27 (dk_at dksX9_keys_0 19 rfl rfl)
theorem dX9_keys_20 : decode cX9_keys 20 = .ok (.aload_n 0, 1) := dk_42 (dk_at dksX9_keys_0 20 rfl rfl)
theorem dX9_keys_21 : decode cX9_keys 21 = .ok (.aload_n 0, 1) := dk_42 (dk_at dksX9_keys_0 21 rfl rfl)
theorem dX9_keys_22 : decode cX9_keys 22 = .ok (.invokevirtual 460, 3) := dk_182 1 204 (dk_at dksX9_keys_1 0 rfl rfl)
theorem dX9_keys_25 : decode cX9_keys 25 = .ok (.iconst 1, 1) := dk_4 (dk_at dksX9_keys_1 3 rfl rfl)
theorem dX9_keys_26 : decode cX9_keys 26 = .ok (.iload_n 2, 1) := dk_28 (dk_at dksX9_keys_1 4 rfl rfl)
theorem dX9_keys_27 : decode cX9_keys 27 = .ok (.ishl, 1) := dk_120 (dk_at dksX9_keys_1 5 rfl rfl)
theorem dX9_keys_28 : decode cX9_keys 28 = .ok (.iconst (-1), 1) := dk_2 (dk_at dksX9_keys_1 6 rfl rfl)
theorem dX9_keys_29 : decode cX9_keys 29 = .ok (.ixor, 1) := dk_130 (dk_at dksX9_keys_1 7 rfl rfl)
theorem dX9_keys_30 : decode cX9_keys 30 = .ok (.iand, 1) := dk_126 (dk_at dksX9_keys_1 8 rfl rfl)
theorem dX9_keys_31 : decode cX9_keys 31 = .ok (.invokevirtual 463, 3) := dk_182 1 207 (dk_at dksX9_keys_1 9 rfl rfl)
theorem dX9_keys_34 : decode cX9_keys 34 = .ok (.ifCond .eq 7, 3) := dk_153 0 7 (dk_at dksX9_keys_1 12 rfl rfl)
theorem dX9_keys_37 : decode cX9_keys 37 = .ok (.iconst 0, 1) := dk_3 (dk_at dksX9_keys_1 15 rfl rfl)
theorem dX9_keys_38 : decode cX9_keys 38 = .ok (.goto 6, 3) := dk_167 0 6 (dk_at dksX9_keys_1 16 rfl rfl)
theorem dX9_keys_41 : decode cX9_keys 41 = .ok (.iconst 1, 1) := dk_4 (dk_at dksX9_keys_1 19 rfl rfl)
theorem dX9_keys_42 : decode cX9_keys 42 = .ok (.iload_n 2, 1) := dk_28 (dk_at dksX9_keys_1 20 rfl rfl)
theorem dX9_keys_43 : decode cX9_keys 43 = .ok (.ishl, 1) := dk_120 (dk_at dksX9_keys_1 21 rfl rfl)
theorem dX9_keys_44 : decode cX9_keys 44 = .ok (.ior, 1) := dk_128 (dk_at dksX9_keys_1 22 rfl rfl)
theorem dX9_keys_45 : decode cX9_keys 45 = .ok (.istore_n 1, 1) := dk_60 (dk_at dksX9_keys_1 23 rfl rfl)
theorem dX9_keys_46 : decode cX9_keys 46 = .ok (.iinc 2 1, 3) := dk_132 2 1 (dk_at dksX9_keys_2 0 rfl rfl)
theorem dX9_keys_49 : decode cX9_keys 49 = .ok (.goto (-40), 3) := dk_167 255 216 (dk_at dksX9_keys_2 3 rfl rfl)
theorem dX9_keys_52 : decode cX9_keys 52 = .ok (.iload_n 1, 1) := dk_27 (dk_at dksX9_keys_2 6 rfl rfl)
theorem dX9_keys_53 : decode cX9_keys 53 = .ok (.ireturn, 1) := dk_172 (dk_at dksX9_keys_2 7 rfl rfl)
abbrev cX9_send : ByteArray := prog_23_method_92_code
def yX9_send : MethodName := ⟨RX9, "send", "(I)I"⟩
def dkwX9_send_7 : List UInt8 := [55, 5, 132, 7, 1, 167, 255, 144, 21, 4, 172]
abbrev dktX9_send_7 : List UInt8 := dkwX9_send_7 ++ []
def dkwX9_send_6 : List UInt8 := [27, 133, 32, 105, 148, 155, 0, 21, 21, 10, 154, 0, 8, 21, 11, 153, 0, 11, 21, 7, 54, 4, 22, 8]
abbrev dktX9_send_6 : List UInt8 := dkwX9_send_6 ++ dktX9_send_7
def dkwX9_send_5 : List UInt8 := [160, 0, 15, 22, 8, 22, 5, 148, 158, 0, 7, 4, 167, 0, 4, 3, 54, 11, 22, 8, 20, 0, 189, 105]
abbrev dktX9_send_5 : List UInt8 := dkwX9_send_5 ++ dktX9_send_6
def dkwX9_send_4 : List UInt8 := [167, 0, 4, 3, 54, 10, 21, 4, 2, 159, 0, 28, 21, 7, 184, 1, 123, 21, 4, 184, 1, 123]
abbrev dktX9_send_4 : List UInt8 := dkwX9_send_4 ++ dktX9_send_5
def dkwX9_send_3 : List UInt8 := [55, 8, 21, 4, 2, 159, 0, 16, 21, 7, 184, 1, 123, 21, 4, 184, 1, 123, 162, 0, 7, 4]
abbrev dktX9_send_3 : List UInt8 := dkwX9_send_3 ++ dktX9_send_4
def dkwX9_send_2 : List UInt8 := [54, 4, 9, 55, 5, 3, 54, 7, 21, 7, 42, 182, 1, 204, 163, 0, 109, 42, 21, 7, 182, 1, 210]
abbrev dktX9_send_2 : List UInt8 := dkwX9_send_2 ++ dktX9_send_3
def dkwX9_send_1 : List UInt8 := [21, 4, 42, 180, 0, 13, 3, 46, 162, 0, 15, 32, 20, 0, 189, 105, 65, 132, 4, 1, 167, 255, 236, 2]
abbrev dktX9_send_1 : List UInt8 := dkwX9_send_1 ++ dktX9_send_2
def dkwX9_send_0 : List UInt8 := [42, 3, 181, 0, 150, 27, 133, 9, 20, 0, 189, 184, 0, 160, 154, 0, 5, 2, 172, 10, 65, 3, 54, 4]
abbrev dktX9_send_0 : List UInt8 := dkwX9_send_0 ++ dktX9_send_1
theorem dksX9_send_0 : cX9_send.data.toList.drop 0 = dktX9_send_0 := by decide +kernel
theorem dksX9_send_1 : cX9_send.data.toList.drop 24 = dktX9_send_1 := dk_seg dksX9_send_0 24 rfl rfl
theorem dksX9_send_2 : cX9_send.data.toList.drop 48 = dktX9_send_2 := dk_seg dksX9_send_1 24 rfl rfl
theorem dksX9_send_3 : cX9_send.data.toList.drop 71 = dktX9_send_3 := dk_seg dksX9_send_2 23 rfl rfl
theorem dksX9_send_4 : cX9_send.data.toList.drop 93 = dktX9_send_4 := dk_seg dksX9_send_3 22 rfl rfl
theorem dksX9_send_5 : cX9_send.data.toList.drop 115 = dktX9_send_5 := dk_seg dksX9_send_4 22 rfl rfl
theorem dksX9_send_6 : cX9_send.data.toList.drop 139 = dktX9_send_6 := dk_seg dksX9_send_5 24 rfl rfl
theorem dksX9_send_7 : cX9_send.data.toList.drop 163 = dktX9_send_7 := dk_seg dksX9_send_6 24 rfl rfl
theorem dX9_send_0 : decode cX9_send 0 = .ok (.aload_n 0, 1) := dk_42 (dk_at dksX9_send_0 0 rfl rfl)
theorem dX9_send_1 : decode cX9_send 1 = .ok (.iconst 0, 1) := dk_3 (dk_at dksX9_send_0 1 rfl rfl)
theorem dX9_send_2 : decode cX9_send 2 = .ok (.putfield 150, 3) := dk_181 0 150 (dk_at dksX9_send_0 2 rfl rfl)
theorem dX9_send_5 : decode cX9_send 5 = .ok (.iload_n 1, 1) := dk_27 (dk_at dksX9_send_0 5 rfl rfl)
theorem dX9_send_6 : decode cX9_send 6 = .ok (.i2l, 1) := dk_133 (dk_at dksX9_send_0 6 rfl rfl)
theorem dX9_send_7 : decode cX9_send 7 = .ok (.lconst 0, 1) := dk_9 (dk_at dksX9_send_0 7 rfl rfl)
theorem dX9_send_8 : decode cX9_send 8 = .ok (.ldc2_w 189, 3) := dk_20 0 189 (dk_at dksX9_send_0 8 rfl rfl)
theorem dX9_send_11 : decode cX9_send 11 = .ok (.invokestatic 160, 3) := dk_184 0 160 (dk_at dksX9_send_0 11 rfl rfl)
theorem dX9_send_14 : decode cX9_send 14 = .ok (.ifCond .ne 5, 3) := dk_154 0 5 (dk_at dksX9_send_0 14 rfl rfl)
theorem dX9_send_17 : decode cX9_send 17 = .ok (.iconst (-1), 1) := dk_2 (dk_at dksX9_send_0 17 rfl rfl)
theorem dX9_send_18 : decode cX9_send 18 = .ok (.ireturn, 1) := dk_172 (dk_at dksX9_send_0 18 rfl rfl)
theorem dX9_send_19 : decode cX9_send 19 = .ok (.lconst 1, 1) := dk_10 (dk_at dksX9_send_0 19 rfl rfl)
theorem dX9_send_20 : decode cX9_send 20 = .ok (.lstore_n 2, 1) := dk_65 (dk_at dksX9_send_0 20 rfl rfl)
theorem dX9_send_21 : decode cX9_send 21 = .ok (.iconst 0, 1) := dk_3 (dk_at dksX9_send_0 21 rfl rfl)
theorem dX9_send_22 : decode cX9_send 22 = .ok (.istore 4, 2) := dk_54 4 (dk_at dksX9_send_0 22 rfl rfl)
theorem dX9_send_24 : decode cX9_send 24 = .ok (.iload 4, 2) := dk_21 4 (dk_at dksX9_send_1 0 rfl rfl)
theorem dX9_send_26 : decode cX9_send 26 = .ok (.aload_n 0, 1) := dk_42 (dk_at dksX9_send_1 2 rfl rfl)
theorem dX9_send_27 : decode cX9_send 27 = .ok (.getfield 13, 3) := dk_180 0 13 (dk_at dksX9_send_1 3 rfl rfl)
theorem dX9_send_30 : decode cX9_send 30 = .ok (.iconst 0, 1) := dk_3 (dk_at dksX9_send_1 6 rfl rfl)
theorem dX9_send_31 : decode cX9_send 31 = .ok (.iaload, 1) := dk_46 (dk_at dksX9_send_1 7 rfl rfl)
theorem dX9_send_32 : decode cX9_send 32 = .ok (.if_icmp .ge 15, 3) := dk_162 0 15 (dk_at dksX9_send_1 8 rfl rfl)
theorem dX9_send_35 : decode cX9_send 35 = .ok (.lload_n 2, 1) := dk_32 (dk_at dksX9_send_1 11 rfl rfl)
theorem dX9_send_36 : decode cX9_send 36 = .ok (.ldc2_w 189, 3) := dk_20 0 189 (dk_at dksX9_send_1 12 rfl rfl)
theorem dX9_send_39 : decode cX9_send 39 = .ok (.lmul, 1) := dk_105 (dk_at dksX9_send_1 15 rfl rfl)
theorem dX9_send_40 : decode cX9_send 40 = .ok (.lstore_n 2, 1) := dk_65 (dk_at dksX9_send_1 16 rfl rfl)
theorem dX9_send_41 : decode cX9_send 41 = .ok (.iinc 4 1, 3) := dk_132 4 1 (dk_at dksX9_send_1 17 rfl rfl)
theorem dX9_send_44 : decode cX9_send 44 = .ok (.goto (-20), 3) := dk_167 255 236 (dk_at dksX9_send_1 20 rfl rfl)
theorem dX9_send_47 : decode cX9_send 47 = .ok (.iconst (-1), 1) := dk_2 (dk_at dksX9_send_1 23 rfl rfl)
theorem dX9_send_48 : decode cX9_send 48 = .ok (.istore 4, 2) := dk_54 4 (dk_at dksX9_send_2 0 rfl rfl)
theorem dX9_send_50 : decode cX9_send 50 = .ok (.lconst 0, 1) := dk_9 (dk_at dksX9_send_2 2 rfl rfl)
theorem dX9_send_51 : decode cX9_send 51 = .ok (.lstore 5, 2) := dk_55 5 (dk_at dksX9_send_2 3 rfl rfl)
theorem dX9_send_53 : decode cX9_send 53 = .ok (.iconst 0, 1) := dk_3 (dk_at dksX9_send_2 5 rfl rfl)
theorem dX9_send_54 : decode cX9_send 54 = .ok (.istore 7, 2) := dk_54 7 (dk_at dksX9_send_2 6 rfl rfl)
theorem dX9_send_56 : decode cX9_send 56 = .ok (.iload 7, 2) := dk_21 7 (dk_at dksX9_send_2 8 rfl rfl)
theorem dX9_send_58 : decode cX9_send 58 = .ok (.aload_n 0, 1) := dk_42 (dk_at dksX9_send_2 10 rfl rfl)
theorem dX9_send_59 : decode cX9_send 59 = .ok (.invokevirtual 460, 3) := dk_182 1 204 (dk_at dksX9_send_2 11 rfl rfl)
theorem dX9_send_62 : decode cX9_send 62 = .ok (.if_icmp .gt 109, 3) := dk_163 0 109 (dk_at dksX9_send_2 14 rfl rfl)
theorem dX9_send_65 : decode cX9_send 65 = .ok (.aload_n 0, 1) := dk_42 (dk_at dksX9_send_2 17 rfl rfl)
theorem dX9_send_66 : decode cX9_send 66 = .ok (.iload 7, 2) := dk_21 7 (dk_at dksX9_send_2 18 rfl rfl)
theorem dX9_send_68 : decode cX9_send 68 = .ok (.invokevirtual 466, 3) := dk_182 1 210 (dk_at dksX9_send_2 20 rfl rfl)
theorem dX9_send_71 : decode cX9_send 71 = .ok (.lstore 8, 2) := dk_55 8 (dk_at dksX9_send_3 0 rfl rfl)
theorem dX9_send_73 : decode cX9_send 73 = .ok (.iload 4, 2) := dk_21 4 (dk_at dksX9_send_3 2 rfl rfl)
theorem dX9_send_75 : decode cX9_send 75 = .ok (.iconst (-1), 1) := dk_2 (dk_at dksX9_send_3 4 rfl rfl)
theorem dX9_send_76 : decode cX9_send 76 = .ok (.if_icmp .eq 16, 3) := dk_159 0 16 (dk_at dksX9_send_3 5 rfl rfl)
theorem dX9_send_79 : decode cX9_send 79 = .ok (.iload 7, 2) := dk_21 7 (dk_at dksX9_send_3 8 rfl rfl)
theorem dX9_send_81 : decode cX9_send 81 = .ok (.invokestatic 379, 3) := dk_184 1 123 (dk_at dksX9_send_3 10 rfl rfl)
theorem dX9_send_84 : decode cX9_send 84 = .ok (.iload 4, 2) := dk_21 4 (dk_at dksX9_send_3 13 rfl rfl)
theorem dX9_send_86 : decode cX9_send 86 = .ok (.invokestatic 379, 3) := dk_184 1 123 (dk_at dksX9_send_3 15 rfl rfl)
theorem dX9_send_89 : decode cX9_send 89 = .ok (.if_icmp .ge 7, 3) := dk_162 0 7 (dk_at dksX9_send_3 18 rfl rfl)
theorem dX9_send_92 : decode cX9_send 92 = .ok (.iconst 1, 1) := dk_4 (dk_at dksX9_send_3 21 rfl rfl)
theorem dX9_send_93 : decode cX9_send 93 = .ok (.goto 4, 3) := dk_167 0 4 (dk_at dksX9_send_4 0 rfl rfl)
theorem dX9_send_96 : decode cX9_send 96 = .ok (.iconst 0, 1) := dk_3 (dk_at dksX9_send_4 3 rfl rfl)
theorem dX9_send_97 : decode cX9_send 97 = .ok (.istore 10, 2) := dk_54 10 (dk_at dksX9_send_4 4 rfl rfl)
theorem dX9_send_99 : decode cX9_send 99 = .ok (.iload 4, 2) := dk_21 4 (dk_at dksX9_send_4 6 rfl rfl)
theorem dX9_send_101 : decode cX9_send 101 = .ok (.iconst (-1), 1) := dk_2 (dk_at dksX9_send_4 8 rfl rfl)
theorem dX9_send_102 : decode cX9_send 102 = .ok (.if_icmp .eq 28, 3) := dk_159 0 28 (dk_at dksX9_send_4 9 rfl rfl)
theorem dX9_send_105 : decode cX9_send 105 = .ok (.iload 7, 2) := dk_21 7 (dk_at dksX9_send_4 12 rfl rfl)
theorem dX9_send_107 : decode cX9_send 107 = .ok (.invokestatic 379, 3) := dk_184 1 123 (dk_at dksX9_send_4 14 rfl rfl)
theorem dX9_send_110 : decode cX9_send 110 = .ok (.iload 4, 2) := dk_21 4 (dk_at dksX9_send_4 17 rfl rfl)
theorem dX9_send_112 : decode cX9_send 112 = .ok (.invokestatic 379, 3) := dk_184 1 123 (dk_at dksX9_send_4 19 rfl rfl)
theorem dX9_send_115 : decode cX9_send 115 = .ok (.if_icmp .ne 15, 3) := dk_160 0 15 (dk_at dksX9_send_5 0 rfl rfl)
theorem dX9_send_118 : decode cX9_send 118 = .ok (.lload 8, 2) := dk_22 8 (dk_at dksX9_send_5 3 rfl rfl)
theorem dX9_send_120 : decode cX9_send 120 = .ok (.lload 5, 2) := dk_22 5 (dk_at dksX9_send_5 5 rfl rfl)
theorem dX9_send_122 : decode cX9_send 122 = .ok (.lcmp, 1) := dk_148 (dk_at dksX9_send_5 7 rfl rfl)
theorem dX9_send_123 : decode cX9_send 123 = .ok (.ifCond .le 7, 3) := dk_158 0 7 (dk_at dksX9_send_5 8 rfl rfl)
theorem dX9_send_126 : decode cX9_send 126 = .ok (.iconst 1, 1) := dk_4 (dk_at dksX9_send_5 11 rfl rfl)
theorem dX9_send_127 : decode cX9_send 127 = .ok (.goto 4, 3) := dk_167 0 4 (dk_at dksX9_send_5 12 rfl rfl)
theorem dX9_send_130 : decode cX9_send 130 = .ok (.iconst 0, 1) := dk_3 (dk_at dksX9_send_5 15 rfl rfl)
theorem dX9_send_131 : decode cX9_send 131 = .ok (.istore 11, 2) := dk_54 11 (dk_at dksX9_send_5 16 rfl rfl)
theorem dX9_send_133 : decode cX9_send 133 = .ok (.lload 8, 2) := dk_22 8 (dk_at dksX9_send_5 18 rfl rfl)
theorem dX9_send_135 : decode cX9_send 135 = .ok (.ldc2_w 189, 3) := dk_20 0 189 (dk_at dksX9_send_5 20 rfl rfl)
theorem dX9_send_138 : decode cX9_send 138 = .ok (.lmul, 1) := dk_105 (dk_at dksX9_send_5 23 rfl rfl)
theorem dX9_send_139 : decode cX9_send 139 = .ok (.iload_n 1, 1) := dk_27 (dk_at dksX9_send_6 0 rfl rfl)
theorem dX9_send_140 : decode cX9_send 140 = .ok (.i2l, 1) := dk_133 (dk_at dksX9_send_6 1 rfl rfl)
theorem dX9_send_141 : decode cX9_send 141 = .ok (.lload_n 2, 1) := dk_32 (dk_at dksX9_send_6 2 rfl rfl)
theorem dX9_send_142 : decode cX9_send 142 = .ok (.lmul, 1) := dk_105 (dk_at dksX9_send_6 3 rfl rfl)
theorem dX9_send_143 : decode cX9_send 143 = .ok (.lcmp, 1) := dk_148 (dk_at dksX9_send_6 4 rfl rfl)
theorem dX9_send_144 : decode cX9_send 144 = .ok (.ifCond .lt 21, 3) := dk_155 0 21 (dk_at dksX9_send_6 5 rfl rfl)
theorem dX9_send_147 : decode cX9_send 147 = .ok (.iload 10, 2) := dk_21 10 (dk_at dksX9_send_6 8 rfl rfl)
theorem dX9_send_149 : decode cX9_send 149 = .ok (.ifCond .ne 8, 3) := dk_154 0 8 (dk_at dksX9_send_6 10 rfl rfl)
theorem dX9_send_152 : decode cX9_send 152 = .ok (.iload 11, 2) := dk_21 11 (dk_at dksX9_send_6 13 rfl rfl)
theorem dX9_send_154 : decode cX9_send 154 = .ok (.ifCond .eq 11, 3) := dk_153 0 11 (dk_at dksX9_send_6 15 rfl rfl)
theorem dX9_send_157 : decode cX9_send 157 = .ok (.iload 7, 2) := dk_21 7 (dk_at dksX9_send_6 18 rfl rfl)
theorem dX9_send_159 : decode cX9_send 159 = .ok (.istore 4, 2) := dk_54 4 (dk_at dksX9_send_6 20 rfl rfl)
theorem dX9_send_161 : decode cX9_send 161 = .ok (.lload 8, 2) := dk_22 8 (dk_at dksX9_send_6 22 rfl rfl)
theorem dX9_send_163 : decode cX9_send 163 = .ok (.lstore 5, 2) := dk_55 5 (dk_at dksX9_send_7 0 rfl rfl)
theorem dX9_send_165 : decode cX9_send 165 = .ok (.iinc 7 1, 3) := dk_132 7 1 (dk_at dksX9_send_7 2 rfl rfl)
theorem dX9_send_168 : decode cX9_send 168 = .ok (.goto (-112), 3) := dk_167 255 144 (dk_at dksX9_send_7 5 rfl rfl)
theorem dX9_send_171 : decode cX9_send 171 = .ok (.iload 4, 2) := dk_21 4 (dk_at dksX9_send_7 8 rfl rfl)
theorem dX9_send_173 : decode cX9_send 173 = .ok (.ireturn, 1) := dk_172 (dk_at dksX9_send_7 10 rfl rfl)
abbrev cX9_shells : ByteArray := prog_23_method_95_code
def yX9_shells : MethodName := ⟨RX9, "shells", "(III)I"⟩
def dkwX9_shells_3 : List UInt8 := [184, 0, 160, 153, 0, 12, 42, 180, 0, 129, 29, 46, 167, 0, 4, 2, 172]
abbrev dktX9_shells_3 : List UInt8 := dkwX9_shells_3 ++ []
def dkwX9_shells_2 : List UInt8 := [132, 4, 1, 167, 255, 242, 29, 2, 160, 0, 8, 21, 4, 167, 0, 27, 29, 133, 9, 21, 4, 133, 10, 101]
abbrev dktX9_shells_2 : List UInt8 := dkwX9_shells_2 ++ dktX9_shells_3
def dkwX9_shells_1 : List UInt8 := [184, 0, 160, 154, 0, 5, 2, 172, 27, 28, 96, 54, 4, 42, 21, 4, 27, 28, 182, 1, 220, 154, 0, 9]
abbrev dktX9_shells_1 : List UInt8 := dkwX9_shells_1 ++ dktX9_shells_2
def dkwX9_shells_0 : List UInt8 := [42, 3, 181, 0, 150, 27, 133, 10, 20, 1, 218, 184, 0, 160, 153, 0, 15, 28, 133, 9, 20, 1, 156]
abbrev dktX9_shells_0 : List UInt8 := dkwX9_shells_0 ++ dktX9_shells_1
theorem dksX9_shells_0 : cX9_shells.data.toList.drop 0 = dktX9_shells_0 := by decide +kernel
theorem dksX9_shells_1 : cX9_shells.data.toList.drop 23 = dktX9_shells_1 := dk_seg dksX9_shells_0 23 rfl rfl
theorem dksX9_shells_2 : cX9_shells.data.toList.drop 47 = dktX9_shells_2 := dk_seg dksX9_shells_1 24 rfl rfl
theorem dksX9_shells_3 : cX9_shells.data.toList.drop 71 = dktX9_shells_3 := dk_seg dksX9_shells_2 24 rfl rfl
theorem dX9_shells_0 : decode cX9_shells 0 = .ok (.aload_n 0, 1) := dk_42 (dk_at dksX9_shells_0 0 rfl rfl)
theorem dX9_shells_1 : decode cX9_shells 1 = .ok (.iconst 0, 1) := dk_3 (dk_at dksX9_shells_0 1 rfl rfl)
theorem dX9_shells_2 : decode cX9_shells 2 = .ok (.putfield 150, 3) := dk_181 0 150 (dk_at dksX9_shells_0 2 rfl rfl)
theorem dX9_shells_5 : decode cX9_shells 5 = .ok (.iload_n 1, 1) := dk_27 (dk_at dksX9_shells_0 5 rfl rfl)
theorem dX9_shells_6 : decode cX9_shells 6 = .ok (.i2l, 1) := dk_133 (dk_at dksX9_shells_0 6 rfl rfl)
theorem dX9_shells_7 : decode cX9_shells 7 = .ok (.lconst 1, 1) := dk_10 (dk_at dksX9_shells_0 7 rfl rfl)
theorem dX9_shells_8 : decode cX9_shells 8 = .ok (.ldc2_w 474, 3) := dk_20 1 218 (dk_at dksX9_shells_0 8 rfl rfl)
theorem dX9_shells_11 : decode cX9_shells 11 = .ok (.invokestatic 160, 3) := dk_184 0 160 (dk_at dksX9_shells_0 11 rfl rfl)
theorem dX9_shells_14 : decode cX9_shells 14 = .ok (.ifCond .eq 15, 3) := dk_153 0 15 (dk_at dksX9_shells_0 14 rfl rfl)
theorem dX9_shells_17 : decode cX9_shells 17 = .ok (.iload_n 2, 1) := dk_28 (dk_at dksX9_shells_0 17 rfl rfl)
theorem dX9_shells_18 : decode cX9_shells 18 = .ok (.i2l, 1) := dk_133 (dk_at dksX9_shells_0 18 rfl rfl)
theorem dX9_shells_19 : decode cX9_shells 19 = .ok (.lconst 0, 1) := dk_9 (dk_at dksX9_shells_0 19 rfl rfl)
theorem dX9_shells_20 : decode cX9_shells 20 = .ok (.ldc2_w 412, 3) := dk_20 1 156 (dk_at dksX9_shells_0 20 rfl rfl)
theorem dX9_shells_23 : decode cX9_shells 23 = .ok (.invokestatic 160, 3) := dk_184 0 160 (dk_at dksX9_shells_1 0 rfl rfl)
theorem dX9_shells_26 : decode cX9_shells 26 = .ok (.ifCond .ne 5, 3) := dk_154 0 5 (dk_at dksX9_shells_1 3 rfl rfl)
theorem dX9_shells_29 : decode cX9_shells 29 = .ok (.iconst (-1), 1) := dk_2 (dk_at dksX9_shells_1 6 rfl rfl)
theorem dX9_shells_30 : decode cX9_shells 30 = .ok (.ireturn, 1) := dk_172 (dk_at dksX9_shells_1 7 rfl rfl)
theorem dX9_shells_31 : decode cX9_shells 31 = .ok (.iload_n 1, 1) := dk_27 (dk_at dksX9_shells_1 8 rfl rfl)
theorem dX9_shells_32 : decode cX9_shells 32 = .ok (.iload_n 2, 1) := dk_28 (dk_at dksX9_shells_1 9 rfl rfl)
theorem dX9_shells_33 : decode cX9_shells 33 = .ok (.iadd, 1) := dk_96 (dk_at dksX9_shells_1 10 rfl rfl)
theorem dX9_shells_34 : decode cX9_shells 34 = .ok (.istore 4, 2) := dk_54 4 (dk_at dksX9_shells_1 11 rfl rfl)
theorem dX9_shells_36 : decode cX9_shells 36 = .ok (.aload_n 0, 1) := dk_42 (dk_at dksX9_shells_1 13 rfl rfl)
theorem dX9_shells_37 : decode cX9_shells 37 = .ok (.iload 4, 2) := dk_21 4 (dk_at dksX9_shells_1 14 rfl rfl)
theorem dX9_shells_39 : decode cX9_shells 39 = .ok (.iload_n 1, 1) := dk_27 (dk_at dksX9_shells_1 16 rfl rfl)
theorem dX9_shells_40 : decode cX9_shells 40 = .ok (.iload_n 2, 1) := dk_28 (dk_at dksX9_shells_1 17 rfl rfl)
theorem dX9_shells_41 : decode cX9_shells 41 = .ok (.invokevirtual 476, 3) := dk_182 1 220 (dk_at dksX9_shells_1 18 rfl rfl)
theorem dX9_shells_44 : decode cX9_shells 44 = .ok (.ifCond .ne 9, 3) := dk_154 0 9 (dk_at dksX9_shells_1 21 rfl rfl)
theorem dX9_shells_47 : decode cX9_shells 47 = .ok (.iinc 4 1, 3) := dk_132 4 1 (dk_at dksX9_shells_2 0 rfl rfl)
theorem dX9_shells_50 : decode cX9_shells 50 = .ok (.goto (-14), 3) := dk_167 255 242 (dk_at dksX9_shells_2 3 rfl rfl)
theorem dX9_shells_53 : decode cX9_shells 53 = .ok (.iload_n 3, 1) := dk_29 (dk_at dksX9_shells_2 6 rfl rfl)
theorem dX9_shells_54 : decode cX9_shells 54 = .ok (.iconst (-1), 1) := dk_2 (dk_at dksX9_shells_2 7 rfl rfl)
theorem dX9_shells_55 : decode cX9_shells 55 = .ok (.if_icmp .ne 8, 3) := dk_160 0 8 (dk_at dksX9_shells_2 8 rfl rfl)
theorem dX9_shells_58 : decode cX9_shells 58 = .ok (.iload 4, 2) := dk_21 4 (dk_at dksX9_shells_2 11 rfl rfl)
theorem dX9_shells_60 : decode cX9_shells 60 = .ok (.goto 27, 3) := dk_167 0 27 (dk_at dksX9_shells_2 13 rfl rfl)
theorem dX9_shells_63 : decode cX9_shells 63 = .ok (.iload_n 3, 1) := dk_29 (dk_at dksX9_shells_2 16 rfl rfl)
theorem dX9_shells_64 : decode cX9_shells 64 = .ok (.i2l, 1) := dk_133 (dk_at dksX9_shells_2 17 rfl rfl)
theorem dX9_shells_65 : decode cX9_shells 65 = .ok (.lconst 0, 1) := dk_9 (dk_at dksX9_shells_2 18 rfl rfl)
theorem dX9_shells_66 : decode cX9_shells 66 = .ok (.iload 4, 2) := dk_21 4 (dk_at dksX9_shells_2 19 rfl rfl)
theorem dX9_shells_68 : decode cX9_shells 68 = .ok (.i2l, 1) := dk_133 (dk_at dksX9_shells_2 21 rfl rfl)
theorem dX9_shells_69 : decode cX9_shells 69 = .ok (.lconst 1, 1) := dk_10 (dk_at dksX9_shells_2 22 rfl rfl)
theorem dX9_shells_70 : decode cX9_shells 70 = .ok (.lsub, 1) := dk_101 (dk_at dksX9_shells_2 23 rfl rfl)
theorem dX9_shells_71 : decode cX9_shells 71 = .ok (.invokestatic 160, 3) := dk_184 0 160 (dk_at dksX9_shells_3 0 rfl rfl)
theorem dX9_shells_74 : decode cX9_shells 74 = .ok (.ifCond .eq 12, 3) := dk_153 0 12 (dk_at dksX9_shells_3 3 rfl rfl)
theorem dX9_shells_77 : decode cX9_shells 77 = .ok (.aload_n 0, 1) := dk_42 (dk_at dksX9_shells_3 6 rfl rfl)
theorem dX9_shells_78 : decode cX9_shells 78 = .ok (.getfield 129, 3) := dk_180 0 129 (dk_at dksX9_shells_3 7 rfl rfl)
theorem dX9_shells_81 : decode cX9_shells 81 = .ok (.iload_n 3, 1) := dk_29 (dk_at dksX9_shells_3 10 rfl rfl)
theorem dX9_shells_82 : decode cX9_shells 82 = .ok (.iaload, 1) := dk_46 (dk_at dksX9_shells_3 11 rfl rfl)
theorem dX9_shells_83 : decode cX9_shells 83 = .ok (.goto 4, 3) := dk_167 0 4 (dk_at dksX9_shells_3 12 rfl rfl)
theorem dX9_shells_86 : decode cX9_shells 86 = .ok (.iconst (-1), 1) := dk_2 (dk_at dksX9_shells_3 15 rfl rfl)
theorem dX9_shells_87 : decode cX9_shells 87 = .ok (.ireturn, 1) := dk_172 (dk_at dksX9_shells_3 16 rfl rfl)
abbrev cX9_findShells : ByteArray := prog_23_method_94_code
def yX9_findShells : MethodName := ⟨RX9, "findShells", "(III)Z"⟩
def dkwX9_findShells_4 : List UInt8 := [27, 162, 0, 18, 42, 180, 0, 129, 21, 7, 21, 6, 79, 132, 7, 1, 167, 255, 238, 167, 255, 173]
abbrev dktX9_findShells_4 : List UInt8 := dkwX9_findShells_4 ++ []
def dkwX9_findShells_3 : List UInt8 := [21, 5, 156, 0, 5, 3, 172, 42, 180, 0, 129, 21, 5, 46, 4, 96, 54, 6, 21, 5, 54, 7, 21, 7]
abbrev dktX9_findShells_3 : List UInt8 := dkwX9_findShells_3 ++ dktX9_findShells_4
def dkwX9_findShells_2 : List UInt8 := [21, 5, 155, 0, 21, 42, 180, 0, 129, 21, 5, 46, 21, 4, 160, 0, 9, 132, 5, 255, 167, 255, 236]
abbrev dktX9_findShells_2 : List UInt8 := dkwX9_findShells_2 ++ dktX9_findShells_3
def dkwX9_findShells_1 : List UInt8 := [132, 5, 1, 167, 255, 239, 42, 27, 28, 29, 182, 1, 214, 153, 0, 5, 4, 172, 27, 4, 100, 54, 5]
abbrev dktX9_findShells_1 : List UInt8 := dkwX9_findShells_1 ++ dktX9_findShells_2
def dkwX9_findShells_0 : List UInt8 := [4, 28, 120, 4, 100, 54, 4, 3, 54, 5, 21, 5, 27, 162, 0, 17, 42, 180, 0, 129, 21, 5, 4, 79]
abbrev dktX9_findShells_0 : List UInt8 := dkwX9_findShells_0 ++ dktX9_findShells_1
theorem dksX9_findShells_0 : cX9_findShells.data.toList.drop 0 = dktX9_findShells_0 := by decide +kernel
theorem dksX9_findShells_1 : cX9_findShells.data.toList.drop 24 = dktX9_findShells_1 := dk_seg dksX9_findShells_0 24 rfl rfl
theorem dksX9_findShells_2 : cX9_findShells.data.toList.drop 47 = dktX9_findShells_2 := dk_seg dksX9_findShells_1 23 rfl rfl
theorem dksX9_findShells_3 : cX9_findShells.data.toList.drop 70 = dktX9_findShells_3 := dk_seg dksX9_findShells_2 23 rfl rfl
theorem dksX9_findShells_4 : cX9_findShells.data.toList.drop 94 = dktX9_findShells_4 := dk_seg dksX9_findShells_3 24 rfl rfl
theorem dX9_findShells_0 : decode cX9_findShells 0 = .ok (.iconst 1, 1) := dk_4 (dk_at dksX9_findShells_0 0 rfl rfl)
theorem dX9_findShells_1 : decode cX9_findShells 1 = .ok (.iload_n 2, 1) := dk_28 (dk_at dksX9_findShells_0 1 rfl rfl)
theorem dX9_findShells_2 : decode cX9_findShells 2 = .ok (.ishl, 1) := dk_120 (dk_at dksX9_findShells_0 2 rfl rfl)
theorem dX9_findShells_3 : decode cX9_findShells 3 = .ok (.iconst 1, 1) := dk_4 (dk_at dksX9_findShells_0 3 rfl rfl)
theorem dX9_findShells_4 : decode cX9_findShells 4 = .ok (.isub, 1) := dk_100 (dk_at dksX9_findShells_0 4 rfl rfl)
theorem dX9_findShells_5 : decode cX9_findShells 5 = .ok (.istore 4, 2) := dk_54 4 (dk_at dksX9_findShells_0 5 rfl rfl)
theorem dX9_findShells_7 : decode cX9_findShells 7 = .ok (.iconst 0, 1) := dk_3 (dk_at dksX9_findShells_0 7 rfl rfl)
theorem dX9_findShells_8 : decode cX9_findShells 8 = .ok (.istore 5, 2) := dk_54 5 (dk_at dksX9_findShells_0 8 rfl rfl)
theorem dX9_findShells_10 : decode cX9_findShells 10 = .ok (.iload 5, 2) := dk_21 5 (dk_at dksX9_findShells_0 10 rfl rfl)
theorem dX9_findShells_12 : decode cX9_findShells 12 = .ok (.iload_n 1, 1) := dk_27 (dk_at dksX9_findShells_0 12 rfl rfl)
theorem dX9_findShells_13 : decode cX9_findShells 13 = .ok (.if_icmp .ge 17, 3) := dk_162 0 17 (dk_at dksX9_findShells_0 13 rfl rfl)
theorem dX9_findShells_16 : decode cX9_findShells 16 = .ok (.aload_n 0, 1) := dk_42 (dk_at dksX9_findShells_0 16 rfl rfl)
theorem dX9_findShells_17 : decode cX9_findShells 17 = .ok (.getfield 129, 3) := dk_180 0 129 (dk_at dksX9_findShells_0 17 rfl rfl)
theorem dX9_findShells_20 : decode cX9_findShells 20 = .ok (.iload 5, 2) := dk_21 5 (dk_at dksX9_findShells_0 20 rfl rfl)
theorem dX9_findShells_22 : decode cX9_findShells 22 = .ok (.iconst 1, 1) := dk_4 (dk_at dksX9_findShells_0 22 rfl rfl)
theorem dX9_findShells_23 : decode cX9_findShells 23 = .ok (.iastore, 1) := dk_79 (dk_at dksX9_findShells_0 23 rfl rfl)
theorem dX9_findShells_24 : decode cX9_findShells 24 = .ok (.iinc 5 1, 3) := dk_132 5 1 (dk_at dksX9_findShells_1 0 rfl rfl)
theorem dX9_findShells_27 : decode cX9_findShells 27 = .ok (.goto (-17), 3) := dk_167 255 239 (dk_at dksX9_findShells_1 3 rfl rfl)
theorem dX9_findShells_30 : decode cX9_findShells 30 = .ok (.aload_n 0, 1) := dk_42 (dk_at dksX9_findShells_1 6 rfl rfl)
theorem dX9_findShells_31 : decode cX9_findShells 31 = .ok (.iload_n 1, 1) := dk_27 (dk_at dksX9_findShells_1 7 rfl rfl)
theorem dX9_findShells_32 : decode cX9_findShells 32 = .ok (.iload_n 2, 1) := dk_28 (dk_at dksX9_findShells_1 8 rfl rfl)
theorem dX9_findShells_33 : decode cX9_findShells 33 = .ok (.iload_n 3, 1) := dk_29 (dk_at dksX9_findShells_1 9 rfl rfl)
theorem dX9_findShells_34 : decode cX9_findShells 34 = .ok (.invokevirtual 470, 3) := dk_182 1 214 (dk_at dksX9_findShells_1 10 rfl rfl)
theorem dX9_findShells_37 : decode cX9_findShells 37 = .ok (.ifCond .eq 5, 3) := dk_153 0 5 (dk_at dksX9_findShells_1 13 rfl rfl)
theorem dX9_findShells_40 : decode cX9_findShells 40 = .ok (.iconst 1, 1) := dk_4 (dk_at dksX9_findShells_1 16 rfl rfl)
theorem dX9_findShells_41 : decode cX9_findShells 41 = .ok (.ireturn, 1) := dk_172 (dk_at dksX9_findShells_1 17 rfl rfl)
theorem dX9_findShells_42 : decode cX9_findShells 42 = .ok (.iload_n 1, 1) := dk_27 (dk_at dksX9_findShells_1 18 rfl rfl)
theorem dX9_findShells_43 : decode cX9_findShells 43 = .ok (.iconst 1, 1) := dk_4 (dk_at dksX9_findShells_1 19 rfl rfl)
theorem dX9_findShells_44 : decode cX9_findShells 44 = .ok (.isub, 1) := dk_100 (dk_at dksX9_findShells_1 20 rfl rfl)
theorem dX9_findShells_45 : decode cX9_findShells 45 = .ok (.istore 5, 2) := dk_54 5 (dk_at dksX9_findShells_1 21 rfl rfl)
theorem dX9_findShells_47 : decode cX9_findShells 47 = .ok (.iload 5, 2) := dk_21 5 (dk_at dksX9_findShells_2 0 rfl rfl)
theorem dX9_findShells_49 : decode cX9_findShells 49 = .ok (.ifCond .lt 21, 3) := dk_155 0 21 (dk_at dksX9_findShells_2 2 rfl rfl)
theorem dX9_findShells_52 : decode cX9_findShells 52 = .ok (.aload_n 0, 1) := dk_42 (dk_at dksX9_findShells_2 5 rfl rfl)
theorem dX9_findShells_53 : decode cX9_findShells 53 = .ok (.getfield 129, 3) := dk_180 0 129 (dk_at dksX9_findShells_2 6 rfl rfl)
theorem dX9_findShells_56 : decode cX9_findShells 56 = .ok (.iload 5, 2) := dk_21 5 (dk_at dksX9_findShells_2 9 rfl rfl)
theorem dX9_findShells_58 : decode cX9_findShells 58 = .ok (.iaload, 1) := dk_46 (dk_at dksX9_findShells_2 11 rfl rfl)
theorem dX9_findShells_59 : decode cX9_findShells 59 = .ok (.iload 4, 2) := dk_21 4 (dk_at dksX9_findShells_2 12 rfl rfl)
theorem dX9_findShells_61 : decode cX9_findShells 61 = .ok (.if_icmp .ne 9, 3) := dk_160 0 9 (dk_at dksX9_findShells_2 14 rfl rfl)
theorem dX9_findShells_64 : decode cX9_findShells 64 = .ok (.iinc 5 (-1), 3) := dk_132 5 255 (dk_at dksX9_findShells_2 17 rfl rfl)
theorem dX9_findShells_67 : decode cX9_findShells 67 = .ok (.goto (-20), 3) := dk_167 255 236 (dk_at dksX9_findShells_2 20 rfl rfl)
theorem dX9_findShells_70 : decode cX9_findShells 70 = .ok (.iload 5, 2) := dk_21 5 (dk_at dksX9_findShells_3 0 rfl rfl)
theorem dX9_findShells_72 : decode cX9_findShells 72 = .ok (.ifCond .ge 5, 3) := dk_156 0 5 (dk_at dksX9_findShells_3 2 rfl rfl)
theorem dX9_findShells_75 : decode cX9_findShells 75 = .ok (.iconst 0, 1) := dk_3 (dk_at dksX9_findShells_3 5 rfl rfl)
theorem dX9_findShells_76 : decode cX9_findShells 76 = .ok (.ireturn, 1) := dk_172 (dk_at dksX9_findShells_3 6 rfl rfl)
theorem dX9_findShells_77 : decode cX9_findShells 77 = .ok (.aload_n 0, 1) := dk_42 (dk_at dksX9_findShells_3 7 rfl rfl)
theorem dX9_findShells_78 : decode cX9_findShells 78 = .ok (.getfield 129, 3) := dk_180 0 129 (dk_at dksX9_findShells_3 8 rfl rfl)
theorem dX9_findShells_81 : decode cX9_findShells 81 = .ok (.iload 5, 2) := dk_21 5 (dk_at dksX9_findShells_3 11 rfl rfl)
theorem dX9_findShells_83 : decode cX9_findShells 83 = .ok (.iaload, 1) := dk_46 (dk_at dksX9_findShells_3 13 rfl rfl)
theorem dX9_findShells_84 : decode cX9_findShells 84 = .ok (.iconst 1, 1) := dk_4 (dk_at dksX9_findShells_3 14 rfl rfl)
theorem dX9_findShells_85 : decode cX9_findShells 85 = .ok (.iadd, 1) := dk_96 (dk_at dksX9_findShells_3 15 rfl rfl)
theorem dX9_findShells_86 : decode cX9_findShells 86 = .ok (.istore 6, 2) := dk_54 6 (dk_at dksX9_findShells_3 16 rfl rfl)
theorem dX9_findShells_88 : decode cX9_findShells 88 = .ok (.iload 5, 2) := dk_21 5 (dk_at dksX9_findShells_3 18 rfl rfl)
theorem dX9_findShells_90 : decode cX9_findShells 90 = .ok (.istore 7, 2) := dk_54 7 (dk_at dksX9_findShells_3 20 rfl rfl)
theorem dX9_findShells_92 : decode cX9_findShells 92 = .ok (.iload 7, 2) := dk_21 7 (dk_at dksX9_findShells_3 22 rfl rfl)
theorem dX9_findShells_94 : decode cX9_findShells 94 = .ok (.iload_n 1, 1) := dk_27 (dk_at dksX9_findShells_4 0 rfl rfl)
theorem dX9_findShells_95 : decode cX9_findShells 95 = .ok (.if_icmp .ge 18, 3) := dk_162 0 18 (dk_at dksX9_findShells_4 1 rfl rfl)
theorem dX9_findShells_98 : decode cX9_findShells 98 = .ok (.aload_n 0, 1) := dk_42 (dk_at dksX9_findShells_4 4 rfl rfl)
theorem dX9_findShells_99 : decode cX9_findShells 99 = .ok (.getfield 129, 3) := dk_180 0 129 (dk_at dksX9_findShells_4 5 rfl rfl)
theorem dX9_findShells_102 : decode cX9_findShells 102 = .ok (.iload 7, 2) := dk_21 7 (dk_at dksX9_findShells_4 8 rfl rfl)
theorem dX9_findShells_104 : decode cX9_findShells 104 = .ok (.iload 6, 2) := dk_21 6 (dk_at dksX9_findShells_4 10 rfl rfl)
theorem dX9_findShells_106 : decode cX9_findShells 106 = .ok (.iastore, 1) := dk_79 (dk_at dksX9_findShells_4 12 rfl rfl)
theorem dX9_findShells_107 : decode cX9_findShells 107 = .ok (.iinc 7 1, 3) := dk_132 7 1 (dk_at dksX9_findShells_4 13 rfl rfl)
theorem dX9_findShells_110 : decode cX9_findShells 110 = .ok (.goto (-18), 3) := dk_167 255 238 (dk_at dksX9_findShells_4 16 rfl rfl)
theorem dX9_findShells_113 : decode cX9_findShells 113 = .ok (.goto (-83), 3) := dk_167 255 173 (dk_at dksX9_findShells_4 19 rfl rfl)
abbrev cX9_areSafe : ByteArray := prog_23_method_93_code
def yX9_areSafe : MethodName := ⟨RX9, "areSafe", "(III)Z"⟩
def dkwX9_areSafe_4 : List UInt8 := [3, 172, 132, 4, 1, 167, 255, 159, 4, 172]
abbrev dktX9_areSafe_4 : List UInt8 := dkwX9_areSafe_4 ++ []
def dkwX9_areSafe_3 : List UInt8 := [42, 180, 0, 129, 21, 6, 46, 182, 1, 195, 132, 6, 1, 167, 255, 226, 42, 28, 182, 1, 198, 154, 0, 5]
abbrev dktX9_areSafe_3 : List UInt8 := dkwX9_areSafe_3 ++ dktX9_areSafe_4
def dkwX9_areSafe_2 : List UInt8 := [42, 182, 1, 192, 3, 54, 6, 21, 6, 27, 162, 0, 30, 21, 4, 21, 6, 184, 1, 179, 154, 0, 14, 42]
abbrev dktX9_areSafe_2 : List UInt8 := dkwX9_areSafe_2 ++ dktX9_areSafe_3
def dkwX9_areSafe_1 : List UInt8 := [21, 5, 21, 4, 21, 6, 122, 4, 126, 96, 54, 5, 132, 6, 1, 167, 255, 235, 21, 5, 29, 160, 0, 53]
abbrev dktX9_areSafe_1 : List UInt8 := dkwX9_areSafe_1 ++ dktX9_areSafe_2
def dkwX9_areSafe_0 : List UInt8 := [3, 54, 4, 21, 4, 4, 27, 120, 162, 0, 95, 3, 54, 5, 3, 54, 6, 21, 6, 27, 162, 0, 21]
abbrev dktX9_areSafe_0 : List UInt8 := dkwX9_areSafe_0 ++ dktX9_areSafe_1
theorem dksX9_areSafe_0 : cX9_areSafe.data.toList.drop 0 = dktX9_areSafe_0 := by decide +kernel
theorem dksX9_areSafe_1 : cX9_areSafe.data.toList.drop 23 = dktX9_areSafe_1 := dk_seg dksX9_areSafe_0 23 rfl rfl
theorem dksX9_areSafe_2 : cX9_areSafe.data.toList.drop 47 = dktX9_areSafe_2 := dk_seg dksX9_areSafe_1 24 rfl rfl
theorem dksX9_areSafe_3 : cX9_areSafe.data.toList.drop 71 = dktX9_areSafe_3 := dk_seg dksX9_areSafe_2 24 rfl rfl
theorem dksX9_areSafe_4 : cX9_areSafe.data.toList.drop 95 = dktX9_areSafe_4 := dk_seg dksX9_areSafe_3 24 rfl rfl
theorem dX9_areSafe_0 : decode cX9_areSafe 0 = .ok (.iconst 0, 1) := dk_3 (dk_at dksX9_areSafe_0 0 rfl rfl)
theorem dX9_areSafe_1 : decode cX9_areSafe 1 = .ok (.istore 4, 2) := dk_54 4 (dk_at dksX9_areSafe_0 1 rfl rfl)
theorem dX9_areSafe_3 : decode cX9_areSafe 3 = .ok (.iload 4, 2) := dk_21 4 (dk_at dksX9_areSafe_0 3 rfl rfl)
theorem dX9_areSafe_5 : decode cX9_areSafe 5 = .ok (.iconst 1, 1) := dk_4 (dk_at dksX9_areSafe_0 5 rfl rfl)
theorem dX9_areSafe_6 : decode cX9_areSafe 6 = .ok (.iload_n 1, 1) := dk_27 (dk_at dksX9_areSafe_0 6 rfl rfl)
theorem dX9_areSafe_7 : decode cX9_areSafe 7 = .ok (.ishl, 1) := dk_120 (dk_at dksX9_areSafe_0 7 rfl rfl)
theorem dX9_areSafe_8 : decode cX9_areSafe 8 = .ok (.if_icmp .ge 95, 3) := dk_162 0 95 (dk_at dksX9_areSafe_0 8 rfl rfl)
theorem dX9_areSafe_11 : decode cX9_areSafe 11 = .ok (.iconst 0, 1) := dk_3 (dk_at dksX9_areSafe_0 11 rfl rfl)
theorem dX9_areSafe_12 : decode cX9_areSafe 12 = .ok (.istore 5, 2) := dk_54 5 (dk_at dksX9_areSafe_0 12 rfl rfl)
theorem dX9_areSafe_14 : decode cX9_areSafe 14 = .ok (.iconst 0, 1) := dk_3 (dk_at dksX9_areSafe_0 14 rfl rfl)
theorem dX9_areSafe_15 : decode cX9_areSafe 15 = .ok (.istore 6, 2) := dk_54 6 (dk_at dksX9_areSafe_0 15 rfl rfl)
theorem dX9_areSafe_17 : decode cX9_areSafe 17 = .ok (.iload 6, 2) := dk_21 6 (dk_at dksX9_areSafe_0 17 rfl rfl)
theorem dX9_areSafe_19 : decode cX9_areSafe 19 = .ok (.iload_n 1, 1) := dk_27 (dk_at dksX9_areSafe_0 19 rfl rfl)
theorem dX9_areSafe_20 : decode cX9_areSafe 20 = .ok (.if_icmp .ge 21, 3) := dk_162 0 21 (dk_at dksX9_areSafe_0 20 rfl rfl)
theorem dX9_areSafe_23 : decode cX9_areSafe 23 = .ok (.iload 5, 2) := dk_21 5 (dk_at dksX9_areSafe_1 0 rfl rfl)
theorem dX9_areSafe_25 : decode cX9_areSafe 25 = .ok (.iload 4, 2) := dk_21 4 (dk_at dksX9_areSafe_1 2 rfl rfl)
theorem dX9_areSafe_27 : decode cX9_areSafe 27 = .ok (.iload 6, 2) := dk_21 6 (dk_at dksX9_areSafe_1 4 rfl rfl)
theorem dX9_areSafe_29 : decode cX9_areSafe 29 = .ok (.ishr, 1) := dk_122 (dk_at dksX9_areSafe_1 6 rfl rfl)
theorem dX9_areSafe_30 : decode cX9_areSafe 30 = .ok (.iconst 1, 1) := dk_4 (dk_at dksX9_areSafe_1 7 rfl rfl)
theorem dX9_areSafe_31 : decode cX9_areSafe 31 = .ok (.iand, 1) := dk_126 (dk_at dksX9_areSafe_1 8 rfl rfl)
theorem dX9_areSafe_32 : decode cX9_areSafe 32 = .ok (.iadd, 1) := dk_96 (dk_at dksX9_areSafe_1 9 rfl rfl)
theorem dX9_areSafe_33 : decode cX9_areSafe 33 = .ok (.istore 5, 2) := dk_54 5 (dk_at dksX9_areSafe_1 10 rfl rfl)
theorem dX9_areSafe_35 : decode cX9_areSafe 35 = .ok (.iinc 6 1, 3) := dk_132 6 1 (dk_at dksX9_areSafe_1 12 rfl rfl)
theorem dX9_areSafe_38 : decode cX9_areSafe 38 = .ok (.goto (-21), 3) := dk_167 255 235 (dk_at dksX9_areSafe_1 15 rfl rfl)
theorem dX9_areSafe_41 : decode cX9_areSafe 41 = .ok (.iload 5, 2) := dk_21 5 (dk_at dksX9_areSafe_1 18 rfl rfl)
theorem dX9_areSafe_43 : decode cX9_areSafe 43 = .ok (.iload_n 3, 1) := dk_29 (dk_at dksX9_areSafe_1 20 rfl rfl)
theorem dX9_areSafe_44 : decode cX9_areSafe 44 = .ok (.if_icmp .ne 53, 3) := dk_160 0 53 (dk_at dksX9_areSafe_1 21 rfl rfl)
theorem dX9_areSafe_47 : decode cX9_areSafe 47 = .ok (.aload_n 0, 1) := dk_42 (dk_at dksX9_areSafe_2 0 rfl rfl)
theorem dX9_areSafe_48 : decode cX9_areSafe 48 = .ok (.invokevirtual 448, 3) := dk_182 1 192 (dk_at dksX9_areSafe_2 1 rfl rfl)
theorem dX9_areSafe_51 : decode cX9_areSafe 51 = .ok (.iconst 0, 1) := dk_3 (dk_at dksX9_areSafe_2 4 rfl rfl)
theorem dX9_areSafe_52 : decode cX9_areSafe 52 = .ok (.istore 6, 2) := dk_54 6 (dk_at dksX9_areSafe_2 5 rfl rfl)
theorem dX9_areSafe_54 : decode cX9_areSafe 54 = .ok (.iload 6, 2) := dk_21 6 (dk_at dksX9_areSafe_2 7 rfl rfl)
theorem dX9_areSafe_56 : decode cX9_areSafe 56 = .ok (.iload_n 1, 1) := dk_27 (dk_at dksX9_areSafe_2 9 rfl rfl)
theorem dX9_areSafe_57 : decode cX9_areSafe 57 = .ok (.if_icmp .ge 30, 3) := dk_162 0 30 (dk_at dksX9_areSafe_2 10 rfl rfl)
theorem dX9_areSafe_60 : decode cX9_areSafe 60 = .ok (.iload 4, 2) := dk_21 4 (dk_at dksX9_areSafe_2 13 rfl rfl)
theorem dX9_areSafe_62 : decode cX9_areSafe 62 = .ok (.iload 6, 2) := dk_21 6 (dk_at dksX9_areSafe_2 15 rfl rfl)
theorem dX9_areSafe_64 : decode cX9_areSafe 64 = .ok (.invokestatic 435, 3) := dk_184 1 179 (dk_at dksX9_areSafe_2 17 rfl rfl)
theorem dX9_areSafe_67 : decode cX9_areSafe 67 = .ok (.ifCond .ne 14, 3) := dk_154 0 14 (dk_at dksX9_areSafe_2 20 rfl rfl)
theorem dX9_areSafe_70 : decode cX9_areSafe 70 = .ok (.aload_n 0, 1) := dk_42 (dk_at dksX9_areSafe_2 23 rfl rfl)
theorem dX9_areSafe_71 : decode cX9_areSafe 71 = .ok (.aload_n 0, 1) := dk_42 (dk_at dksX9_areSafe_3 0 rfl rfl)
theorem dX9_areSafe_72 : decode cX9_areSafe 72 = .ok (.getfield 129, 3) := dk_180 0 129 (dk_at dksX9_areSafe_3 1 rfl rfl)
theorem dX9_areSafe_75 : decode cX9_areSafe 75 = .ok (.iload 6, 2) := dk_21 6 (dk_at dksX9_areSafe_3 4 rfl rfl)
theorem dX9_areSafe_77 : decode cX9_areSafe 77 = .ok (.iaload, 1) := dk_46 (dk_at dksX9_areSafe_3 6 rfl rfl)
theorem dX9_areSafe_78 : decode cX9_areSafe 78 = .ok (.invokevirtual 451, 3) := dk_182 1 195 (dk_at dksX9_areSafe_3 7 rfl rfl)
theorem dX9_areSafe_81 : decode cX9_areSafe 81 = .ok (.iinc 6 1, 3) := dk_132 6 1 (dk_at dksX9_areSafe_3 10 rfl rfl)
theorem dX9_areSafe_84 : decode cX9_areSafe 84 = .ok (.goto (-30), 3) := dk_167 255 226 (dk_at dksX9_areSafe_3 13 rfl rfl)
theorem dX9_areSafe_87 : decode cX9_areSafe 87 = .ok (.aload_n 0, 1) := dk_42 (dk_at dksX9_areSafe_3 16 rfl rfl)
theorem dX9_areSafe_88 : decode cX9_areSafe 88 = .ok (.iload_n 2, 1) := dk_28 (dk_at dksX9_areSafe_3 17 rfl rfl)
theorem dX9_areSafe_89 : decode cX9_areSafe 89 = .ok (.invokevirtual 454, 3) := dk_182 1 198 (dk_at dksX9_areSafe_3 18 rfl rfl)
theorem dX9_areSafe_92 : decode cX9_areSafe 92 = .ok (.ifCond .ne 5, 3) := dk_154 0 5 (dk_at dksX9_areSafe_3 21 rfl rfl)
theorem dX9_areSafe_95 : decode cX9_areSafe 95 = .ok (.iconst 0, 1) := dk_3 (dk_at dksX9_areSafe_4 0 rfl rfl)
theorem dX9_areSafe_96 : decode cX9_areSafe 96 = .ok (.ireturn, 1) := dk_172 (dk_at dksX9_areSafe_4 1 rfl rfl)
theorem dX9_areSafe_97 : decode cX9_areSafe 97 = .ok (.iinc 4 1, 3) := dk_132 4 1 (dk_at dksX9_areSafe_4 2 rfl rfl)
theorem dX9_areSafe_100 : decode cX9_areSafe 100 = .ok (.goto (-97), 3) := dk_167 255 159 (dk_at dksX9_areSafe_4 5 rfl rfl)
theorem dX9_areSafe_103 : decode cX9_areSafe 103 = .ok (.iconst 1, 1) := dk_4 (dk_at dksX9_areSafe_4 8 rfl rfl)
theorem dX9_areSafe_104 : decode cX9_areSafe 104 = .ok (.ireturn, 1) := dk_172 (dk_at dksX9_areSafe_4 9 rfl rfl)
abbrev cX9_cross : ByteArray := prog_23_method_96_code
def yX9_cross : MethodName := ⟨RX9, "cross", "(II)I"⟩
def dkwX9_cross_5 : List UInt8 := [182, 0, 164, 172]
abbrev dktX9_cross_5 : List UInt8 := dkwX9_cross_5 ++ []
def dkwX9_cross_4 : List UInt8 := [5, 29, 104, 96, 4, 96, 28, 79, 42, 180, 0, 13, 7, 92, 46, 4, 96, 79, 42, 29, 4, 96]
abbrev dktX9_cross_4 : List UInt8 := dkwX9_cross_4 ++ dktX9_cross_5
def dkwX9_cross_3 : List UInt8 := [16, 251, 182, 0, 164, 172, 42, 180, 0, 13, 16, 52, 5, 29, 104, 96, 27, 79, 42, 180, 0, 13, 16, 52]
abbrev dktX9_cross_3 : List UInt8 := dkwX9_cross_3 ++ dktX9_cross_4
def dkwX9_cross_2 : List UInt8 := [167, 0, 5, 16, 254, 182, 0, 164, 172, 42, 180, 0, 13, 7, 46, 62, 29, 16, 12, 160, 0, 10, 42]
abbrev dktX9_cross_2 : List UInt8 := dkwX9_cross_2 ++ dktX9_cross_3
def dkwX9_cross_1 : List UInt8 := [42, 27, 182, 0, 197, 153, 0, 11, 42, 28, 182, 0, 197, 154, 0, 19, 42, 27, 28, 160, 0, 7, 2]
abbrev dktX9_cross_1 : List UInt8 := dkwX9_cross_1 ++ dktX9_cross_2
def dkwX9_cross_0 : List UInt8 := [42, 3, 181, 0, 150, 42, 27, 182, 0, 197, 153, 0, 14, 27, 28, 160, 0, 9, 42, 2, 182, 0, 164, 172]
abbrev dktX9_cross_0 : List UInt8 := dkwX9_cross_0 ++ dktX9_cross_1
theorem dksX9_cross_0 : cX9_cross.data.toList.drop 0 = dktX9_cross_0 := by decide +kernel
theorem dksX9_cross_1 : cX9_cross.data.toList.drop 24 = dktX9_cross_1 := dk_seg dksX9_cross_0 24 rfl rfl
theorem dksX9_cross_2 : cX9_cross.data.toList.drop 47 = dktX9_cross_2 := dk_seg dksX9_cross_1 23 rfl rfl
theorem dksX9_cross_3 : cX9_cross.data.toList.drop 70 = dktX9_cross_3 := dk_seg dksX9_cross_2 23 rfl rfl
theorem dksX9_cross_4 : cX9_cross.data.toList.drop 94 = dktX9_cross_4 := dk_seg dksX9_cross_3 24 rfl rfl
theorem dksX9_cross_5 : cX9_cross.data.toList.drop 116 = dktX9_cross_5 := dk_seg dksX9_cross_4 22 rfl rfl
theorem dX9_cross_0 : decode cX9_cross 0 = .ok (.aload_n 0, 1) := dk_42 (dk_at dksX9_cross_0 0 rfl rfl)
theorem dX9_cross_1 : decode cX9_cross 1 = .ok (.iconst 0, 1) := dk_3 (dk_at dksX9_cross_0 1 rfl rfl)
theorem dX9_cross_2 : decode cX9_cross 2 = .ok (.putfield 150, 3) := dk_181 0 150 (dk_at dksX9_cross_0 2 rfl rfl)
theorem dX9_cross_5 : decode cX9_cross 5 = .ok (.aload_n 0, 1) := dk_42 (dk_at dksX9_cross_0 5 rfl rfl)
theorem dX9_cross_6 : decode cX9_cross 6 = .ok (.iload_n 1, 1) := dk_27 (dk_at dksX9_cross_0 6 rfl rfl)
theorem dX9_cross_7 : decode cX9_cross 7 = .ok (.invokevirtual 197, 3) := dk_182 0 197 (dk_at dksX9_cross_0 7 rfl rfl)
theorem dX9_cross_10 : decode cX9_cross 10 = .ok (.ifCond .eq 14, 3) := dk_153 0 14 (dk_at dksX9_cross_0 10 rfl rfl)
theorem dX9_cross_13 : decode cX9_cross 13 = .ok (.iload_n 1, 1) := dk_27 (dk_at dksX9_cross_0 13 rfl rfl)
theorem dX9_cross_14 : decode cX9_cross 14 = .ok (.iload_n 2, 1) := dk_28 (dk_at dksX9_cross_0 14 rfl rfl)
theorem dX9_cross_15 : decode cX9_cross 15 = .ok (.if_icmp .ne 9, 3) := dk_160 0 9 (dk_at dksX9_cross_0 15 rfl rfl)
theorem dX9_cross_18 : decode cX9_cross 18 = .ok (.aload_n 0, 1) := dk_42 (dk_at dksX9_cross_0 18 rfl rfl)
theorem dX9_cross_19 : decode cX9_cross 19 = .ok (.iconst (-1), 1) := dk_2 (dk_at dksX9_cross_0 19 rfl rfl)
theorem dX9_cross_20 : decode cX9_cross 20 = .ok (.invokevirtual 164, 3) := dk_182 0 164 (dk_at dksX9_cross_0 20 rfl rfl)
theorem dX9_cross_23 : decode cX9_cross 23 = .ok (.ireturn, 1) := dk_172 (dk_at dksX9_cross_0 23 rfl rfl)
theorem dX9_cross_24 : decode cX9_cross 24 = .ok (.aload_n 0, 1) := dk_42 (dk_at dksX9_cross_1 0 rfl rfl)
theorem dX9_cross_25 : decode cX9_cross 25 = .ok (.iload_n 1, 1) := dk_27 (dk_at dksX9_cross_1 1 rfl rfl)
theorem dX9_cross_26 : decode cX9_cross 26 = .ok (.invokevirtual 197, 3) := dk_182 0 197 (dk_at dksX9_cross_1 2 rfl rfl)
theorem dX9_cross_29 : decode cX9_cross 29 = .ok (.ifCond .eq 11, 3) := dk_153 0 11 (dk_at dksX9_cross_1 5 rfl rfl)
theorem dX9_cross_32 : decode cX9_cross 32 = .ok (.aload_n 0, 1) := dk_42 (dk_at dksX9_cross_1 8 rfl rfl)
theorem dX9_cross_33 : decode cX9_cross 33 = .ok (.iload_n 2, 1) := dk_28 (dk_at dksX9_cross_1 9 rfl rfl)
theorem dX9_cross_34 : decode cX9_cross 34 = .ok (.invokevirtual 197, 3) := dk_182 0 197 (dk_at dksX9_cross_1 10 rfl rfl)
theorem dX9_cross_37 : decode cX9_cross 37 = .ok (.ifCond .ne 19, 3) := dk_154 0 19 (dk_at dksX9_cross_1 13 rfl rfl)
theorem dX9_cross_40 : decode cX9_cross 40 = .ok (.aload_n 0, 1) := dk_42 (dk_at dksX9_cross_1 16 rfl rfl)
theorem dX9_cross_41 : decode cX9_cross 41 = .ok (.iload_n 1, 1) := dk_27 (dk_at dksX9_cross_1 17 rfl rfl)
theorem dX9_cross_42 : decode cX9_cross 42 = .ok (.iload_n 2, 1) := dk_28 (dk_at dksX9_cross_1 18 rfl rfl)
theorem dX9_cross_43 : decode cX9_cross 43 = .ok (.if_icmp .ne 7, 3) := dk_160 0 7 (dk_at dksX9_cross_1 19 rfl rfl)
theorem dX9_cross_46 : decode cX9_cross 46 = .ok (.iconst (-1), 1) := dk_2 (dk_at dksX9_cross_1 22 rfl rfl)
theorem dX9_cross_47 : decode cX9_cross 47 = .ok (.goto 5, 3) := dk_167 0 5 (dk_at dksX9_cross_2 0 rfl rfl)
theorem dX9_cross_50 : decode cX9_cross 50 = .ok (.bipush (-2), 2) := dk_16 254 (dk_at dksX9_cross_2 3 rfl rfl)
theorem dX9_cross_52 : decode cX9_cross 52 = .ok (.invokevirtual 164, 3) := dk_182 0 164 (dk_at dksX9_cross_2 5 rfl rfl)
theorem dX9_cross_55 : decode cX9_cross 55 = .ok (.ireturn, 1) := dk_172 (dk_at dksX9_cross_2 8 rfl rfl)
theorem dX9_cross_56 : decode cX9_cross 56 = .ok (.aload_n 0, 1) := dk_42 (dk_at dksX9_cross_2 9 rfl rfl)
theorem dX9_cross_57 : decode cX9_cross 57 = .ok (.getfield 13, 3) := dk_180 0 13 (dk_at dksX9_cross_2 10 rfl rfl)
theorem dX9_cross_60 : decode cX9_cross 60 = .ok (.iconst 4, 1) := dk_7 (dk_at dksX9_cross_2 13 rfl rfl)
theorem dX9_cross_61 : decode cX9_cross 61 = .ok (.iaload, 1) := dk_46 (dk_at dksX9_cross_2 14 rfl rfl)
theorem dX9_cross_62 : decode cX9_cross 62 = .ok (.istore_n 3, 1) := dk_62 (dk_at dksX9_cross_2 15 rfl rfl)
theorem dX9_cross_63 : decode cX9_cross 63 = .ok (.iload_n 3, 1) := dk_29 (dk_at dksX9_cross_2 16 rfl rfl)
theorem dX9_cross_64 : decode cX9_cross 64 = .ok (.bipush 12, 2) := dk_16 12 (dk_at dksX9_cross_2 17 rfl rfl)
theorem dX9_cross_66 : decode cX9_cross 66 = .ok (.if_icmp .ne 10, 3) := dk_160 0 10 (dk_at dksX9_cross_2 19 rfl rfl)
theorem dX9_cross_69 : decode cX9_cross 69 = .ok (.aload_n 0, 1) := dk_42 (dk_at dksX9_cross_2 22 rfl rfl)
theorem dX9_cross_70 : decode cX9_cross 70 = .ok (.bipush (-5), 2) := dk_16 251 (dk_at dksX9_cross_3 0 rfl rfl)
theorem dX9_cross_72 : decode cX9_cross 72 = .ok (.invokevirtual 164, 3) := dk_182 0 164 (dk_at dksX9_cross_3 2 rfl rfl)
theorem dX9_cross_75 : decode cX9_cross 75 = .ok (.ireturn, 1) := dk_172 (dk_at dksX9_cross_3 5 rfl rfl)
theorem dX9_cross_76 : decode cX9_cross 76 = .ok (.aload_n 0, 1) := dk_42 (dk_at dksX9_cross_3 6 rfl rfl)
theorem dX9_cross_77 : decode cX9_cross 77 = .ok (.getfield 13, 3) := dk_180 0 13 (dk_at dksX9_cross_3 7 rfl rfl)
theorem dX9_cross_80 : decode cX9_cross 80 = .ok (.bipush 52, 2) := dk_16 52 (dk_at dksX9_cross_3 10 rfl rfl)
theorem dX9_cross_82 : decode cX9_cross 82 = .ok (.iconst 2, 1) := dk_5 (dk_at dksX9_cross_3 12 rfl rfl)
theorem dX9_cross_83 : decode cX9_cross 83 = .ok (.iload_n 3, 1) := dk_29 (dk_at dksX9_cross_3 13 rfl rfl)
theorem dX9_cross_84 : decode cX9_cross 84 = .ok (.imul, 1) := dk_104 (dk_at dksX9_cross_3 14 rfl rfl)
theorem dX9_cross_85 : decode cX9_cross 85 = .ok (.iadd, 1) := dk_96 (dk_at dksX9_cross_3 15 rfl rfl)
theorem dX9_cross_86 : decode cX9_cross 86 = .ok (.iload_n 1, 1) := dk_27 (dk_at dksX9_cross_3 16 rfl rfl)
theorem dX9_cross_87 : decode cX9_cross 87 = .ok (.iastore, 1) := dk_79 (dk_at dksX9_cross_3 17 rfl rfl)
theorem dX9_cross_88 : decode cX9_cross 88 = .ok (.aload_n 0, 1) := dk_42 (dk_at dksX9_cross_3 18 rfl rfl)
theorem dX9_cross_89 : decode cX9_cross 89 = .ok (.getfield 13, 3) := dk_180 0 13 (dk_at dksX9_cross_3 19 rfl rfl)
theorem dX9_cross_92 : decode cX9_cross 92 = .ok (.bipush 52, 2) := dk_16 52 (dk_at dksX9_cross_3 22 rfl rfl)
theorem dX9_cross_94 : decode cX9_cross 94 = .ok (.iconst 2, 1) := dk_5 (dk_at dksX9_cross_4 0 rfl rfl)
theorem dX9_cross_95 : decode cX9_cross 95 = .ok (.iload_n 3, 1) := dk_29 (dk_at dksX9_cross_4 1 rfl rfl)
theorem dX9_cross_96 : decode cX9_cross 96 = .ok (.imul, 1) := dk_104 (dk_at dksX9_cross_4 2 rfl rfl)
theorem dX9_cross_97 : decode cX9_cross 97 = .ok (.iadd, 1) := dk_96 (dk_at dksX9_cross_4 3 rfl rfl)
theorem dX9_cross_98 : decode cX9_cross 98 = .ok (.iconst 1, 1) := dk_4 (dk_at dksX9_cross_4 4 rfl rfl)
theorem dX9_cross_99 : decode cX9_cross 99 = .ok (.iadd, 1) := dk_96 (dk_at dksX9_cross_4 5 rfl rfl)
theorem dX9_cross_100 : decode cX9_cross 100 = .ok (.iload_n 2, 1) := dk_28 (dk_at dksX9_cross_4 6 rfl rfl)
theorem dX9_cross_101 : decode cX9_cross 101 = .ok (.iastore, 1) := dk_79 (dk_at dksX9_cross_4 7 rfl rfl)
theorem dX9_cross_102 : decode cX9_cross 102 = .ok (.aload_n 0, 1) := dk_42 (dk_at dksX9_cross_4 8 rfl rfl)
theorem dX9_cross_103 : decode cX9_cross 103 = .ok (.getfield 13, 3) := dk_180 0 13 (dk_at dksX9_cross_4 9 rfl rfl)
theorem dX9_cross_106 : decode cX9_cross 106 = .ok (.iconst 4, 1) := dk_7 (dk_at dksX9_cross_4 12 rfl rfl)
theorem dX9_cross_107 : decode cX9_cross 107 = .ok (.dup2, 1) := dk_92 (dk_at dksX9_cross_4 13 rfl rfl)
theorem dX9_cross_108 : decode cX9_cross 108 = .ok (.iaload, 1) := dk_46 (dk_at dksX9_cross_4 14 rfl rfl)
theorem dX9_cross_109 : decode cX9_cross 109 = .ok (.iconst 1, 1) := dk_4 (dk_at dksX9_cross_4 15 rfl rfl)
theorem dX9_cross_110 : decode cX9_cross 110 = .ok (.iadd, 1) := dk_96 (dk_at dksX9_cross_4 16 rfl rfl)
theorem dX9_cross_111 : decode cX9_cross 111 = .ok (.iastore, 1) := dk_79 (dk_at dksX9_cross_4 17 rfl rfl)
theorem dX9_cross_112 : decode cX9_cross 112 = .ok (.aload_n 0, 1) := dk_42 (dk_at dksX9_cross_4 18 rfl rfl)
theorem dX9_cross_113 : decode cX9_cross 113 = .ok (.iload_n 3, 1) := dk_29 (dk_at dksX9_cross_4 19 rfl rfl)
theorem dX9_cross_114 : decode cX9_cross 114 = .ok (.iconst 1, 1) := dk_4 (dk_at dksX9_cross_4 20 rfl rfl)
theorem dX9_cross_115 : decode cX9_cross 115 = .ok (.iadd, 1) := dk_96 (dk_at dksX9_cross_4 21 rfl rfl)
theorem dX9_cross_116 : decode cX9_cross 116 = .ok (.invokevirtual 164, 3) := dk_182 0 164 (dk_at dksX9_cross_5 0 rfl rfl)
theorem dX9_cross_119 : decode cX9_cross 119 = .ok (.ireturn, 1) := dk_172 (dk_at dksX9_cross_5 3 rfl rfl)
abbrev cX9_drop : ByteArray := prog_23_method_97_code
def yX9_drop : MethodName := ⟨RX9, "drop", "(I)I"⟩
def dkwX9_drop_3 : List UInt8 := [79, 42, 42, 180, 0, 13, 7, 46, 182, 0, 164, 172]
abbrev dktX9_drop_3 : List UInt8 := dkwX9_drop_3 ++ []
def dkwX9_drop_2 : List UInt8 := [42, 180, 0, 13, 28, 5, 96, 46, 79, 132, 2, 1, 167, 255, 233, 42, 180, 0, 13, 7, 92, 46, 4, 100]
abbrev dktX9_drop_2 : List UInt8 := dkwX9_drop_2 ++ dktX9_drop_3
def dkwX9_drop_1 : List UInt8 := [16, 254, 182, 0, 164, 172, 16, 52, 5, 27, 104, 96, 61, 28, 16, 74, 162, 0, 23, 42, 180, 0, 13, 28]
abbrev dktX9_drop_1 : List UInt8 := dkwX9_drop_1 ++ dktX9_drop_2
def dkwX9_drop_0 : List UInt8 := [42, 3, 181, 0, 150, 27, 133, 9, 42, 180, 0, 13, 7, 46, 133, 10, 101, 184, 0, 160, 154, 0, 10, 42]
abbrev dktX9_drop_0 : List UInt8 := dkwX9_drop_0 ++ dktX9_drop_1
theorem dksX9_drop_0 : cX9_drop.data.toList.drop 0 = dktX9_drop_0 := by decide +kernel
theorem dksX9_drop_1 : cX9_drop.data.toList.drop 24 = dktX9_drop_1 := dk_seg dksX9_drop_0 24 rfl rfl
theorem dksX9_drop_2 : cX9_drop.data.toList.drop 48 = dktX9_drop_2 := dk_seg dksX9_drop_1 24 rfl rfl
theorem dksX9_drop_3 : cX9_drop.data.toList.drop 72 = dktX9_drop_3 := dk_seg dksX9_drop_2 24 rfl rfl
theorem dX9_drop_0 : decode cX9_drop 0 = .ok (.aload_n 0, 1) := dk_42 (dk_at dksX9_drop_0 0 rfl rfl)
theorem dX9_drop_1 : decode cX9_drop 1 = .ok (.iconst 0, 1) := dk_3 (dk_at dksX9_drop_0 1 rfl rfl)
theorem dX9_drop_2 : decode cX9_drop 2 = .ok (.putfield 150, 3) := dk_181 0 150 (dk_at dksX9_drop_0 2 rfl rfl)
theorem dX9_drop_5 : decode cX9_drop 5 = .ok (.iload_n 1, 1) := dk_27 (dk_at dksX9_drop_0 5 rfl rfl)
theorem dX9_drop_6 : decode cX9_drop 6 = .ok (.i2l, 1) := dk_133 (dk_at dksX9_drop_0 6 rfl rfl)
theorem dX9_drop_7 : decode cX9_drop 7 = .ok (.lconst 0, 1) := dk_9 (dk_at dksX9_drop_0 7 rfl rfl)
theorem dX9_drop_8 : decode cX9_drop 8 = .ok (.aload_n 0, 1) := dk_42 (dk_at dksX9_drop_0 8 rfl rfl)
theorem dX9_drop_9 : decode cX9_drop 9 = .ok (.getfield 13, 3) := dk_180 0 13 (dk_at dksX9_drop_0 9 rfl rfl)
theorem dX9_drop_12 : decode cX9_drop 12 = .ok (.iconst 4, 1) := dk_7 (dk_at dksX9_drop_0 12 rfl rfl)
theorem dX9_drop_13 : decode cX9_drop 13 = .ok (.iaload, 1) := dk_46 (dk_at dksX9_drop_0 13 rfl rfl)
theorem dX9_drop_14 : decode cX9_drop 14 = .ok (.i2l, 1) := dk_133 (dk_at dksX9_drop_0 14 rfl rfl)
theorem dX9_drop_15 : decode cX9_drop 15 = .ok (.lconst 1, 1) := dk_10 (dk_at dksX9_drop_0 15 rfl rfl)
theorem dX9_drop_16 : decode cX9_drop 16 = .ok (.lsub, 1) := dk_101 (dk_at dksX9_drop_0 16 rfl rfl)
theorem dX9_drop_17 : decode cX9_drop 17 = .ok (.invokestatic 160, 3) := dk_184 0 160 (dk_at dksX9_drop_0 17 rfl rfl)
theorem dX9_drop_20 : decode cX9_drop 20 = .ok (.ifCond .ne 10, 3) := dk_154 0 10 (dk_at dksX9_drop_0 20 rfl rfl)
theorem dX9_drop_23 : decode cX9_drop 23 = .ok (.aload_n 0, 1) := dk_42 (dk_at dksX9_drop_0 23 rfl rfl)
theorem dX9_drop_24 : decode cX9_drop 24 = .ok (.bipush (-2), 2) := dk_16 254 (dk_at dksX9_drop_1 0 rfl rfl)
theorem dX9_drop_26 : decode cX9_drop 26 = .ok (.invokevirtual 164, 3) := dk_182 0 164 (dk_at dksX9_drop_1 2 rfl rfl)
theorem dX9_drop_29 : decode cX9_drop 29 = .ok (.ireturn, 1) := dk_172 (dk_at dksX9_drop_1 5 rfl rfl)
theorem dX9_drop_30 : decode cX9_drop 30 = .ok (.bipush 52, 2) := dk_16 52 (dk_at dksX9_drop_1 6 rfl rfl)
theorem dX9_drop_32 : decode cX9_drop 32 = .ok (.iconst 2, 1) := dk_5 (dk_at dksX9_drop_1 8 rfl rfl)
theorem dX9_drop_33 : decode cX9_drop 33 = .ok (.iload_n 1, 1) := dk_27 (dk_at dksX9_drop_1 9 rfl rfl)
theorem dX9_drop_34 : decode cX9_drop 34 = .ok (.imul, 1) := dk_104 (dk_at dksX9_drop_1 10 rfl rfl)
theorem dX9_drop_35 : decode cX9_drop 35 = .ok (.iadd, 1) := dk_96 (dk_at dksX9_drop_1 11 rfl rfl)
theorem dX9_drop_36 : decode cX9_drop 36 = .ok (.istore_n 2, 1) := dk_61 (dk_at dksX9_drop_1 12 rfl rfl)
theorem dX9_drop_37 : decode cX9_drop 37 = .ok (.iload_n 2, 1) := dk_28 (dk_at dksX9_drop_1 13 rfl rfl)
theorem dX9_drop_38 : decode cX9_drop 38 = .ok (.bipush 74, 2) := dk_16 74 (dk_at dksX9_drop_1 14 rfl rfl)
theorem dX9_drop_40 : decode cX9_drop 40 = .ok (.if_icmp .ge 23, 3) := dk_162 0 23 (dk_at dksX9_drop_1 16 rfl rfl)
theorem dX9_drop_43 : decode cX9_drop 43 = .ok (.aload_n 0, 1) := dk_42 (dk_at dksX9_drop_1 19 rfl rfl)
theorem dX9_drop_44 : decode cX9_drop 44 = .ok (.getfield 13, 3) := dk_180 0 13 (dk_at dksX9_drop_1 20 rfl rfl)
theorem dX9_drop_47 : decode cX9_drop 47 = .ok (.iload_n 2, 1) := dk_28 (dk_at dksX9_drop_1 23 rfl rfl)
theorem dX9_drop_48 : decode cX9_drop 48 = .ok (.aload_n 0, 1) := dk_42 (dk_at dksX9_drop_2 0 rfl rfl)
theorem dX9_drop_49 : decode cX9_drop 49 = .ok (.getfield 13, 3) := dk_180 0 13 (dk_at dksX9_drop_2 1 rfl rfl)
theorem dX9_drop_52 : decode cX9_drop 52 = .ok (.iload_n 2, 1) := dk_28 (dk_at dksX9_drop_2 4 rfl rfl)
theorem dX9_drop_53 : decode cX9_drop 53 = .ok (.iconst 2, 1) := dk_5 (dk_at dksX9_drop_2 5 rfl rfl)
theorem dX9_drop_54 : decode cX9_drop 54 = .ok (.iadd, 1) := dk_96 (dk_at dksX9_drop_2 6 rfl rfl)
theorem dX9_drop_55 : decode cX9_drop 55 = .ok (.iaload, 1) := dk_46 (dk_at dksX9_drop_2 7 rfl rfl)
theorem dX9_drop_56 : decode cX9_drop 56 = .ok (.iastore, 1) := dk_79 (dk_at dksX9_drop_2 8 rfl rfl)
theorem dX9_drop_57 : decode cX9_drop 57 = .ok (.iinc 2 1, 3) := dk_132 2 1 (dk_at dksX9_drop_2 9 rfl rfl)
theorem dX9_drop_60 : decode cX9_drop 60 = .ok (.goto (-23), 3) := dk_167 255 233 (dk_at dksX9_drop_2 12 rfl rfl)
theorem dX9_drop_63 : decode cX9_drop 63 = .ok (.aload_n 0, 1) := dk_42 (dk_at dksX9_drop_2 15 rfl rfl)
theorem dX9_drop_64 : decode cX9_drop 64 = .ok (.getfield 13, 3) := dk_180 0 13 (dk_at dksX9_drop_2 16 rfl rfl)
theorem dX9_drop_67 : decode cX9_drop 67 = .ok (.iconst 4, 1) := dk_7 (dk_at dksX9_drop_2 19 rfl rfl)
theorem dX9_drop_68 : decode cX9_drop 68 = .ok (.dup2, 1) := dk_92 (dk_at dksX9_drop_2 20 rfl rfl)
theorem dX9_drop_69 : decode cX9_drop 69 = .ok (.iaload, 1) := dk_46 (dk_at dksX9_drop_2 21 rfl rfl)
theorem dX9_drop_70 : decode cX9_drop 70 = .ok (.iconst 1, 1) := dk_4 (dk_at dksX9_drop_2 22 rfl rfl)
theorem dX9_drop_71 : decode cX9_drop 71 = .ok (.isub, 1) := dk_100 (dk_at dksX9_drop_2 23 rfl rfl)
theorem dX9_drop_72 : decode cX9_drop 72 = .ok (.iastore, 1) := dk_79 (dk_at dksX9_drop_3 0 rfl rfl)
theorem dX9_drop_73 : decode cX9_drop 73 = .ok (.aload_n 0, 1) := dk_42 (dk_at dksX9_drop_3 1 rfl rfl)
theorem dX9_drop_74 : decode cX9_drop 74 = .ok (.aload_n 0, 1) := dk_42 (dk_at dksX9_drop_3 2 rfl rfl)
theorem dX9_drop_75 : decode cX9_drop 75 = .ok (.getfield 13, 3) := dk_180 0 13 (dk_at dksX9_drop_3 3 rfl rfl)
theorem dX9_drop_78 : decode cX9_drop 78 = .ok (.iconst 4, 1) := dk_7 (dk_at dksX9_drop_3 6 rfl rfl)
theorem dX9_drop_79 : decode cX9_drop 79 = .ok (.iaload, 1) := dk_46 (dk_at dksX9_drop_3 7 rfl rfl)
theorem dX9_drop_80 : decode cX9_drop 80 = .ok (.invokevirtual 164, 3) := dk_182 0 164 (dk_at dksX9_drop_3 8 rfl rfl)
theorem dX9_drop_83 : decode cX9_drop 83 = .ok (.ireturn, 1) := dk_172 (dk_at dksX9_drop_3 11 rfl rfl)
abbrev cX9_orders : ByteArray := prog_23_method_100_code
def yX9_orders : MethodName := ⟨RX9, "orders", "(I)I"⟩
def dkwX9_orders_4 : List UInt8 := [29, 120, 128, 61, 132, 4, 1, 167, 255, 211, 29, 172]
abbrev dktX9_orders_4 : List UInt8 := dkwX9_orders_4 ++ []
def dkwX9_orders_3 : List UInt8 := [153, 0, 16, 42, 180, 0, 135, 28, 4, 29, 120, 128, 46, 154, 0, 9, 132, 3, 1, 167, 255, 231, 28, 4]
abbrev dktX9_orders_3 : List UInt8 := dkwX9_orders_3 ++ dktX9_orders_4
def dkwX9_orders_2 : List UInt8 := [2, 172, 3, 61, 2, 62, 3, 54, 4, 21, 4, 27, 163, 0, 45, 3, 62, 42, 29, 28, 182, 1, 223]
abbrev dktX9_orders_2 : List UInt8 := dkwX9_orders_2 ++ dktX9_orders_3
def dkwX9_orders_1 : List UInt8 := [42, 180, 0, 13, 3, 46, 133, 10, 101, 184, 0, 160, 153, 0, 12, 42, 180, 0, 135, 3, 46, 154, 0, 5]
abbrev dktX9_orders_1 : List UInt8 := dkwX9_orders_1 ++ dktX9_orders_2
def dkwX9_orders_0 : List UInt8 := [42, 3, 181, 0, 150, 42, 182, 1, 226, 27, 2, 160, 0, 10, 42, 180, 0, 135, 3, 46, 172, 27, 133, 9]
abbrev dktX9_orders_0 : List UInt8 := dkwX9_orders_0 ++ dktX9_orders_1
theorem dksX9_orders_0 : cX9_orders.data.toList.drop 0 = dktX9_orders_0 := by decide +kernel
theorem dksX9_orders_1 : cX9_orders.data.toList.drop 24 = dktX9_orders_1 := dk_seg dksX9_orders_0 24 rfl rfl
theorem dksX9_orders_2 : cX9_orders.data.toList.drop 48 = dktX9_orders_2 := dk_seg dksX9_orders_1 24 rfl rfl
theorem dksX9_orders_3 : cX9_orders.data.toList.drop 71 = dktX9_orders_3 := dk_seg dksX9_orders_2 23 rfl rfl
theorem dksX9_orders_4 : cX9_orders.data.toList.drop 95 = dktX9_orders_4 := dk_seg dksX9_orders_3 24 rfl rfl
theorem dX9_orders_0 : decode cX9_orders 0 = .ok (.aload_n 0, 1) := dk_42 (dk_at dksX9_orders_0 0 rfl rfl)
theorem dX9_orders_1 : decode cX9_orders 1 = .ok (.iconst 0, 1) := dk_3 (dk_at dksX9_orders_0 1 rfl rfl)
theorem dX9_orders_2 : decode cX9_orders 2 = .ok (.putfield 150, 3) := dk_181 0 150 (dk_at dksX9_orders_0 2 rfl rfl)
theorem dX9_orders_5 : decode cX9_orders 5 = .ok (.aload_n 0, 1) := dk_42 (dk_at dksX9_orders_0 5 rfl rfl)
theorem dX9_orders_6 : decode cX9_orders 6 = .ok (.invokevirtual 482, 3) := dk_182 1 226 (dk_at dksX9_orders_0 6 rfl rfl)
theorem dX9_orders_9 : decode cX9_orders 9 = .ok (.iload_n 1, 1) := dk_27 (dk_at dksX9_orders_0 9 rfl rfl)
theorem dX9_orders_10 : decode cX9_orders 10 = .ok (.iconst (-1), 1) := dk_2 (dk_at dksX9_orders_0 10 rfl rfl)
theorem dX9_orders_11 : decode cX9_orders 11 = .ok (.if_icmp .ne 10, 3) := dk_160 0 10 (dk_at dksX9_orders_0 11 rfl rfl)
theorem dX9_orders_14 : decode cX9_orders 14 = .ok (.aload_n 0, 1) := dk_42 (dk_at dksX9_orders_0 14 rfl rfl)
theorem dX9_orders_15 : decode cX9_orders 15 = .ok (.getfield 135, 3) := dk_180 0 135 (dk_at dksX9_orders_0 15 rfl rfl)
theorem dX9_orders_18 : decode cX9_orders 18 = .ok (.iconst 0, 1) := dk_3 (dk_at dksX9_orders_0 18 rfl rfl)
theorem dX9_orders_19 : decode cX9_orders 19 = .ok (.iaload, 1) := dk_46 (dk_at dksX9_orders_0 19 rfl rfl)
theorem dX9_orders_20 : decode cX9_orders 20 = .ok (.ireturn, 1) := dk_172 (dk_at dksX9_orders_0 20 rfl rfl)
theorem dX9_orders_21 : decode cX9_orders 21 = .ok (.iload_n 1, 1) := dk_27 (dk_at dksX9_orders_0 21 rfl rfl)
theorem dX9_orders_22 : decode cX9_orders 22 = .ok (.i2l, 1) := dk_133 (dk_at dksX9_orders_0 22 rfl rfl)
theorem dX9_orders_23 : decode cX9_orders 23 = .ok (.lconst 0, 1) := dk_9 (dk_at dksX9_orders_0 23 rfl rfl)
theorem dX9_orders_24 : decode cX9_orders 24 = .ok (.aload_n 0, 1) := dk_42 (dk_at dksX9_orders_1 0 rfl rfl)
theorem dX9_orders_25 : decode cX9_orders 25 = .ok (.getfield 13, 3) := dk_180 0 13 (dk_at dksX9_orders_1 1 rfl rfl)
theorem dX9_orders_28 : decode cX9_orders 28 = .ok (.iconst 0, 1) := dk_3 (dk_at dksX9_orders_1 4 rfl rfl)
theorem dX9_orders_29 : decode cX9_orders 29 = .ok (.iaload, 1) := dk_46 (dk_at dksX9_orders_1 5 rfl rfl)
theorem dX9_orders_30 : decode cX9_orders 30 = .ok (.i2l, 1) := dk_133 (dk_at dksX9_orders_1 6 rfl rfl)
theorem dX9_orders_31 : decode cX9_orders 31 = .ok (.lconst 1, 1) := dk_10 (dk_at dksX9_orders_1 7 rfl rfl)
theorem dX9_orders_32 : decode cX9_orders 32 = .ok (.lsub, 1) := dk_101 (dk_at dksX9_orders_1 8 rfl rfl)
theorem dX9_orders_33 : decode cX9_orders 33 = .ok (.invokestatic 160, 3) := dk_184 0 160 (dk_at dksX9_orders_1 9 rfl rfl)
theorem dX9_orders_36 : decode cX9_orders 36 = .ok (.ifCond .eq 12, 3) := dk_153 0 12 (dk_at dksX9_orders_1 12 rfl rfl)
theorem dX9_orders_39 : decode cX9_orders 39 = .ok (.aload_n 0, 1) := dk_42 (dk_at dksX9_orders_1 15 rfl rfl)
theorem dX9_orders_40 : decode cX9_orders 40 = .ok (.getfield 135, 3) := dk_180 0 135 (dk_at dksX9_orders_1 16 rfl rfl)
theorem dX9_orders_43 : decode cX9_orders 43 = .ok (.iconst 0, 1) := dk_3 (dk_at dksX9_orders_1 19 rfl rfl)
theorem dX9_orders_44 : decode cX9_orders 44 = .ok (.iaload, 1) := dk_46 (dk_at dksX9_orders_1 20 rfl rfl)
theorem dX9_orders_45 : decode cX9_orders 45 = .ok (.ifCond .ne 5, 3) := dk_154 0 5 (dk_at dksX9_orders_1 21 rfl rfl)
theorem dX9_orders_48 : decode cX9_orders 48 = .ok (.iconst (-1), 1) := dk_2 (dk_at dksX9_orders_2 0 rfl rfl)
theorem dX9_orders_49 : decode cX9_orders 49 = .ok (.ireturn, 1) := dk_172 (dk_at dksX9_orders_2 1 rfl rfl)
theorem dX9_orders_50 : decode cX9_orders 50 = .ok (.iconst 0, 1) := dk_3 (dk_at dksX9_orders_2 2 rfl rfl)
theorem dX9_orders_51 : decode cX9_orders 51 = .ok (.istore_n 2, 1) := dk_61 (dk_at dksX9_orders_2 3 rfl rfl)
theorem dX9_orders_52 : decode cX9_orders 52 = .ok (.iconst (-1), 1) := dk_2 (dk_at dksX9_orders_2 4 rfl rfl)
theorem dX9_orders_53 : decode cX9_orders 53 = .ok (.istore_n 3, 1) := dk_62 (dk_at dksX9_orders_2 5 rfl rfl)
theorem dX9_orders_54 : decode cX9_orders 54 = .ok (.iconst 0, 1) := dk_3 (dk_at dksX9_orders_2 6 rfl rfl)
theorem dX9_orders_55 : decode cX9_orders 55 = .ok (.istore 4, 2) := dk_54 4 (dk_at dksX9_orders_2 7 rfl rfl)
theorem dX9_orders_57 : decode cX9_orders 57 = .ok (.iload 4, 2) := dk_21 4 (dk_at dksX9_orders_2 9 rfl rfl)
theorem dX9_orders_59 : decode cX9_orders 59 = .ok (.iload_n 1, 1) := dk_27 (dk_at dksX9_orders_2 11 rfl rfl)
theorem dX9_orders_60 : decode cX9_orders 60 = .ok (.if_icmp .gt 45, 3) := dk_163 0 45 (dk_at dksX9_orders_2 12 rfl rfl)
theorem dX9_orders_63 : decode cX9_orders 63 = .ok (.iconst 0, 1) := dk_3 (dk_at dksX9_orders_2 15 rfl rfl)
theorem dX9_orders_64 : decode cX9_orders 64 = .ok (.istore_n 3, 1) := dk_62 (dk_at dksX9_orders_2 16 rfl rfl)
theorem dX9_orders_65 : decode cX9_orders 65 = .ok (.aload_n 0, 1) := dk_42 (dk_at dksX9_orders_2 17 rfl rfl)
theorem dX9_orders_66 : decode cX9_orders 66 = .ok (.iload_n 3, 1) := dk_29 (dk_at dksX9_orders_2 18 rfl rfl)
theorem dX9_orders_67 : decode cX9_orders 67 = .ok (.iload_n 2, 1) := dk_28 (dk_at dksX9_orders_2 19 rfl rfl)
theorem dX9_orders_68 : decode cX9_orders 68 = .ok (.invokevirtual 479, 3) := dk_182 1 223 (dk_at dksX9_orders_2 20 rfl rfl)
theorem dX9_orders_71 : decode cX9_orders 71 = .ok (.ifCond .eq 16, 3) := dk_153 0 16 (dk_at dksX9_orders_3 0 rfl rfl)
theorem dX9_orders_74 : decode cX9_orders 74 = .ok (.aload_n 0, 1) := dk_42 (dk_at dksX9_orders_3 3 rfl rfl)
theorem dX9_orders_75 : decode cX9_orders 75 = .ok (.getfield 135, 3) := dk_180 0 135 (dk_at dksX9_orders_3 4 rfl rfl)
theorem dX9_orders_78 : decode cX9_orders 78 = .ok (.iload_n 2, 1) := dk_28 (dk_at dksX9_orders_3 7 rfl rfl)
theorem dX9_orders_79 : decode cX9_orders 79 = .ok (.iconst 1, 1) := dk_4 (dk_at dksX9_orders_3 8 rfl rfl)
theorem dX9_orders_80 : decode cX9_orders 80 = .ok (.iload_n 3, 1) := dk_29 (dk_at dksX9_orders_3 9 rfl rfl)
theorem dX9_orders_81 : decode cX9_orders 81 = .ok (.ishl, 1) := dk_120 (dk_at dksX9_orders_3 10 rfl rfl)
theorem dX9_orders_82 : decode cX9_orders 82 = .ok (.ior, 1) := dk_128 (dk_at dksX9_orders_3 11 rfl rfl)
theorem dX9_orders_83 : decode cX9_orders 83 = .ok (.iaload, 1) := dk_46 (dk_at dksX9_orders_3 12 rfl rfl)
theorem dX9_orders_84 : decode cX9_orders 84 = .ok (.ifCond .ne 9, 3) := dk_154 0 9 (dk_at dksX9_orders_3 13 rfl rfl)
theorem dX9_orders_87 : decode cX9_orders 87 = .ok (.iinc 3 1, 3) := dk_132 3 1 (dk_at dksX9_orders_3 16 rfl rfl)
theorem dX9_orders_90 : decode cX9_orders 90 = .ok (.goto (-25), 3) := dk_167 255 231 (dk_at dksX9_orders_3 19 rfl rfl)
theorem dX9_orders_93 : decode cX9_orders 93 = .ok (.iload_n 2, 1) := dk_28 (dk_at dksX9_orders_3 22 rfl rfl)
theorem dX9_orders_94 : decode cX9_orders 94 = .ok (.iconst 1, 1) := dk_4 (dk_at dksX9_orders_3 23 rfl rfl)
theorem dX9_orders_95 : decode cX9_orders 95 = .ok (.iload_n 3, 1) := dk_29 (dk_at dksX9_orders_4 0 rfl rfl)
theorem dX9_orders_96 : decode cX9_orders 96 = .ok (.ishl, 1) := dk_120 (dk_at dksX9_orders_4 1 rfl rfl)
theorem dX9_orders_97 : decode cX9_orders 97 = .ok (.ior, 1) := dk_128 (dk_at dksX9_orders_4 2 rfl rfl)
theorem dX9_orders_98 : decode cX9_orders 98 = .ok (.istore_n 2, 1) := dk_61 (dk_at dksX9_orders_4 3 rfl rfl)
theorem dX9_orders_99 : decode cX9_orders 99 = .ok (.iinc 4 1, 3) := dk_132 4 1 (dk_at dksX9_orders_4 4 rfl rfl)
theorem dX9_orders_102 : decode cX9_orders 102 = .ok (.goto (-45), 3) := dk_167 255 211 (dk_at dksX9_orders_4 7 rfl rfl)
theorem dX9_orders_105 : decode cX9_orders 105 = .ok (.iload_n 3, 1) := dk_29 (dk_at dksX9_orders_4 10 rfl rfl)
theorem dX9_orders_106 : decode cX9_orders 106 = .ok (.ireturn, 1) := dk_172 (dk_at dksX9_orders_4 11 rfl rfl)
abbrev cX9_findOrders : ByteArray := prog_23_method_99_code
def yX9_findOrders : MethodName := ⟨RX9, "findOrders", "()V"⟩
def dkwX9_findOrders_7 : List UInt8 := [79, 132, 3, 1, 167, 255, 211, 132, 2, 255, 167, 255, 183, 177]
abbrev dktX9_findOrders_7 : List UInt8 := dkwX9_findOrders_7 ++ []
def dkwX9_findOrders_6 : List UInt8 := [42, 29, 28, 182, 1, 223, 153, 0, 16, 42, 180, 0, 135, 28, 4, 29, 120, 128, 46, 167, 0, 4, 3, 96]
abbrev dktX9_findOrders_6 : List UInt8 := dkwX9_findOrders_6 ++ dktX9_findOrders_7
def dkwX9_findOrders_5 : List UInt8 := [167, 0, 4, 3, 79, 3, 62, 29, 42, 180, 0, 13, 3, 46, 162, 0, 41, 42, 180, 0, 135, 28, 92, 46]
abbrev dktX9_findOrders_5 : List UInt8 := dkwX9_findOrders_5 ++ dktX9_findOrders_6
def dkwX9_findOrders_4 : List UInt8 := [132, 2, 1, 167, 255, 167, 27, 61, 28, 155, 0, 75, 42, 180, 0, 135, 28, 28, 27, 160, 0, 7, 4]
abbrev dktX9_findOrders_4 : List UInt8 := dkwX9_findOrders_4 ++ dktX9_findOrders_5
def dkwX9_findOrders_3 : List UInt8 := [180, 0, 132, 28, 4, 29, 120, 2, 130, 126, 46, 167, 0, 4, 3, 96, 79, 132, 3, 1, 167, 255, 195]
abbrev dktX9_findOrders_3 : List UInt8 := dkwX9_findOrders_3 ++ dktX9_findOrders_4
def dkwX9_findOrders_2 : List UInt8 := [28, 29, 184, 1, 179, 153, 0, 33, 42, 29, 28, 4, 29, 120, 2, 130, 126, 182, 1, 223, 153, 0, 18, 42]
abbrev dktX9_findOrders_2 : List UInt8 := dkwX9_findOrders_2 ++ dktX9_findOrders_3
def dkwX9_findOrders_1 : List UInt8 := [167, 0, 4, 3, 79, 3, 62, 29, 42, 180, 0, 13, 3, 46, 162, 0, 57, 42, 180, 0, 132, 28, 92, 46]
abbrev dktX9_findOrders_1 : List UInt8 := dkwX9_findOrders_1 ++ dktX9_findOrders_2
def dkwX9_findOrders_0 : List UInt8 := [42, 182, 1, 204, 60, 3, 61, 28, 27, 163, 0, 90, 42, 180, 0, 132, 28, 28, 154, 0, 7, 4]
abbrev dktX9_findOrders_0 : List UInt8 := dkwX9_findOrders_0 ++ dktX9_findOrders_1
theorem dksX9_findOrders_0 : cX9_findOrders.data.toList.drop 0 = dktX9_findOrders_0 := by decide +kernel
theorem dksX9_findOrders_1 : cX9_findOrders.data.toList.drop 22 = dktX9_findOrders_1 := dk_seg dksX9_findOrders_0 22 rfl rfl
theorem dksX9_findOrders_2 : cX9_findOrders.data.toList.drop 46 = dktX9_findOrders_2 := dk_seg dksX9_findOrders_1 24 rfl rfl
theorem dksX9_findOrders_3 : cX9_findOrders.data.toList.drop 70 = dktX9_findOrders_3 := dk_seg dksX9_findOrders_2 24 rfl rfl
theorem dksX9_findOrders_4 : cX9_findOrders.data.toList.drop 93 = dktX9_findOrders_4 := dk_seg dksX9_findOrders_3 23 rfl rfl
theorem dksX9_findOrders_5 : cX9_findOrders.data.toList.drop 116 = dktX9_findOrders_5 := dk_seg dksX9_findOrders_4 23 rfl rfl
theorem dksX9_findOrders_6 : cX9_findOrders.data.toList.drop 140 = dktX9_findOrders_6 := dk_seg dksX9_findOrders_5 24 rfl rfl
theorem dksX9_findOrders_7 : cX9_findOrders.data.toList.drop 164 = dktX9_findOrders_7 := dk_seg dksX9_findOrders_6 24 rfl rfl
theorem dX9_findOrders_0 : decode cX9_findOrders 0 = .ok (.aload_n 0, 1) := dk_42 (dk_at dksX9_findOrders_0 0 rfl rfl)
theorem dX9_findOrders_1 : decode cX9_findOrders 1 = .ok (.invokevirtual 460, 3) := dk_182 1 204 (dk_at dksX9_findOrders_0 1 rfl rfl)
theorem dX9_findOrders_4 : decode cX9_findOrders 4 = .ok (.istore_n 1, 1) := dk_60 (dk_at dksX9_findOrders_0 4 rfl rfl)
theorem dX9_findOrders_5 : decode cX9_findOrders 5 = .ok (.iconst 0, 1) := dk_3 (dk_at dksX9_findOrders_0 5 rfl rfl)
theorem dX9_findOrders_6 : decode cX9_findOrders 6 = .ok (.istore_n 2, 1) := dk_61 (dk_at dksX9_findOrders_0 6 rfl rfl)
theorem dX9_findOrders_7 : decode cX9_findOrders 7 = .ok (.iload_n 2, 1) := dk_28 (dk_at dksX9_findOrders_0 7 rfl rfl)
theorem dX9_findOrders_8 : decode cX9_findOrders 8 = .ok (.iload_n 1, 1) := dk_27 (dk_at dksX9_findOrders_0 8 rfl rfl)
theorem dX9_findOrders_9 : decode cX9_findOrders 9 = .ok (.if_icmp .gt 90, 3) := dk_163 0 90 (dk_at dksX9_findOrders_0 9 rfl rfl)
theorem dX9_findOrders_12 : decode cX9_findOrders 12 = .ok (.aload_n 0, 1) := dk_42 (dk_at dksX9_findOrders_0 12 rfl rfl)
theorem dX9_findOrders_13 : decode cX9_findOrders 13 = .ok (.getfield 132, 3) := dk_180 0 132 (dk_at dksX9_findOrders_0 13 rfl rfl)
theorem dX9_findOrders_16 : decode cX9_findOrders 16 = .ok (.iload_n 2, 1) := dk_28 (dk_at dksX9_findOrders_0 16 rfl rfl)
theorem dX9_findOrders_17 : decode cX9_findOrders 17 = .ok (.iload_n 2, 1) := dk_28 (dk_at dksX9_findOrders_0 17 rfl rfl)
theorem dX9_findOrders_18 : decode cX9_findOrders 18 = .ok (.ifCond .ne 7, 3) := dk_154 0 7 (dk_at dksX9_findOrders_0 18 rfl rfl)
theorem dX9_findOrders_21 : decode cX9_findOrders 21 = .ok (.iconst 1, 1) := dk_4 (dk_at dksX9_findOrders_0 21 rfl rfl)
theorem dX9_findOrders_22 : decode cX9_findOrders 22 = .ok (.goto 4, 3) := dk_167 0 4 (dk_at dksX9_findOrders_1 0 rfl rfl)
theorem dX9_findOrders_25 : decode cX9_findOrders 25 = .ok (.iconst 0, 1) := dk_3 (dk_at dksX9_findOrders_1 3 rfl rfl)
theorem dX9_findOrders_26 : decode cX9_findOrders 26 = .ok (.iastore, 1) := dk_79 (dk_at dksX9_findOrders_1 4 rfl rfl)
theorem dX9_findOrders_27 : decode cX9_findOrders 27 = .ok (.iconst 0, 1) := dk_3 (dk_at dksX9_findOrders_1 5 rfl rfl)
theorem dX9_findOrders_28 : decode cX9_findOrders 28 = .ok (.istore_n 3, 1) := dk_62 (dk_at dksX9_findOrders_1 6 rfl rfl)
theorem dX9_findOrders_29 : decode cX9_findOrders 29 = .ok (.iload_n 3, 1) := dk_29 (dk_at dksX9_findOrders_1 7 rfl rfl)
theorem dX9_findOrders_30 : decode cX9_findOrders 30 = .ok (.aload_n 0, 1) := dk_42 (dk_at dksX9_findOrders_1 8 rfl rfl)
theorem dX9_findOrders_31 : decode cX9_findOrders 31 = .ok (.getfield 13, 3) := dk_180 0 13 (dk_at dksX9_findOrders_1 9 rfl rfl)
theorem dX9_findOrders_34 : decode cX9_findOrders 34 = .ok (.iconst 0, 1) := dk_3 (dk_at dksX9_findOrders_1 12 rfl rfl)
theorem dX9_findOrders_35 : decode cX9_findOrders 35 = .ok (.iaload, 1) := dk_46 (dk_at dksX9_findOrders_1 13 rfl rfl)
theorem dX9_findOrders_36 : decode cX9_findOrders 36 = .ok (.if_icmp .ge 57, 3) := dk_162 0 57 (dk_at dksX9_findOrders_1 14 rfl rfl)
theorem dX9_findOrders_39 : decode cX9_findOrders 39 = .ok (.aload_n 0, 1) := dk_42 (dk_at dksX9_findOrders_1 17 rfl rfl)
theorem dX9_findOrders_40 : decode cX9_findOrders 40 = .ok (.getfield 132, 3) := dk_180 0 132 (dk_at dksX9_findOrders_1 18 rfl rfl)
theorem dX9_findOrders_43 : decode cX9_findOrders 43 = .ok (.iload_n 2, 1) := dk_28 (dk_at dksX9_findOrders_1 21 rfl rfl)
theorem dX9_findOrders_44 : decode cX9_findOrders 44 = .ok (.dup2, 1) := dk_92 (dk_at dksX9_findOrders_1 22 rfl rfl)
theorem dX9_findOrders_45 : decode cX9_findOrders 45 = .ok (.iaload, 1) := dk_46 (dk_at dksX9_findOrders_1 23 rfl rfl)
theorem dX9_findOrders_46 : decode cX9_findOrders 46 = .ok (.iload_n 2, 1) := dk_28 (dk_at dksX9_findOrders_2 0 rfl rfl)
theorem dX9_findOrders_47 : decode cX9_findOrders 47 = .ok (.iload_n 3, 1) := dk_29 (dk_at dksX9_findOrders_2 1 rfl rfl)
theorem dX9_findOrders_48 : decode cX9_findOrders 48 = .ok (.invokestatic 435, 3) := dk_184 1 179 (dk_at dksX9_findOrders_2 2 rfl rfl)
theorem dX9_findOrders_51 : decode cX9_findOrders 51 = .ok (.ifCond .eq 33, 3) := dk_153 0 33 (dk_at dksX9_findOrders_2 5 rfl rfl)
theorem dX9_findOrders_54 : decode cX9_findOrders 54 = .ok (.aload_n 0, 1) := dk_42 (dk_at dksX9_findOrders_2 8 rfl rfl)
theorem dX9_findOrders_55 : decode cX9_findOrders 55 = .ok (.iload_n 3, 1) := dk_29 (dk_at dksX9_findOrders_2 9 rfl rfl)
theorem dX9_findOrders_56 : decode cX9_findOrders 56 = .ok (.iload_n 2, 1) := dk_28 (dk_at dksX9_findOrders_2 10 rfl rfl)
theorem dX9_findOrders_57 : decode cX9_findOrders 57 = .ok (.iconst 1, 1) := dk_4 (dk_at dksX9_findOrders_2 11 rfl rfl)
theorem dX9_findOrders_58 : decode cX9_findOrders 58 = .ok (.iload_n 3, 1) := dk_29 (dk_at dksX9_findOrders_2 12 rfl rfl)
theorem dX9_findOrders_59 : decode cX9_findOrders 59 = .ok (.ishl, 1) := dk_120 (dk_at dksX9_findOrders_2 13 rfl rfl)
theorem dX9_findOrders_60 : decode cX9_findOrders 60 = .ok (.iconst (-1), 1) := dk_2 (dk_at dksX9_findOrders_2 14 rfl rfl)
theorem dX9_findOrders_61 : decode cX9_findOrders 61 = .ok (.ixor, 1) := dk_130 (dk_at dksX9_findOrders_2 15 rfl rfl)
theorem dX9_findOrders_62 : decode cX9_findOrders 62 = .ok (.iand, 1) := dk_126 (dk_at dksX9_findOrders_2 16 rfl rfl)
theorem dX9_findOrders_63 : decode cX9_findOrders 63 = .ok (.invokevirtual 479, 3) := dk_182 1 223 (dk_at dksX9_findOrders_2 17 rfl rfl)
theorem dX9_findOrders_66 : decode cX9_findOrders 66 = .ok (.ifCond .eq 18, 3) := dk_153 0 18 (dk_at dksX9_findOrders_2 20 rfl rfl)
theorem dX9_findOrders_69 : decode cX9_findOrders 69 = .ok (.aload_n 0, 1) := dk_42 (dk_at dksX9_findOrders_2 23 rfl rfl)
theorem dX9_findOrders_70 : decode cX9_findOrders 70 = .ok (.getfield 132, 3) := dk_180 0 132 (dk_at dksX9_findOrders_3 0 rfl rfl)
theorem dX9_findOrders_73 : decode cX9_findOrders 73 = .ok (.iload_n 2, 1) := dk_28 (dk_at dksX9_findOrders_3 3 rfl rfl)
theorem dX9_findOrders_74 : decode cX9_findOrders 74 = .ok (.iconst 1, 1) := dk_4 (dk_at dksX9_findOrders_3 4 rfl rfl)
theorem dX9_findOrders_75 : decode cX9_findOrders 75 = .ok (.iload_n 3, 1) := dk_29 (dk_at dksX9_findOrders_3 5 rfl rfl)
theorem dX9_findOrders_76 : decode cX9_findOrders 76 = .ok (.ishl, 1) := dk_120 (dk_at dksX9_findOrders_3 6 rfl rfl)
theorem dX9_findOrders_77 : decode cX9_findOrders 77 = .ok (.iconst (-1), 1) := dk_2 (dk_at dksX9_findOrders_3 7 rfl rfl)
theorem dX9_findOrders_78 : decode cX9_findOrders 78 = .ok (.ixor, 1) := dk_130 (dk_at dksX9_findOrders_3 8 rfl rfl)
theorem dX9_findOrders_79 : decode cX9_findOrders 79 = .ok (.iand, 1) := dk_126 (dk_at dksX9_findOrders_3 9 rfl rfl)
theorem dX9_findOrders_80 : decode cX9_findOrders 80 = .ok (.iaload, 1) := dk_46 (dk_at dksX9_findOrders_3 10 rfl rfl)
theorem dX9_findOrders_81 : decode cX9_findOrders 81 = .ok (.goto 4, 3) := dk_167 0 4 (dk_at dksX9_findOrders_3 11 rfl rfl)
theorem dX9_findOrders_84 : decode cX9_findOrders 84 = .ok (.iconst 0, 1) := dk_3 (dk_at dksX9_findOrders_3 14 rfl rfl)
theorem dX9_findOrders_85 : decode cX9_findOrders 85 = .ok (.iadd, 1) := dk_96 (dk_at dksX9_findOrders_3 15 rfl rfl)
theorem dX9_findOrders_86 : decode cX9_findOrders 86 = .ok (.iastore, 1) := dk_79 (dk_at dksX9_findOrders_3 16 rfl rfl)
theorem dX9_findOrders_87 : decode cX9_findOrders 87 = .ok (.iinc 3 1, 3) := dk_132 3 1 (dk_at dksX9_findOrders_3 17 rfl rfl)
theorem dX9_findOrders_90 : decode cX9_findOrders 90 = .ok (.goto (-61), 3) := dk_167 255 195 (dk_at dksX9_findOrders_3 20 rfl rfl)
theorem dX9_findOrders_93 : decode cX9_findOrders 93 = .ok (.iinc 2 1, 3) := dk_132 2 1 (dk_at dksX9_findOrders_4 0 rfl rfl)
theorem dX9_findOrders_96 : decode cX9_findOrders 96 = .ok (.goto (-89), 3) := dk_167 255 167 (dk_at dksX9_findOrders_4 3 rfl rfl)
theorem dX9_findOrders_99 : decode cX9_findOrders 99 = .ok (.iload_n 1, 1) := dk_27 (dk_at dksX9_findOrders_4 6 rfl rfl)
theorem dX9_findOrders_100 : decode cX9_findOrders 100 = .ok (.istore_n 2, 1) := dk_61 (dk_at dksX9_findOrders_4 7 rfl rfl)
theorem dX9_findOrders_101 : decode cX9_findOrders 101 = .ok (.iload_n 2, 1) := dk_28 (dk_at dksX9_findOrders_4 8 rfl rfl)
theorem dX9_findOrders_102 : decode cX9_findOrders 102 = .ok (.ifCond .lt 75, 3) := dk_155 0 75 (dk_at dksX9_findOrders_4 9 rfl rfl)
theorem dX9_findOrders_105 : decode cX9_findOrders 105 = .ok (.aload_n 0, 1) := dk_42 (dk_at dksX9_findOrders_4 12 rfl rfl)
theorem dX9_findOrders_106 : decode cX9_findOrders 106 = .ok (.getfield 135, 3) := dk_180 0 135 (dk_at dksX9_findOrders_4 13 rfl rfl)
theorem dX9_findOrders_109 : decode cX9_findOrders 109 = .ok (.iload_n 2, 1) := dk_28 (dk_at dksX9_findOrders_4 16 rfl rfl)
theorem dX9_findOrders_110 : decode cX9_findOrders 110 = .ok (.iload_n 2, 1) := dk_28 (dk_at dksX9_findOrders_4 17 rfl rfl)
theorem dX9_findOrders_111 : decode cX9_findOrders 111 = .ok (.iload_n 1, 1) := dk_27 (dk_at dksX9_findOrders_4 18 rfl rfl)
theorem dX9_findOrders_112 : decode cX9_findOrders 112 = .ok (.if_icmp .ne 7, 3) := dk_160 0 7 (dk_at dksX9_findOrders_4 19 rfl rfl)
theorem dX9_findOrders_115 : decode cX9_findOrders 115 = .ok (.iconst 1, 1) := dk_4 (dk_at dksX9_findOrders_4 22 rfl rfl)
theorem dX9_findOrders_116 : decode cX9_findOrders 116 = .ok (.goto 4, 3) := dk_167 0 4 (dk_at dksX9_findOrders_5 0 rfl rfl)
theorem dX9_findOrders_119 : decode cX9_findOrders 119 = .ok (.iconst 0, 1) := dk_3 (dk_at dksX9_findOrders_5 3 rfl rfl)
theorem dX9_findOrders_120 : decode cX9_findOrders 120 = .ok (.iastore, 1) := dk_79 (dk_at dksX9_findOrders_5 4 rfl rfl)
theorem dX9_findOrders_121 : decode cX9_findOrders 121 = .ok (.iconst 0, 1) := dk_3 (dk_at dksX9_findOrders_5 5 rfl rfl)
theorem dX9_findOrders_122 : decode cX9_findOrders 122 = .ok (.istore_n 3, 1) := dk_62 (dk_at dksX9_findOrders_5 6 rfl rfl)
theorem dX9_findOrders_123 : decode cX9_findOrders 123 = .ok (.iload_n 3, 1) := dk_29 (dk_at dksX9_findOrders_5 7 rfl rfl)
theorem dX9_findOrders_124 : decode cX9_findOrders 124 = .ok (.aload_n 0, 1) := dk_42 (dk_at dksX9_findOrders_5 8 rfl rfl)
theorem dX9_findOrders_125 : decode cX9_findOrders 125 = .ok (.getfield 13, 3) := dk_180 0 13 (dk_at dksX9_findOrders_5 9 rfl rfl)
theorem dX9_findOrders_128 : decode cX9_findOrders 128 = .ok (.iconst 0, 1) := dk_3 (dk_at dksX9_findOrders_5 12 rfl rfl)
theorem dX9_findOrders_129 : decode cX9_findOrders 129 = .ok (.iaload, 1) := dk_46 (dk_at dksX9_findOrders_5 13 rfl rfl)
theorem dX9_findOrders_130 : decode cX9_findOrders 130 = .ok (.if_icmp .ge 41, 3) := dk_162 0 41 (dk_at dksX9_findOrders_5 14 rfl rfl)
theorem dX9_findOrders_133 : decode cX9_findOrders 133 = .ok (.aload_n 0, 1) := dk_42 (dk_at dksX9_findOrders_5 17 rfl rfl)
theorem dX9_findOrders_134 : decode cX9_findOrders 134 = .ok (.getfield 135, 3) := dk_180 0 135 (dk_at dksX9_findOrders_5 18 rfl rfl)
theorem dX9_findOrders_137 : decode cX9_findOrders 137 = .ok (.iload_n 2, 1) := dk_28 (dk_at dksX9_findOrders_5 21 rfl rfl)
theorem dX9_findOrders_138 : decode cX9_findOrders 138 = .ok (.dup2, 1) := dk_92 (dk_at dksX9_findOrders_5 22 rfl rfl)
theorem dX9_findOrders_139 : decode cX9_findOrders 139 = .ok (.iaload, 1) := dk_46 (dk_at dksX9_findOrders_5 23 rfl rfl)
theorem dX9_findOrders_140 : decode cX9_findOrders 140 = .ok (.aload_n 0, 1) := dk_42 (dk_at dksX9_findOrders_6 0 rfl rfl)
theorem dX9_findOrders_141 : decode cX9_findOrders 141 = .ok (.iload_n 3, 1) := dk_29 (dk_at dksX9_findOrders_6 1 rfl rfl)
theorem dX9_findOrders_142 : decode cX9_findOrders 142 = .ok (.iload_n 2, 1) := dk_28 (dk_at dksX9_findOrders_6 2 rfl rfl)
theorem dX9_findOrders_143 : decode cX9_findOrders 143 = .ok (.invokevirtual 479, 3) := dk_182 1 223 (dk_at dksX9_findOrders_6 3 rfl rfl)
theorem dX9_findOrders_146 : decode cX9_findOrders 146 = .ok (.ifCond .eq 16, 3) := dk_153 0 16 (dk_at dksX9_findOrders_6 6 rfl rfl)
theorem dX9_findOrders_149 : decode cX9_findOrders 149 = .ok (.aload_n 0, 1) := dk_42 (dk_at dksX9_findOrders_6 9 rfl rfl)
theorem dX9_findOrders_150 : decode cX9_findOrders 150 = .ok (.getfield 135, 3) := dk_180 0 135 (dk_at dksX9_findOrders_6 10 rfl rfl)
theorem dX9_findOrders_153 : decode cX9_findOrders 153 = .ok (.iload_n 2, 1) := dk_28 (dk_at dksX9_findOrders_6 13 rfl rfl)
theorem dX9_findOrders_154 : decode cX9_findOrders 154 = .ok (.iconst 1, 1) := dk_4 (dk_at dksX9_findOrders_6 14 rfl rfl)
theorem dX9_findOrders_155 : decode cX9_findOrders 155 = .ok (.iload_n 3, 1) := dk_29 (dk_at dksX9_findOrders_6 15 rfl rfl)
theorem dX9_findOrders_156 : decode cX9_findOrders 156 = .ok (.ishl, 1) := dk_120 (dk_at dksX9_findOrders_6 16 rfl rfl)
theorem dX9_findOrders_157 : decode cX9_findOrders 157 = .ok (.ior, 1) := dk_128 (dk_at dksX9_findOrders_6 17 rfl rfl)
theorem dX9_findOrders_158 : decode cX9_findOrders 158 = .ok (.iaload, 1) := dk_46 (dk_at dksX9_findOrders_6 18 rfl rfl)
theorem dX9_findOrders_159 : decode cX9_findOrders 159 = .ok (.goto 4, 3) := dk_167 0 4 (dk_at dksX9_findOrders_6 19 rfl rfl)
theorem dX9_findOrders_162 : decode cX9_findOrders 162 = .ok (.iconst 0, 1) := dk_3 (dk_at dksX9_findOrders_6 22 rfl rfl)
theorem dX9_findOrders_163 : decode cX9_findOrders 163 = .ok (.iadd, 1) := dk_96 (dk_at dksX9_findOrders_6 23 rfl rfl)
theorem dX9_findOrders_164 : decode cX9_findOrders 164 = .ok (.iastore, 1) := dk_79 (dk_at dksX9_findOrders_7 0 rfl rfl)
theorem dX9_findOrders_165 : decode cX9_findOrders 165 = .ok (.iinc 3 1, 3) := dk_132 3 1 (dk_at dksX9_findOrders_7 1 rfl rfl)
theorem dX9_findOrders_168 : decode cX9_findOrders 168 = .ok (.goto (-45), 3) := dk_167 255 211 (dk_at dksX9_findOrders_7 4 rfl rfl)
theorem dX9_findOrders_171 : decode cX9_findOrders 171 = .ok (.iinc 2 (-1), 3) := dk_132 2 255 (dk_at dksX9_findOrders_7 7 rfl rfl)
theorem dX9_findOrders_174 : decode cX9_findOrders 174 = .ok (.goto (-73), 3) := dk_167 255 183 (dk_at dksX9_findOrders_7 10 rfl rfl)
theorem dX9_findOrders_177 : decode cX9_findOrders 177 = .ok (.return_, 1) := dk_177 (dk_at dksX9_findOrders_7 13 rfl rfl)
abbrev cX9_canPass : ByteArray := prog_23_method_98_code
def yX9_canPass : MethodName := ⟨RX9, "canPass", "(II)Z"⟩
def dkwX9_canPass_3 : List UInt8 := [167, 0, 4, 3, 62, 132, 4, 1, 167, 255, 195, 29, 172]
abbrev dktX9_canPass_3 : List UInt8 := dkwX9_canPass_3 ++ []
def dkwX9_canPass_2 : List UInt8 := [28, 42, 180, 0, 13, 16, 52, 5, 21, 4, 104, 96, 4, 96, 46, 184, 1, 179, 153, 0, 7, 4]
abbrev dktX9_canPass_2 : List UInt8 := dkwX9_canPass_2 ++ dktX9_canPass_3
def dkwX9_canPass_1 : List UInt8 := [46, 162, 0, 56, 29, 153, 0, 44, 42, 180, 0, 13, 16, 52, 5, 21, 4, 104, 96, 46, 27, 160, 0, 24]
abbrev dktX9_canPass_1 : List UInt8 := dkwX9_canPass_1 ++ dktX9_canPass_2
def dkwX9_canPass_0 : List UInt8 := [28, 27, 184, 1, 179, 154, 0, 7, 4, 167, 0, 4, 3, 62, 3, 54, 4, 21, 4, 42, 180, 0, 13, 7]
abbrev dktX9_canPass_0 : List UInt8 := dkwX9_canPass_0 ++ dktX9_canPass_1
theorem dksX9_canPass_0 : cX9_canPass.data.toList.drop 0 = dktX9_canPass_0 := by decide +kernel
theorem dksX9_canPass_1 : cX9_canPass.data.toList.drop 24 = dktX9_canPass_1 := dk_seg dksX9_canPass_0 24 rfl rfl
theorem dksX9_canPass_2 : cX9_canPass.data.toList.drop 48 = dktX9_canPass_2 := dk_seg dksX9_canPass_1 24 rfl rfl
theorem dksX9_canPass_3 : cX9_canPass.data.toList.drop 70 = dktX9_canPass_3 := dk_seg dksX9_canPass_2 22 rfl rfl
theorem dX9_canPass_0 : decode cX9_canPass 0 = .ok (.iload_n 2, 1) := dk_28 (dk_at dksX9_canPass_0 0 rfl rfl)
theorem dX9_canPass_1 : decode cX9_canPass 1 = .ok (.iload_n 1, 1) := dk_27 (dk_at dksX9_canPass_0 1 rfl rfl)
theorem dX9_canPass_2 : decode cX9_canPass 2 = .ok (.invokestatic 435, 3) := dk_184 1 179 (dk_at dksX9_canPass_0 2 rfl rfl)
theorem dX9_canPass_5 : decode cX9_canPass 5 = .ok (.ifCond .ne 7, 3) := dk_154 0 7 (dk_at dksX9_canPass_0 5 rfl rfl)
theorem dX9_canPass_8 : decode cX9_canPass 8 = .ok (.iconst 1, 1) := dk_4 (dk_at dksX9_canPass_0 8 rfl rfl)
theorem dX9_canPass_9 : decode cX9_canPass 9 = .ok (.goto 4, 3) := dk_167 0 4 (dk_at dksX9_canPass_0 9 rfl rfl)
theorem dX9_canPass_12 : decode cX9_canPass 12 = .ok (.iconst 0, 1) := dk_3 (dk_at dksX9_canPass_0 12 rfl rfl)
theorem dX9_canPass_13 : decode cX9_canPass 13 = .ok (.istore_n 3, 1) := dk_62 (dk_at dksX9_canPass_0 13 rfl rfl)
theorem dX9_canPass_14 : decode cX9_canPass 14 = .ok (.iconst 0, 1) := dk_3 (dk_at dksX9_canPass_0 14 rfl rfl)
theorem dX9_canPass_15 : decode cX9_canPass 15 = .ok (.istore 4, 2) := dk_54 4 (dk_at dksX9_canPass_0 15 rfl rfl)
theorem dX9_canPass_17 : decode cX9_canPass 17 = .ok (.iload 4, 2) := dk_21 4 (dk_at dksX9_canPass_0 17 rfl rfl)
theorem dX9_canPass_19 : decode cX9_canPass 19 = .ok (.aload_n 0, 1) := dk_42 (dk_at dksX9_canPass_0 19 rfl rfl)
theorem dX9_canPass_20 : decode cX9_canPass 20 = .ok (.getfield 13, 3) := dk_180 0 13 (dk_at dksX9_canPass_0 20 rfl rfl)
theorem dX9_canPass_23 : decode cX9_canPass 23 = .ok (.iconst 4, 1) := dk_7 (dk_at dksX9_canPass_0 23 rfl rfl)
theorem dX9_canPass_24 : decode cX9_canPass 24 = .ok (.iaload, 1) := dk_46 (dk_at dksX9_canPass_1 0 rfl rfl)
theorem dX9_canPass_25 : decode cX9_canPass 25 = .ok (.if_icmp .ge 56, 3) := dk_162 0 56 (dk_at dksX9_canPass_1 1 rfl rfl)
theorem dX9_canPass_28 : decode cX9_canPass 28 = .ok (.iload_n 3, 1) := dk_29 (dk_at dksX9_canPass_1 4 rfl rfl)
theorem dX9_canPass_29 : decode cX9_canPass 29 = .ok (.ifCond .eq 44, 3) := dk_153 0 44 (dk_at dksX9_canPass_1 5 rfl rfl)
theorem dX9_canPass_32 : decode cX9_canPass 32 = .ok (.aload_n 0, 1) := dk_42 (dk_at dksX9_canPass_1 8 rfl rfl)
theorem dX9_canPass_33 : decode cX9_canPass 33 = .ok (.getfield 13, 3) := dk_180 0 13 (dk_at dksX9_canPass_1 9 rfl rfl)
theorem dX9_canPass_36 : decode cX9_canPass 36 = .ok (.bipush 52, 2) := dk_16 52 (dk_at dksX9_canPass_1 12 rfl rfl)
theorem dX9_canPass_38 : decode cX9_canPass 38 = .ok (.iconst 2, 1) := dk_5 (dk_at dksX9_canPass_1 14 rfl rfl)
theorem dX9_canPass_39 : decode cX9_canPass 39 = .ok (.iload 4, 2) := dk_21 4 (dk_at dksX9_canPass_1 15 rfl rfl)
theorem dX9_canPass_41 : decode cX9_canPass 41 = .ok (.imul, 1) := dk_104 (dk_at dksX9_canPass_1 17 rfl rfl)
theorem dX9_canPass_42 : decode cX9_canPass 42 = .ok (.iadd, 1) := dk_96 (dk_at dksX9_canPass_1 18 rfl rfl)
theorem dX9_canPass_43 : decode cX9_canPass 43 = .ok (.iaload, 1) := dk_46 (dk_at dksX9_canPass_1 19 rfl rfl)
theorem dX9_canPass_44 : decode cX9_canPass 44 = .ok (.iload_n 1, 1) := dk_27 (dk_at dksX9_canPass_1 20 rfl rfl)
theorem dX9_canPass_45 : decode cX9_canPass 45 = .ok (.if_icmp .ne 24, 3) := dk_160 0 24 (dk_at dksX9_canPass_1 21 rfl rfl)
theorem dX9_canPass_48 : decode cX9_canPass 48 = .ok (.iload_n 2, 1) := dk_28 (dk_at dksX9_canPass_2 0 rfl rfl)
theorem dX9_canPass_49 : decode cX9_canPass 49 = .ok (.aload_n 0, 1) := dk_42 (dk_at dksX9_canPass_2 1 rfl rfl)
theorem dX9_canPass_50 : decode cX9_canPass 50 = .ok (.getfield 13, 3) := dk_180 0 13 (dk_at dksX9_canPass_2 2 rfl rfl)
theorem dX9_canPass_53 : decode cX9_canPass 53 = .ok (.bipush 52, 2) := dk_16 52 (dk_at dksX9_canPass_2 5 rfl rfl)
theorem dX9_canPass_55 : decode cX9_canPass 55 = .ok (.iconst 2, 1) := dk_5 (dk_at dksX9_canPass_2 7 rfl rfl)
theorem dX9_canPass_56 : decode cX9_canPass 56 = .ok (.iload 4, 2) := dk_21 4 (dk_at dksX9_canPass_2 8 rfl rfl)
theorem dX9_canPass_58 : decode cX9_canPass 58 = .ok (.imul, 1) := dk_104 (dk_at dksX9_canPass_2 10 rfl rfl)
theorem dX9_canPass_59 : decode cX9_canPass 59 = .ok (.iadd, 1) := dk_96 (dk_at dksX9_canPass_2 11 rfl rfl)
theorem dX9_canPass_60 : decode cX9_canPass 60 = .ok (.iconst 1, 1) := dk_4 (dk_at dksX9_canPass_2 12 rfl rfl)
theorem dX9_canPass_61 : decode cX9_canPass 61 = .ok (.iadd, 1) := dk_96 (dk_at dksX9_canPass_2 13 rfl rfl)
theorem dX9_canPass_62 : decode cX9_canPass 62 = .ok (.iaload, 1) := dk_46 (dk_at dksX9_canPass_2 14 rfl rfl)
theorem dX9_canPass_63 : decode cX9_canPass 63 = .ok (.invokestatic 435, 3) := dk_184 1 179 (dk_at dksX9_canPass_2 15 rfl rfl)
theorem dX9_canPass_66 : decode cX9_canPass 66 = .ok (.ifCond .eq 7, 3) := dk_153 0 7 (dk_at dksX9_canPass_2 18 rfl rfl)
theorem dX9_canPass_69 : decode cX9_canPass 69 = .ok (.iconst 1, 1) := dk_4 (dk_at dksX9_canPass_2 21 rfl rfl)
theorem dX9_canPass_70 : decode cX9_canPass 70 = .ok (.goto 4, 3) := dk_167 0 4 (dk_at dksX9_canPass_3 0 rfl rfl)
theorem dX9_canPass_73 : decode cX9_canPass 73 = .ok (.iconst 0, 1) := dk_3 (dk_at dksX9_canPass_3 3 rfl rfl)
theorem dX9_canPass_74 : decode cX9_canPass 74 = .ok (.istore_n 3, 1) := dk_62 (dk_at dksX9_canPass_3 4 rfl rfl)
theorem dX9_canPass_75 : decode cX9_canPass 75 = .ok (.iinc 4 1, 3) := dk_132 4 1 (dk_at dksX9_canPass_3 5 rfl rfl)
theorem dX9_canPass_78 : decode cX9_canPass 78 = .ok (.goto (-61), 3) := dk_167 255 195 (dk_at dksX9_canPass_3 8 rfl rfl)
theorem dX9_canPass_81 : decode cX9_canPass 81 = .ok (.iload_n 3, 1) := dk_29 (dk_at dksX9_canPass_3 11 rfl rfl)
theorem dX9_canPass_82 : decode cX9_canPass 82 = .ok (.ireturn, 1) := dk_172 (dk_at dksX9_canPass_3 12 rfl rfl)
abbrev cX9_sure : ByteArray := prog_23_method_101_code
def yX9_sure : MethodName := ⟨RX9, "sure", "(I)I"⟩
def dkwX9_sure_5 : List UInt8 := [54, 5, 21, 5, 28, 160, 0, 6, 21, 4, 172, 132, 4, 1, 167, 255, 167, 2, 172]
abbrev dktX9_sure_5 : List UInt8 := dkwX9_sure_5 ++ []
def dkwX9_sure_4 : List UInt8 := [182, 1, 223, 153, 0, 19, 42, 180, 0, 132, 29, 4, 21, 4, 120, 2, 130, 126, 46, 167, 0, 4, 3]
abbrev dktX9_sure_4 : List UInt8 := dkwX9_sure_4 ++ dktX9_sure_5
def dkwX9_sure_3 : List UInt8 := [21, 4, 120, 46, 167, 0, 41, 3, 167, 0, 37, 42, 21, 4, 29, 4, 21, 4, 120, 2, 130, 126]
abbrev dktX9_sure_3 : List UInt8 := dkwX9_sure_3 ++ dktX9_sure_4
def dkwX9_sure_2 : List UInt8 := [46, 162, 0, 84, 27, 154, 0, 29, 42, 21, 4, 3, 182, 1, 223, 153, 0, 15, 42, 180, 0, 135, 4]
abbrev dktX9_sure_2 : List UInt8 := dkwX9_sure_2 ++ dktX9_sure_3
def dkwX9_sure_1 : List UInt8 := [153, 0, 7, 28, 154, 0, 5, 2, 172, 42, 182, 1, 204, 62, 3, 54, 4, 21, 4, 42, 180, 0, 13, 3]
abbrev dktX9_sure_1 : List UInt8 := dkwX9_sure_1 ++ dktX9_sure_2
def dkwX9_sure_0 : List UInt8 := [42, 3, 181, 0, 150, 42, 182, 1, 226, 42, 180, 0, 135, 3, 46, 61, 27, 133, 9, 10, 184, 0, 160]
abbrev dktX9_sure_0 : List UInt8 := dkwX9_sure_0 ++ dktX9_sure_1
theorem dksX9_sure_0 : cX9_sure.data.toList.drop 0 = dktX9_sure_0 := by decide +kernel
theorem dksX9_sure_1 : cX9_sure.data.toList.drop 23 = dktX9_sure_1 := dk_seg dksX9_sure_0 23 rfl rfl
theorem dksX9_sure_2 : cX9_sure.data.toList.drop 47 = dktX9_sure_2 := dk_seg dksX9_sure_1 24 rfl rfl
theorem dksX9_sure_3 : cX9_sure.data.toList.drop 70 = dktX9_sure_3 := dk_seg dksX9_sure_2 23 rfl rfl
theorem dksX9_sure_4 : cX9_sure.data.toList.drop 92 = dktX9_sure_4 := dk_seg dksX9_sure_3 22 rfl rfl
theorem dksX9_sure_5 : cX9_sure.data.toList.drop 115 = dktX9_sure_5 := dk_seg dksX9_sure_4 23 rfl rfl
theorem dX9_sure_0 : decode cX9_sure 0 = .ok (.aload_n 0, 1) := dk_42 (dk_at dksX9_sure_0 0 rfl rfl)
theorem dX9_sure_1 : decode cX9_sure 1 = .ok (.iconst 0, 1) := dk_3 (dk_at dksX9_sure_0 1 rfl rfl)
theorem dX9_sure_2 : decode cX9_sure 2 = .ok (.putfield 150, 3) := dk_181 0 150 (dk_at dksX9_sure_0 2 rfl rfl)
theorem dX9_sure_5 : decode cX9_sure 5 = .ok (.aload_n 0, 1) := dk_42 (dk_at dksX9_sure_0 5 rfl rfl)
theorem dX9_sure_6 : decode cX9_sure 6 = .ok (.invokevirtual 482, 3) := dk_182 1 226 (dk_at dksX9_sure_0 6 rfl rfl)
theorem dX9_sure_9 : decode cX9_sure 9 = .ok (.aload_n 0, 1) := dk_42 (dk_at dksX9_sure_0 9 rfl rfl)
theorem dX9_sure_10 : decode cX9_sure 10 = .ok (.getfield 135, 3) := dk_180 0 135 (dk_at dksX9_sure_0 10 rfl rfl)
theorem dX9_sure_13 : decode cX9_sure 13 = .ok (.iconst 0, 1) := dk_3 (dk_at dksX9_sure_0 13 rfl rfl)
theorem dX9_sure_14 : decode cX9_sure 14 = .ok (.iaload, 1) := dk_46 (dk_at dksX9_sure_0 14 rfl rfl)
theorem dX9_sure_15 : decode cX9_sure 15 = .ok (.istore_n 2, 1) := dk_61 (dk_at dksX9_sure_0 15 rfl rfl)
theorem dX9_sure_16 : decode cX9_sure 16 = .ok (.iload_n 1, 1) := dk_27 (dk_at dksX9_sure_0 16 rfl rfl)
theorem dX9_sure_17 : decode cX9_sure 17 = .ok (.i2l, 1) := dk_133 (dk_at dksX9_sure_0 17 rfl rfl)
theorem dX9_sure_18 : decode cX9_sure 18 = .ok (.lconst 0, 1) := dk_9 (dk_at dksX9_sure_0 18 rfl rfl)
theorem dX9_sure_19 : decode cX9_sure 19 = .ok (.lconst 1, 1) := dk_10 (dk_at dksX9_sure_0 19 rfl rfl)
theorem dX9_sure_20 : decode cX9_sure 20 = .ok (.invokestatic 160, 3) := dk_184 0 160 (dk_at dksX9_sure_0 20 rfl rfl)
theorem dX9_sure_23 : decode cX9_sure 23 = .ok (.ifCond .eq 7, 3) := dk_153 0 7 (dk_at dksX9_sure_1 0 rfl rfl)
theorem dX9_sure_26 : decode cX9_sure 26 = .ok (.iload_n 2, 1) := dk_28 (dk_at dksX9_sure_1 3 rfl rfl)
theorem dX9_sure_27 : decode cX9_sure 27 = .ok (.ifCond .ne 5, 3) := dk_154 0 5 (dk_at dksX9_sure_1 4 rfl rfl)
theorem dX9_sure_30 : decode cX9_sure 30 = .ok (.iconst (-1), 1) := dk_2 (dk_at dksX9_sure_1 7 rfl rfl)
theorem dX9_sure_31 : decode cX9_sure 31 = .ok (.ireturn, 1) := dk_172 (dk_at dksX9_sure_1 8 rfl rfl)
theorem dX9_sure_32 : decode cX9_sure 32 = .ok (.aload_n 0, 1) := dk_42 (dk_at dksX9_sure_1 9 rfl rfl)
theorem dX9_sure_33 : decode cX9_sure 33 = .ok (.invokevirtual 460, 3) := dk_182 1 204 (dk_at dksX9_sure_1 10 rfl rfl)
theorem dX9_sure_36 : decode cX9_sure 36 = .ok (.istore_n 3, 1) := dk_62 (dk_at dksX9_sure_1 13 rfl rfl)
theorem dX9_sure_37 : decode cX9_sure 37 = .ok (.iconst 0, 1) := dk_3 (dk_at dksX9_sure_1 14 rfl rfl)
theorem dX9_sure_38 : decode cX9_sure 38 = .ok (.istore 4, 2) := dk_54 4 (dk_at dksX9_sure_1 15 rfl rfl)
theorem dX9_sure_40 : decode cX9_sure 40 = .ok (.iload 4, 2) := dk_21 4 (dk_at dksX9_sure_1 17 rfl rfl)
theorem dX9_sure_42 : decode cX9_sure 42 = .ok (.aload_n 0, 1) := dk_42 (dk_at dksX9_sure_1 19 rfl rfl)
theorem dX9_sure_43 : decode cX9_sure 43 = .ok (.getfield 13, 3) := dk_180 0 13 (dk_at dksX9_sure_1 20 rfl rfl)
theorem dX9_sure_46 : decode cX9_sure 46 = .ok (.iconst 0, 1) := dk_3 (dk_at dksX9_sure_1 23 rfl rfl)
theorem dX9_sure_47 : decode cX9_sure 47 = .ok (.iaload, 1) := dk_46 (dk_at dksX9_sure_2 0 rfl rfl)
theorem dX9_sure_48 : decode cX9_sure 48 = .ok (.if_icmp .ge 84, 3) := dk_162 0 84 (dk_at dksX9_sure_2 1 rfl rfl)
theorem dX9_sure_51 : decode cX9_sure 51 = .ok (.iload_n 1, 1) := dk_27 (dk_at dksX9_sure_2 4 rfl rfl)
theorem dX9_sure_52 : decode cX9_sure 52 = .ok (.ifCond .ne 29, 3) := dk_154 0 29 (dk_at dksX9_sure_2 5 rfl rfl)
theorem dX9_sure_55 : decode cX9_sure 55 = .ok (.aload_n 0, 1) := dk_42 (dk_at dksX9_sure_2 8 rfl rfl)
theorem dX9_sure_56 : decode cX9_sure 56 = .ok (.iload 4, 2) := dk_21 4 (dk_at dksX9_sure_2 9 rfl rfl)
theorem dX9_sure_58 : decode cX9_sure 58 = .ok (.iconst 0, 1) := dk_3 (dk_at dksX9_sure_2 11 rfl rfl)
theorem dX9_sure_59 : decode cX9_sure 59 = .ok (.invokevirtual 479, 3) := dk_182 1 223 (dk_at dksX9_sure_2 12 rfl rfl)
theorem dX9_sure_62 : decode cX9_sure 62 = .ok (.ifCond .eq 15, 3) := dk_153 0 15 (dk_at dksX9_sure_2 15 rfl rfl)
theorem dX9_sure_65 : decode cX9_sure 65 = .ok (.aload_n 0, 1) := dk_42 (dk_at dksX9_sure_2 18 rfl rfl)
theorem dX9_sure_66 : decode cX9_sure 66 = .ok (.getfield 135, 3) := dk_180 0 135 (dk_at dksX9_sure_2 19 rfl rfl)
theorem dX9_sure_69 : decode cX9_sure 69 = .ok (.iconst 1, 1) := dk_4 (dk_at dksX9_sure_2 22 rfl rfl)
theorem dX9_sure_70 : decode cX9_sure 70 = .ok (.iload 4, 2) := dk_21 4 (dk_at dksX9_sure_3 0 rfl rfl)
theorem dX9_sure_72 : decode cX9_sure 72 = .ok (.ishl, 1) := dk_120 (dk_at dksX9_sure_3 2 rfl rfl)
theorem dX9_sure_73 : decode cX9_sure 73 = .ok (.iaload, 1) := dk_46 (dk_at dksX9_sure_3 3 rfl rfl)
theorem dX9_sure_74 : decode cX9_sure 74 = .ok (.goto 41, 3) := dk_167 0 41 (dk_at dksX9_sure_3 4 rfl rfl)
theorem dX9_sure_77 : decode cX9_sure 77 = .ok (.iconst 0, 1) := dk_3 (dk_at dksX9_sure_3 7 rfl rfl)
theorem dX9_sure_78 : decode cX9_sure 78 = .ok (.goto 37, 3) := dk_167 0 37 (dk_at dksX9_sure_3 8 rfl rfl)
theorem dX9_sure_81 : decode cX9_sure 81 = .ok (.aload_n 0, 1) := dk_42 (dk_at dksX9_sure_3 11 rfl rfl)
theorem dX9_sure_82 : decode cX9_sure 82 = .ok (.iload 4, 2) := dk_21 4 (dk_at dksX9_sure_3 12 rfl rfl)
theorem dX9_sure_84 : decode cX9_sure 84 = .ok (.iload_n 3, 1) := dk_29 (dk_at dksX9_sure_3 14 rfl rfl)
theorem dX9_sure_85 : decode cX9_sure 85 = .ok (.iconst 1, 1) := dk_4 (dk_at dksX9_sure_3 15 rfl rfl)
theorem dX9_sure_86 : decode cX9_sure 86 = .ok (.iload 4, 2) := dk_21 4 (dk_at dksX9_sure_3 16 rfl rfl)
theorem dX9_sure_88 : decode cX9_sure 88 = .ok (.ishl, 1) := dk_120 (dk_at dksX9_sure_3 18 rfl rfl)
theorem dX9_sure_89 : decode cX9_sure 89 = .ok (.iconst (-1), 1) := dk_2 (dk_at dksX9_sure_3 19 rfl rfl)
theorem dX9_sure_90 : decode cX9_sure 90 = .ok (.ixor, 1) := dk_130 (dk_at dksX9_sure_3 20 rfl rfl)
theorem dX9_sure_91 : decode cX9_sure 91 = .ok (.iand, 1) := dk_126 (dk_at dksX9_sure_3 21 rfl rfl)
theorem dX9_sure_92 : decode cX9_sure 92 = .ok (.invokevirtual 479, 3) := dk_182 1 223 (dk_at dksX9_sure_4 0 rfl rfl)
theorem dX9_sure_95 : decode cX9_sure 95 = .ok (.ifCond .eq 19, 3) := dk_153 0 19 (dk_at dksX9_sure_4 3 rfl rfl)
theorem dX9_sure_98 : decode cX9_sure 98 = .ok (.aload_n 0, 1) := dk_42 (dk_at dksX9_sure_4 6 rfl rfl)
theorem dX9_sure_99 : decode cX9_sure 99 = .ok (.getfield 132, 3) := dk_180 0 132 (dk_at dksX9_sure_4 7 rfl rfl)
theorem dX9_sure_102 : decode cX9_sure 102 = .ok (.iload_n 3, 1) := dk_29 (dk_at dksX9_sure_4 10 rfl rfl)
theorem dX9_sure_103 : decode cX9_sure 103 = .ok (.iconst 1, 1) := dk_4 (dk_at dksX9_sure_4 11 rfl rfl)
theorem dX9_sure_104 : decode cX9_sure 104 = .ok (.iload 4, 2) := dk_21 4 (dk_at dksX9_sure_4 12 rfl rfl)
theorem dX9_sure_106 : decode cX9_sure 106 = .ok (.ishl, 1) := dk_120 (dk_at dksX9_sure_4 14 rfl rfl)
theorem dX9_sure_107 : decode cX9_sure 107 = .ok (.iconst (-1), 1) := dk_2 (dk_at dksX9_sure_4 15 rfl rfl)
theorem dX9_sure_108 : decode cX9_sure 108 = .ok (.ixor, 1) := dk_130 (dk_at dksX9_sure_4 16 rfl rfl)
theorem dX9_sure_109 : decode cX9_sure 109 = .ok (.iand, 1) := dk_126 (dk_at dksX9_sure_4 17 rfl rfl)
theorem dX9_sure_110 : decode cX9_sure 110 = .ok (.iaload, 1) := dk_46 (dk_at dksX9_sure_4 18 rfl rfl)
theorem dX9_sure_111 : decode cX9_sure 111 = .ok (.goto 4, 3) := dk_167 0 4 (dk_at dksX9_sure_4 19 rfl rfl)
theorem dX9_sure_114 : decode cX9_sure 114 = .ok (.iconst 0, 1) := dk_3 (dk_at dksX9_sure_4 22 rfl rfl)
theorem dX9_sure_115 : decode cX9_sure 115 = .ok (.istore 5, 2) := dk_54 5 (dk_at dksX9_sure_5 0 rfl rfl)
theorem dX9_sure_117 : decode cX9_sure 117 = .ok (.iload 5, 2) := dk_21 5 (dk_at dksX9_sure_5 2 rfl rfl)
theorem dX9_sure_119 : decode cX9_sure 119 = .ok (.iload_n 2, 1) := dk_28 (dk_at dksX9_sure_5 4 rfl rfl)
theorem dX9_sure_120 : decode cX9_sure 120 = .ok (.if_icmp .ne 6, 3) := dk_160 0 6 (dk_at dksX9_sure_5 5 rfl rfl)
theorem dX9_sure_123 : decode cX9_sure 123 = .ok (.iload 4, 2) := dk_21 4 (dk_at dksX9_sure_5 8 rfl rfl)
theorem dX9_sure_125 : decode cX9_sure 125 = .ok (.ireturn, 1) := dk_172 (dk_at dksX9_sure_5 10 rfl rfl)
theorem dX9_sure_126 : decode cX9_sure 126 = .ok (.iinc 4 1, 3) := dk_132 4 1 (dk_at dksX9_sure_5 11 rfl rfl)
theorem dX9_sure_129 : decode cX9_sure 129 = .ok (.goto (-89), 3) := dk_167 255 167 (dk_at dksX9_sure_5 14 rfl rfl)
theorem dX9_sure_132 : decode cX9_sure 132 = .ok (.iconst (-1), 1) := dk_2 (dk_at dksX9_sure_5 17 rfl rfl)
theorem dX9_sure_133 : decode cX9_sure 133 = .ok (.ireturn, 1) := dk_172 (dk_at dksX9_sure_5 18 rfl rfl)
abbrev cX9_ahead : ByteArray := prog_23_method_102_code
def yX9_ahead : MethodName := ⟨RX9, "ahead", "(II)I"⟩
def dkwX9_ahead_8 : List UInt8 := [172]
abbrev dktX9_ahead_8 : List UInt8 := dkwX9_ahead_8 ++ []
def dkwX9_ahead_7 : List UInt8 := [167, 0, 4, 3, 96, 79, 132, 5, 1, 167, 255, 147, 132, 4, 1, 167, 255, 115, 42, 180, 0, 138, 29, 46]
abbrev dktX9_ahead_7 : List UInt8 := dkwX9_ahead_7 ++ dktX9_ahead_8
def dkwX9_ahead_6 : List UInt8 := [21, 4, 92, 46, 21, 6, 153, 0, 20, 42, 180, 0, 138, 21, 4, 4, 21, 5, 120, 2, 130, 126, 46]
abbrev dktX9_ahead_6 : List UInt8 := dkwX9_ahead_6 ++ dktX9_ahead_7
def dkwX9_ahead_5 : List UInt8 := [160, 0, 12, 21, 4, 27, 184, 1, 179, 153, 0, 7, 4, 167, 0, 4, 3, 54, 6, 42, 180, 0, 138]
abbrev dktX9_ahead_5 : List UInt8 := dkwX9_ahead_5 ++ dktX9_ahead_6
def dkwX9_ahead_4 : List UInt8 := [126, 182, 1, 223, 153, 0, 7, 4, 167, 0, 4, 3, 54, 6, 21, 6, 153, 0, 22, 21, 5, 28]
abbrev dktX9_ahead_4 : List UInt8 := dkwX9_ahead_4 ++ dktX9_ahead_5
def dkwX9_ahead_3 : List UInt8 := [162, 0, 104, 21, 4, 21, 5, 184, 1, 179, 153, 0, 25, 42, 21, 5, 21, 4, 4, 21, 5, 120, 2, 130]
abbrev dktX9_ahead_3 : List UInt8 := dkwX9_ahead_3 ++ dktX9_ahead_4
def dkwX9_ahead_2 : List UInt8 := [21, 4, 21, 4, 154, 0, 7, 4, 167, 0, 4, 3, 79, 3, 54, 5, 21, 5, 42, 180, 0, 13, 3, 46]
abbrev dktX9_ahead_2 : List UInt8 := dkwX9_ahead_2 ++ dktX9_ahead_3
def dkwX9_ahead_1 : List UInt8 := [160, 0, 5, 2, 172, 42, 182, 1, 204, 62, 3, 54, 4, 21, 4, 29, 163, 0, 141, 42, 180, 0, 138]
abbrev dktX9_ahead_1 : List UInt8 := dkwX9_ahead_1 ++ dktX9_ahead_2
def dkwX9_ahead_0 : List UInt8 := [42, 3, 181, 0, 150, 42, 27, 182, 0, 197, 153, 0, 16, 42, 28, 182, 0, 197, 153, 0, 8, 27, 28]
abbrev dktX9_ahead_0 : List UInt8 := dkwX9_ahead_0 ++ dktX9_ahead_1
theorem dksX9_ahead_0 : cX9_ahead.data.toList.drop 0 = dktX9_ahead_0 := by decide +kernel
theorem dksX9_ahead_1 : cX9_ahead.data.toList.drop 23 = dktX9_ahead_1 := dk_seg dksX9_ahead_0 23 rfl rfl
theorem dksX9_ahead_2 : cX9_ahead.data.toList.drop 46 = dktX9_ahead_2 := dk_seg dksX9_ahead_1 23 rfl rfl
theorem dksX9_ahead_3 : cX9_ahead.data.toList.drop 70 = dktX9_ahead_3 := dk_seg dksX9_ahead_2 24 rfl rfl
theorem dksX9_ahead_4 : cX9_ahead.data.toList.drop 94 = dktX9_ahead_4 := dk_seg dksX9_ahead_3 24 rfl rfl
theorem dksX9_ahead_5 : cX9_ahead.data.toList.drop 116 = dktX9_ahead_5 := dk_seg dksX9_ahead_4 22 rfl rfl
theorem dksX9_ahead_6 : cX9_ahead.data.toList.drop 139 = dktX9_ahead_6 := dk_seg dksX9_ahead_5 23 rfl rfl
theorem dksX9_ahead_7 : cX9_ahead.data.toList.drop 162 = dktX9_ahead_7 := dk_seg dksX9_ahead_6 23 rfl rfl
theorem dksX9_ahead_8 : cX9_ahead.data.toList.drop 186 = dktX9_ahead_8 := dk_seg dksX9_ahead_7 24 rfl rfl
theorem dX9_ahead_0 : decode cX9_ahead 0 = .ok (.aload_n 0, 1) := dk_42 (dk_at dksX9_ahead_0 0 rfl rfl)
theorem dX9_ahead_1 : decode cX9_ahead 1 = .ok (.iconst 0, 1) := dk_3 (dk_at dksX9_ahead_0 1 rfl rfl)
theorem dX9_ahead_2 : decode cX9_ahead 2 = .ok (.putfield 150, 3) := dk_181 0 150 (dk_at dksX9_ahead_0 2 rfl rfl)
theorem dX9_ahead_5 : decode cX9_ahead 5 = .ok (.aload_n 0, 1) := dk_42 (dk_at dksX9_ahead_0 5 rfl rfl)
theorem dX9_ahead_6 : decode cX9_ahead 6 = .ok (.iload_n 1, 1) := dk_27 (dk_at dksX9_ahead_0 6 rfl rfl)
theorem dX9_ahead_7 : decode cX9_ahead 7 = .ok (.invokevirtual 197, 3) := dk_182 0 197 (dk_at dksX9_ahead_0 7 rfl rfl)
theorem dX9_ahead_10 : decode cX9_ahead 10 = .ok (.ifCond .eq 16, 3) := dk_153 0 16 (dk_at dksX9_ahead_0 10 rfl rfl)
theorem dX9_ahead_13 : decode cX9_ahead 13 = .ok (.aload_n 0, 1) := dk_42 (dk_at dksX9_ahead_0 13 rfl rfl)
theorem dX9_ahead_14 : decode cX9_ahead 14 = .ok (.iload_n 2, 1) := dk_28 (dk_at dksX9_ahead_0 14 rfl rfl)
theorem dX9_ahead_15 : decode cX9_ahead 15 = .ok (.invokevirtual 197, 3) := dk_182 0 197 (dk_at dksX9_ahead_0 15 rfl rfl)
theorem dX9_ahead_18 : decode cX9_ahead 18 = .ok (.ifCond .eq 8, 3) := dk_153 0 8 (dk_at dksX9_ahead_0 18 rfl rfl)
theorem dX9_ahead_21 : decode cX9_ahead 21 = .ok (.iload_n 1, 1) := dk_27 (dk_at dksX9_ahead_0 21 rfl rfl)
theorem dX9_ahead_22 : decode cX9_ahead 22 = .ok (.iload_n 2, 1) := dk_28 (dk_at dksX9_ahead_0 22 rfl rfl)
theorem dX9_ahead_23 : decode cX9_ahead 23 = .ok (.if_icmp .ne 5, 3) := dk_160 0 5 (dk_at dksX9_ahead_1 0 rfl rfl)
theorem dX9_ahead_26 : decode cX9_ahead 26 = .ok (.iconst (-1), 1) := dk_2 (dk_at dksX9_ahead_1 3 rfl rfl)
theorem dX9_ahead_27 : decode cX9_ahead 27 = .ok (.ireturn, 1) := dk_172 (dk_at dksX9_ahead_1 4 rfl rfl)
theorem dX9_ahead_28 : decode cX9_ahead 28 = .ok (.aload_n 0, 1) := dk_42 (dk_at dksX9_ahead_1 5 rfl rfl)
theorem dX9_ahead_29 : decode cX9_ahead 29 = .ok (.invokevirtual 460, 3) := dk_182 1 204 (dk_at dksX9_ahead_1 6 rfl rfl)
theorem dX9_ahead_32 : decode cX9_ahead 32 = .ok (.istore_n 3, 1) := dk_62 (dk_at dksX9_ahead_1 9 rfl rfl)
theorem dX9_ahead_33 : decode cX9_ahead 33 = .ok (.iconst 0, 1) := dk_3 (dk_at dksX9_ahead_1 10 rfl rfl)
theorem dX9_ahead_34 : decode cX9_ahead 34 = .ok (.istore 4, 2) := dk_54 4 (dk_at dksX9_ahead_1 11 rfl rfl)
theorem dX9_ahead_36 : decode cX9_ahead 36 = .ok (.iload 4, 2) := dk_21 4 (dk_at dksX9_ahead_1 13 rfl rfl)
theorem dX9_ahead_38 : decode cX9_ahead 38 = .ok (.iload_n 3, 1) := dk_29 (dk_at dksX9_ahead_1 15 rfl rfl)
theorem dX9_ahead_39 : decode cX9_ahead 39 = .ok (.if_icmp .gt 141, 3) := dk_163 0 141 (dk_at dksX9_ahead_1 16 rfl rfl)
theorem dX9_ahead_42 : decode cX9_ahead 42 = .ok (.aload_n 0, 1) := dk_42 (dk_at dksX9_ahead_1 19 rfl rfl)
theorem dX9_ahead_43 : decode cX9_ahead 43 = .ok (.getfield 138, 3) := dk_180 0 138 (dk_at dksX9_ahead_1 20 rfl rfl)
theorem dX9_ahead_46 : decode cX9_ahead 46 = .ok (.iload 4, 2) := dk_21 4 (dk_at dksX9_ahead_2 0 rfl rfl)
theorem dX9_ahead_48 : decode cX9_ahead 48 = .ok (.iload 4, 2) := dk_21 4 (dk_at dksX9_ahead_2 2 rfl rfl)
theorem dX9_ahead_50 : decode cX9_ahead 50 = .ok (.ifCond .ne 7, 3) := dk_154 0 7 (dk_at dksX9_ahead_2 4 rfl rfl)
theorem dX9_ahead_53 : decode cX9_ahead 53 = .ok (.iconst 1, 1) := dk_4 (dk_at dksX9_ahead_2 7 rfl rfl)
theorem dX9_ahead_54 : decode cX9_ahead 54 = .ok (.goto 4, 3) := dk_167 0 4 (dk_at dksX9_ahead_2 8 rfl rfl)
theorem dX9_ahead_57 : decode cX9_ahead 57 = .ok (.iconst 0, 1) := dk_3 (dk_at dksX9_ahead_2 11 rfl rfl)
theorem dX9_ahead_58 : decode cX9_ahead 58 = .ok (.iastore, 1) := dk_79 (dk_at dksX9_ahead_2 12 rfl rfl)
theorem dX9_ahead_59 : decode cX9_ahead 59 = .ok (.iconst 0, 1) := dk_3 (dk_at dksX9_ahead_2 13 rfl rfl)
theorem dX9_ahead_60 : decode cX9_ahead 60 = .ok (.istore 5, 2) := dk_54 5 (dk_at dksX9_ahead_2 14 rfl rfl)
theorem dX9_ahead_62 : decode cX9_ahead 62 = .ok (.iload 5, 2) := dk_21 5 (dk_at dksX9_ahead_2 16 rfl rfl)
theorem dX9_ahead_64 : decode cX9_ahead 64 = .ok (.aload_n 0, 1) := dk_42 (dk_at dksX9_ahead_2 18 rfl rfl)
theorem dX9_ahead_65 : decode cX9_ahead 65 = .ok (.getfield 13, 3) := dk_180 0 13 (dk_at dksX9_ahead_2 19 rfl rfl)
theorem dX9_ahead_68 : decode cX9_ahead 68 = .ok (.iconst 0, 1) := dk_3 (dk_at dksX9_ahead_2 22 rfl rfl)
theorem dX9_ahead_69 : decode cX9_ahead 69 = .ok (.iaload, 1) := dk_46 (dk_at dksX9_ahead_2 23 rfl rfl)
theorem dX9_ahead_70 : decode cX9_ahead 70 = .ok (.if_icmp .ge 104, 3) := dk_162 0 104 (dk_at dksX9_ahead_3 0 rfl rfl)
theorem dX9_ahead_73 : decode cX9_ahead 73 = .ok (.iload 4, 2) := dk_21 4 (dk_at dksX9_ahead_3 3 rfl rfl)
theorem dX9_ahead_75 : decode cX9_ahead 75 = .ok (.iload 5, 2) := dk_21 5 (dk_at dksX9_ahead_3 5 rfl rfl)
theorem dX9_ahead_77 : decode cX9_ahead 77 = .ok (.invokestatic 435, 3) := dk_184 1 179 (dk_at dksX9_ahead_3 7 rfl rfl)
theorem dX9_ahead_80 : decode cX9_ahead 80 = .ok (.ifCond .eq 25, 3) := dk_153 0 25 (dk_at dksX9_ahead_3 10 rfl rfl)
theorem dX9_ahead_83 : decode cX9_ahead 83 = .ok (.aload_n 0, 1) := dk_42 (dk_at dksX9_ahead_3 13 rfl rfl)
theorem dX9_ahead_84 : decode cX9_ahead 84 = .ok (.iload 5, 2) := dk_21 5 (dk_at dksX9_ahead_3 14 rfl rfl)
theorem dX9_ahead_86 : decode cX9_ahead 86 = .ok (.iload 4, 2) := dk_21 4 (dk_at dksX9_ahead_3 16 rfl rfl)
theorem dX9_ahead_88 : decode cX9_ahead 88 = .ok (.iconst 1, 1) := dk_4 (dk_at dksX9_ahead_3 18 rfl rfl)
theorem dX9_ahead_89 : decode cX9_ahead 89 = .ok (.iload 5, 2) := dk_21 5 (dk_at dksX9_ahead_3 19 rfl rfl)
theorem dX9_ahead_91 : decode cX9_ahead 91 = .ok (.ishl, 1) := dk_120 (dk_at dksX9_ahead_3 21 rfl rfl)
theorem dX9_ahead_92 : decode cX9_ahead 92 = .ok (.iconst (-1), 1) := dk_2 (dk_at dksX9_ahead_3 22 rfl rfl)
theorem dX9_ahead_93 : decode cX9_ahead 93 = .ok (.ixor, 1) := dk_130 (dk_at dksX9_ahead_3 23 rfl rfl)
theorem dX9_ahead_94 : decode cX9_ahead 94 = .ok (.iand, 1) := dk_126 (dk_at dksX9_ahead_4 0 rfl rfl)
theorem dX9_ahead_95 : decode cX9_ahead 95 = .ok (.invokevirtual 479, 3) := dk_182 1 223 (dk_at dksX9_ahead_4 1 rfl rfl)
theorem dX9_ahead_98 : decode cX9_ahead 98 = .ok (.ifCond .eq 7, 3) := dk_153 0 7 (dk_at dksX9_ahead_4 4 rfl rfl)
theorem dX9_ahead_101 : decode cX9_ahead 101 = .ok (.iconst 1, 1) := dk_4 (dk_at dksX9_ahead_4 7 rfl rfl)
theorem dX9_ahead_102 : decode cX9_ahead 102 = .ok (.goto 4, 3) := dk_167 0 4 (dk_at dksX9_ahead_4 8 rfl rfl)
theorem dX9_ahead_105 : decode cX9_ahead 105 = .ok (.iconst 0, 1) := dk_3 (dk_at dksX9_ahead_4 11 rfl rfl)
theorem dX9_ahead_106 : decode cX9_ahead 106 = .ok (.istore 6, 2) := dk_54 6 (dk_at dksX9_ahead_4 12 rfl rfl)
theorem dX9_ahead_108 : decode cX9_ahead 108 = .ok (.iload 6, 2) := dk_21 6 (dk_at dksX9_ahead_4 14 rfl rfl)
theorem dX9_ahead_110 : decode cX9_ahead 110 = .ok (.ifCond .eq 22, 3) := dk_153 0 22 (dk_at dksX9_ahead_4 16 rfl rfl)
theorem dX9_ahead_113 : decode cX9_ahead 113 = .ok (.iload 5, 2) := dk_21 5 (dk_at dksX9_ahead_4 19 rfl rfl)
theorem dX9_ahead_115 : decode cX9_ahead 115 = .ok (.iload_n 2, 1) := dk_28 (dk_at dksX9_ahead_4 21 rfl rfl)
theorem dX9_ahead_116 : decode cX9_ahead 116 = .ok (.if_icmp .ne 12, 3) := dk_160 0 12 (dk_at dksX9_ahead_5 0 rfl rfl)
theorem dX9_ahead_119 : decode cX9_ahead 119 = .ok (.iload 4, 2) := dk_21 4 (dk_at dksX9_ahead_5 3 rfl rfl)
theorem dX9_ahead_121 : decode cX9_ahead 121 = .ok (.iload_n 1, 1) := dk_27 (dk_at dksX9_ahead_5 5 rfl rfl)
theorem dX9_ahead_122 : decode cX9_ahead 122 = .ok (.invokestatic 435, 3) := dk_184 1 179 (dk_at dksX9_ahead_5 6 rfl rfl)
theorem dX9_ahead_125 : decode cX9_ahead 125 = .ok (.ifCond .eq 7, 3) := dk_153 0 7 (dk_at dksX9_ahead_5 9 rfl rfl)
theorem dX9_ahead_128 : decode cX9_ahead 128 = .ok (.iconst 1, 1) := dk_4 (dk_at dksX9_ahead_5 12 rfl rfl)
theorem dX9_ahead_129 : decode cX9_ahead 129 = .ok (.goto 4, 3) := dk_167 0 4 (dk_at dksX9_ahead_5 13 rfl rfl)
theorem dX9_ahead_132 : decode cX9_ahead 132 = .ok (.iconst 0, 1) := dk_3 (dk_at dksX9_ahead_5 16 rfl rfl)
theorem dX9_ahead_133 : decode cX9_ahead 133 = .ok (.istore 6, 2) := dk_54 6 (dk_at dksX9_ahead_5 17 rfl rfl)
theorem dX9_ahead_135 : decode cX9_ahead 135 = .ok (.aload_n 0, 1) := dk_42 (dk_at dksX9_ahead_5 19 rfl rfl)
theorem dX9_ahead_136 : decode cX9_ahead 136 = .ok (.getfield 138, 3) := dk_180 0 138 (dk_at dksX9_ahead_5 20 rfl rfl)
theorem dX9_ahead_139 : decode cX9_ahead 139 = .ok (.iload 4, 2) := dk_21 4 (dk_at dksX9_ahead_6 0 rfl rfl)
theorem dX9_ahead_141 : decode cX9_ahead 141 = .ok (.dup2, 1) := dk_92 (dk_at dksX9_ahead_6 2 rfl rfl)
theorem dX9_ahead_142 : decode cX9_ahead 142 = .ok (.iaload, 1) := dk_46 (dk_at dksX9_ahead_6 3 rfl rfl)
theorem dX9_ahead_143 : decode cX9_ahead 143 = .ok (.iload 6, 2) := dk_21 6 (dk_at dksX9_ahead_6 4 rfl rfl)
theorem dX9_ahead_145 : decode cX9_ahead 145 = .ok (.ifCond .eq 20, 3) := dk_153 0 20 (dk_at dksX9_ahead_6 6 rfl rfl)
theorem dX9_ahead_148 : decode cX9_ahead 148 = .ok (.aload_n 0, 1) := dk_42 (dk_at dksX9_ahead_6 9 rfl rfl)
theorem dX9_ahead_149 : decode cX9_ahead 149 = .ok (.getfield 138, 3) := dk_180 0 138 (dk_at dksX9_ahead_6 10 rfl rfl)
theorem dX9_ahead_152 : decode cX9_ahead 152 = .ok (.iload 4, 2) := dk_21 4 (dk_at dksX9_ahead_6 13 rfl rfl)
theorem dX9_ahead_154 : decode cX9_ahead 154 = .ok (.iconst 1, 1) := dk_4 (dk_at dksX9_ahead_6 15 rfl rfl)
theorem dX9_ahead_155 : decode cX9_ahead 155 = .ok (.iload 5, 2) := dk_21 5 (dk_at dksX9_ahead_6 16 rfl rfl)
theorem dX9_ahead_157 : decode cX9_ahead 157 = .ok (.ishl, 1) := dk_120 (dk_at dksX9_ahead_6 18 rfl rfl)
theorem dX9_ahead_158 : decode cX9_ahead 158 = .ok (.iconst (-1), 1) := dk_2 (dk_at dksX9_ahead_6 19 rfl rfl)
theorem dX9_ahead_159 : decode cX9_ahead 159 = .ok (.ixor, 1) := dk_130 (dk_at dksX9_ahead_6 20 rfl rfl)
theorem dX9_ahead_160 : decode cX9_ahead 160 = .ok (.iand, 1) := dk_126 (dk_at dksX9_ahead_6 21 rfl rfl)
theorem dX9_ahead_161 : decode cX9_ahead 161 = .ok (.iaload, 1) := dk_46 (dk_at dksX9_ahead_6 22 rfl rfl)
theorem dX9_ahead_162 : decode cX9_ahead 162 = .ok (.goto 4, 3) := dk_167 0 4 (dk_at dksX9_ahead_7 0 rfl rfl)
theorem dX9_ahead_165 : decode cX9_ahead 165 = .ok (.iconst 0, 1) := dk_3 (dk_at dksX9_ahead_7 3 rfl rfl)
theorem dX9_ahead_166 : decode cX9_ahead 166 = .ok (.iadd, 1) := dk_96 (dk_at dksX9_ahead_7 4 rfl rfl)
theorem dX9_ahead_167 : decode cX9_ahead 167 = .ok (.iastore, 1) := dk_79 (dk_at dksX9_ahead_7 5 rfl rfl)
theorem dX9_ahead_168 : decode cX9_ahead 168 = .ok (.iinc 5 1, 3) := dk_132 5 1 (dk_at dksX9_ahead_7 6 rfl rfl)
theorem dX9_ahead_171 : decode cX9_ahead 171 = .ok (.goto (-109), 3) := dk_167 255 147 (dk_at dksX9_ahead_7 9 rfl rfl)
theorem dX9_ahead_174 : decode cX9_ahead 174 = .ok (.iinc 4 1, 3) := dk_132 4 1 (dk_at dksX9_ahead_7 12 rfl rfl)
theorem dX9_ahead_177 : decode cX9_ahead 177 = .ok (.goto (-141), 3) := dk_167 255 115 (dk_at dksX9_ahead_7 15 rfl rfl)
theorem dX9_ahead_180 : decode cX9_ahead 180 = .ok (.aload_n 0, 1) := dk_42 (dk_at dksX9_ahead_7 18 rfl rfl)
theorem dX9_ahead_181 : decode cX9_ahead 181 = .ok (.getfield 138, 3) := dk_180 0 138 (dk_at dksX9_ahead_7 19 rfl rfl)
theorem dX9_ahead_184 : decode cX9_ahead 184 = .ok (.iload_n 3, 1) := dk_29 (dk_at dksX9_ahead_7 22 rfl rfl)
theorem dX9_ahead_185 : decode cX9_ahead 185 = .ok (.iaload, 1) := dk_46 (dk_at dksX9_ahead_7 23 rfl rfl)
theorem dX9_ahead_186 : decode cX9_ahead 186 = .ok (.ireturn, 1) := dk_172 (dk_at dksX9_ahead_8 0 rfl rfl)
abbrev cX9_hunt : ByteArray := prog_23_method_103_code
def yX9_hunt : MethodName := ⟨RX9, "hunt", "(I)I"⟩
def dkwX9_hunt_11 : List UInt8 := [172]
abbrev dktX9_hunt_11 : List UInt8 := dkwX9_hunt_11 ++ []
def dkwX9_hunt_10 : List UInt8 := [79, 42, 180, 0, 147, 29, 42, 180, 0, 84, 29, 46, 79, 132, 3, 1, 167, 255, 221, 42, 28, 182, 0, 164]
abbrev dktX9_hunt_10 : List UInt8 := dkwX9_hunt_10 ++ dktX9_hunt_11
def dkwX9_hunt_9 : List UInt8 := [181, 1, 238, 3, 62, 29, 42, 180, 1, 238, 162, 0, 33, 42, 180, 0, 144, 29, 42, 180, 0, 87, 29, 46]
abbrev dktX9_hunt_9 : List UInt8 := dkwX9_hunt_9 ++ dktX9_hunt_10
def dkwX9_hunt_8 : List UInt8 := [29, 79, 132, 2, 1, 132, 4, 1, 167, 255, 141, 132, 3, 1, 167, 255, 113, 42, 42, 180, 0, 13, 3, 46]
abbrev dktX9_hunt_8 : List UInt8 := dkwX9_hunt_8 ++ dktX9_hunt_9
def dkwX9_hunt_7 : List UInt8 := [20, 0, 189, 113, 22, 5, 148, 156, 0, 22, 42, 180, 0, 90, 21, 4, 4, 84, 42, 180, 0, 141, 21, 4]
abbrev dktX9_hunt_7 : List UInt8 := dkwX9_hunt_7 ++ dktX9_hunt_8
def dkwX9_hunt_6 : List UInt8 := [21, 4, 46, 29, 42, 180, 0, 13, 16, 7, 29, 96, 46, 9, 182, 1, 129, 55, 5, 42, 180, 1, 229]
abbrev dktX9_hunt_6 : List UInt8 := dkwX9_hunt_6 ++ dktX9_hunt_7
def dkwX9_hunt_5 : List UInt8 := [20, 1, 232, 105, 20, 1, 234, 97, 20, 1, 236, 113, 181, 1, 229, 42, 4, 21, 4, 42, 180, 0, 84]
abbrev dktX9_hunt_5 : List UInt8 := dkwX9_hunt_5 ++ dktX9_hunt_6
def dkwX9_hunt_4 : List UInt8 := [21, 4, 46, 2, 160, 0, 93, 42, 180, 0, 90, 21, 4, 51, 154, 0, 83, 42, 42, 180, 1, 229]
abbrev dktX9_hunt_4 : List UInt8 := dkwX9_hunt_4 ++ dktX9_hunt_5
def dkwX9_hunt_3 : List UInt8 := [96, 46, 182, 1, 148, 3, 54, 4, 21, 4, 42, 180, 0, 13, 3, 46, 162, 0, 110, 42, 180, 0, 87]
abbrev dktX9_hunt_3 : List UInt8 := dkwX9_hunt_3 ++ dktX9_hunt_4
def dkwX9_hunt_2 : List UInt8 := [2, 79, 132, 3, 1, 167, 255, 240, 3, 62, 29, 8, 162, 0, 144, 42, 29, 42, 180, 0, 13, 16, 7, 29]
abbrev dktX9_hunt_2 : List UInt8 := dkwX9_hunt_2 ++ dktX9_hunt_3
def dkwX9_hunt_1 : List UInt8 := [27, 133, 181, 1, 229, 42, 182, 1, 145, 3, 61, 3, 62, 29, 16, 6, 162, 0, 16, 42, 180, 0, 141, 29]
abbrev dktX9_hunt_1 : List UInt8 := dkwX9_hunt_1 ++ dktX9_hunt_2
def dkwX9_hunt_0 : List UInt8 := [42, 3, 181, 0, 150, 27, 133, 9, 20, 0, 248, 184, 0, 160, 154, 0, 9, 42, 2, 182, 0, 164, 172, 42]
abbrev dktX9_hunt_0 : List UInt8 := dkwX9_hunt_0 ++ dktX9_hunt_1
theorem dksX9_hunt_0 : cX9_hunt.data.toList.drop 0 = dktX9_hunt_0 := by decide +kernel
theorem dksX9_hunt_1 : cX9_hunt.data.toList.drop 24 = dktX9_hunt_1 := dk_seg dksX9_hunt_0 24 rfl rfl
theorem dksX9_hunt_2 : cX9_hunt.data.toList.drop 48 = dktX9_hunt_2 := dk_seg dksX9_hunt_1 24 rfl rfl
theorem dksX9_hunt_3 : cX9_hunt.data.toList.drop 72 = dktX9_hunt_3 := dk_seg dksX9_hunt_2 24 rfl rfl
theorem dksX9_hunt_4 : cX9_hunt.data.toList.drop 95 = dktX9_hunt_4 := dk_seg dksX9_hunt_3 23 rfl rfl
theorem dksX9_hunt_5 : cX9_hunt.data.toList.drop 117 = dktX9_hunt_5 := dk_seg dksX9_hunt_4 22 rfl rfl
theorem dksX9_hunt_6 : cX9_hunt.data.toList.drop 140 = dktX9_hunt_6 := dk_seg dksX9_hunt_5 23 rfl rfl
theorem dksX9_hunt_7 : cX9_hunt.data.toList.drop 163 = dktX9_hunt_7 := dk_seg dksX9_hunt_6 23 rfl rfl
theorem dksX9_hunt_8 : cX9_hunt.data.toList.drop 187 = dktX9_hunt_8 := dk_seg dksX9_hunt_7 24 rfl rfl
theorem dksX9_hunt_9 : cX9_hunt.data.toList.drop 211 = dktX9_hunt_9 := dk_seg dksX9_hunt_8 24 rfl rfl
theorem dksX9_hunt_10 : cX9_hunt.data.toList.drop 235 = dktX9_hunt_10 := dk_seg dksX9_hunt_9 24 rfl rfl
theorem dksX9_hunt_11 : cX9_hunt.data.toList.drop 259 = dktX9_hunt_11 := dk_seg dksX9_hunt_10 24 rfl rfl
theorem dX9_hunt_0 : decode cX9_hunt 0 = .ok (.aload_n 0, 1) := dk_42 (dk_at dksX9_hunt_0 0 rfl rfl)
theorem dX9_hunt_1 : decode cX9_hunt 1 = .ok (.iconst 0, 1) := dk_3 (dk_at dksX9_hunt_0 1 rfl rfl)
theorem dX9_hunt_2 : decode cX9_hunt 2 = .ok (.putfield 150, 3) := dk_181 0 150 (dk_at dksX9_hunt_0 2 rfl rfl)
theorem dX9_hunt_5 : decode cX9_hunt 5 = .ok (.iload_n 1, 1) := dk_27 (dk_at dksX9_hunt_0 5 rfl rfl)
theorem dX9_hunt_6 : decode cX9_hunt 6 = .ok (.i2l, 1) := dk_133 (dk_at dksX9_hunt_0 6 rfl rfl)
theorem dX9_hunt_7 : decode cX9_hunt 7 = .ok (.lconst 0, 1) := dk_9 (dk_at dksX9_hunt_0 7 rfl rfl)
theorem dX9_hunt_8 : decode cX9_hunt 8 = .ok (.ldc2_w 248, 3) := dk_20 0 248 (dk_at dksX9_hunt_0 8 rfl rfl)
theorem dX9_hunt_11 : decode cX9_hunt 11 = .ok (.invokestatic 160, 3) := dk_184 0 160 (dk_at dksX9_hunt_0 11 rfl rfl)
theorem dX9_hunt_14 : decode cX9_hunt 14 = .ok (.ifCond .ne 9, 3) := dk_154 0 9 (dk_at dksX9_hunt_0 14 rfl rfl)
theorem dX9_hunt_17 : decode cX9_hunt 17 = .ok (.aload_n 0, 1) := dk_42 (dk_at dksX9_hunt_0 17 rfl rfl)
theorem dX9_hunt_18 : decode cX9_hunt 18 = .ok (.iconst (-1), 1) := dk_2 (dk_at dksX9_hunt_0 18 rfl rfl)
theorem dX9_hunt_19 : decode cX9_hunt 19 = .ok (.invokevirtual 164, 3) := dk_182 0 164 (dk_at dksX9_hunt_0 19 rfl rfl)
theorem dX9_hunt_22 : decode cX9_hunt 22 = .ok (.ireturn, 1) := dk_172 (dk_at dksX9_hunt_0 22 rfl rfl)
theorem dX9_hunt_23 : decode cX9_hunt 23 = .ok (.aload_n 0, 1) := dk_42 (dk_at dksX9_hunt_0 23 rfl rfl)
theorem dX9_hunt_24 : decode cX9_hunt 24 = .ok (.iload_n 1, 1) := dk_27 (dk_at dksX9_hunt_1 0 rfl rfl)
theorem dX9_hunt_25 : decode cX9_hunt 25 = .ok (.i2l, 1) := dk_133 (dk_at dksX9_hunt_1 1 rfl rfl)
theorem dX9_hunt_26 : decode cX9_hunt 26 = .ok (.putfield 485, 3) := dk_181 1 229 (dk_at dksX9_hunt_1 2 rfl rfl)
theorem dX9_hunt_29 : decode cX9_hunt 29 = .ok (.aload_n 0, 1) := dk_42 (dk_at dksX9_hunt_1 5 rfl rfl)
theorem dX9_hunt_30 : decode cX9_hunt 30 = .ok (.invokevirtual 401, 3) := dk_182 1 145 (dk_at dksX9_hunt_1 6 rfl rfl)
theorem dX9_hunt_33 : decode cX9_hunt 33 = .ok (.iconst 0, 1) := dk_3 (dk_at dksX9_hunt_1 9 rfl rfl)
theorem dX9_hunt_34 : decode cX9_hunt 34 = .ok (.istore_n 2, 1) := dk_61 (dk_at dksX9_hunt_1 10 rfl rfl)
theorem dX9_hunt_35 : decode cX9_hunt 35 = .ok (.iconst 0, 1) := dk_3 (dk_at dksX9_hunt_1 11 rfl rfl)
theorem dX9_hunt_36 : decode cX9_hunt 36 = .ok (.istore_n 3, 1) := dk_62 (dk_at dksX9_hunt_1 12 rfl rfl)
theorem dX9_hunt_37 : decode cX9_hunt 37 = .ok (.iload_n 3, 1) := dk_29 (dk_at dksX9_hunt_1 13 rfl rfl)
theorem dX9_hunt_38 : decode cX9_hunt 38 = .ok (.bipush 6, 2) := dk_16 6 (dk_at dksX9_hunt_1 14 rfl rfl)
theorem dX9_hunt_40 : decode cX9_hunt 40 = .ok (.if_icmp .ge 16, 3) := dk_162 0 16 (dk_at dksX9_hunt_1 16 rfl rfl)
theorem dX9_hunt_43 : decode cX9_hunt 43 = .ok (.aload_n 0, 1) := dk_42 (dk_at dksX9_hunt_1 19 rfl rfl)
theorem dX9_hunt_44 : decode cX9_hunt 44 = .ok (.getfield 141, 3) := dk_180 0 141 (dk_at dksX9_hunt_1 20 rfl rfl)
theorem dX9_hunt_47 : decode cX9_hunt 47 = .ok (.iload_n 3, 1) := dk_29 (dk_at dksX9_hunt_1 23 rfl rfl)
theorem dX9_hunt_48 : decode cX9_hunt 48 = .ok (.iconst (-1), 1) := dk_2 (dk_at dksX9_hunt_2 0 rfl rfl)
theorem dX9_hunt_49 : decode cX9_hunt 49 = .ok (.iastore, 1) := dk_79 (dk_at dksX9_hunt_2 1 rfl rfl)
theorem dX9_hunt_50 : decode cX9_hunt 50 = .ok (.iinc 3 1, 3) := dk_132 3 1 (dk_at dksX9_hunt_2 2 rfl rfl)
theorem dX9_hunt_53 : decode cX9_hunt 53 = .ok (.goto (-16), 3) := dk_167 255 240 (dk_at dksX9_hunt_2 5 rfl rfl)
theorem dX9_hunt_56 : decode cX9_hunt 56 = .ok (.iconst 0, 1) := dk_3 (dk_at dksX9_hunt_2 8 rfl rfl)
theorem dX9_hunt_57 : decode cX9_hunt 57 = .ok (.istore_n 3, 1) := dk_62 (dk_at dksX9_hunt_2 9 rfl rfl)
theorem dX9_hunt_58 : decode cX9_hunt 58 = .ok (.iload_n 3, 1) := dk_29 (dk_at dksX9_hunt_2 10 rfl rfl)
theorem dX9_hunt_59 : decode cX9_hunt 59 = .ok (.iconst 5, 1) := dk_8 (dk_at dksX9_hunt_2 11 rfl rfl)
theorem dX9_hunt_60 : decode cX9_hunt 60 = .ok (.if_icmp .ge 144, 3) := dk_162 0 144 (dk_at dksX9_hunt_2 12 rfl rfl)
theorem dX9_hunt_63 : decode cX9_hunt 63 = .ok (.aload_n 0, 1) := dk_42 (dk_at dksX9_hunt_2 15 rfl rfl)
theorem dX9_hunt_64 : decode cX9_hunt 64 = .ok (.iload_n 3, 1) := dk_29 (dk_at dksX9_hunt_2 16 rfl rfl)
theorem dX9_hunt_65 : decode cX9_hunt 65 = .ok (.aload_n 0, 1) := dk_42 (dk_at dksX9_hunt_2 17 rfl rfl)
theorem dX9_hunt_66 : decode cX9_hunt 66 = .ok (.getfield 13, 3) := dk_180 0 13 (dk_at dksX9_hunt_2 18 rfl rfl)
theorem dX9_hunt_69 : decode cX9_hunt 69 = .ok (.bipush 7, 2) := dk_16 7 (dk_at dksX9_hunt_2 21 rfl rfl)
theorem dX9_hunt_71 : decode cX9_hunt 71 = .ok (.iload_n 3, 1) := dk_29 (dk_at dksX9_hunt_2 23 rfl rfl)
theorem dX9_hunt_72 : decode cX9_hunt 72 = .ok (.iadd, 1) := dk_96 (dk_at dksX9_hunt_3 0 rfl rfl)
theorem dX9_hunt_73 : decode cX9_hunt 73 = .ok (.iaload, 1) := dk_46 (dk_at dksX9_hunt_3 1 rfl rfl)
theorem dX9_hunt_74 : decode cX9_hunt 74 = .ok (.invokevirtual 404, 3) := dk_182 1 148 (dk_at dksX9_hunt_3 2 rfl rfl)
theorem dX9_hunt_77 : decode cX9_hunt 77 = .ok (.iconst 0, 1) := dk_3 (dk_at dksX9_hunt_3 5 rfl rfl)
theorem dX9_hunt_78 : decode cX9_hunt 78 = .ok (.istore 4, 2) := dk_54 4 (dk_at dksX9_hunt_3 6 rfl rfl)
theorem dX9_hunt_80 : decode cX9_hunt 80 = .ok (.iload 4, 2) := dk_21 4 (dk_at dksX9_hunt_3 8 rfl rfl)
theorem dX9_hunt_82 : decode cX9_hunt 82 = .ok (.aload_n 0, 1) := dk_42 (dk_at dksX9_hunt_3 10 rfl rfl)
theorem dX9_hunt_83 : decode cX9_hunt 83 = .ok (.getfield 13, 3) := dk_180 0 13 (dk_at dksX9_hunt_3 11 rfl rfl)
theorem dX9_hunt_86 : decode cX9_hunt 86 = .ok (.iconst 0, 1) := dk_3 (dk_at dksX9_hunt_3 14 rfl rfl)
theorem dX9_hunt_87 : decode cX9_hunt 87 = .ok (.iaload, 1) := dk_46 (dk_at dksX9_hunt_3 15 rfl rfl)
theorem dX9_hunt_88 : decode cX9_hunt 88 = .ok (.if_icmp .ge 110, 3) := dk_162 0 110 (dk_at dksX9_hunt_3 16 rfl rfl)
theorem dX9_hunt_91 : decode cX9_hunt 91 = .ok (.aload_n 0, 1) := dk_42 (dk_at dksX9_hunt_3 19 rfl rfl)
theorem dX9_hunt_92 : decode cX9_hunt 92 = .ok (.getfield 87, 3) := dk_180 0 87 (dk_at dksX9_hunt_3 20 rfl rfl)
theorem dX9_hunt_95 : decode cX9_hunt 95 = .ok (.iload 4, 2) := dk_21 4 (dk_at dksX9_hunt_4 0 rfl rfl)
theorem dX9_hunt_97 : decode cX9_hunt 97 = .ok (.iaload, 1) := dk_46 (dk_at dksX9_hunt_4 2 rfl rfl)
theorem dX9_hunt_98 : decode cX9_hunt 98 = .ok (.iconst (-1), 1) := dk_2 (dk_at dksX9_hunt_4 3 rfl rfl)
theorem dX9_hunt_99 : decode cX9_hunt 99 = .ok (.if_icmp .ne 93, 3) := dk_160 0 93 (dk_at dksX9_hunt_4 4 rfl rfl)
theorem dX9_hunt_102 : decode cX9_hunt 102 = .ok (.aload_n 0, 1) := dk_42 (dk_at dksX9_hunt_4 7 rfl rfl)
theorem dX9_hunt_103 : decode cX9_hunt 103 = .ok (.getfield 90, 3) := dk_180 0 90 (dk_at dksX9_hunt_4 8 rfl rfl)
theorem dX9_hunt_106 : decode cX9_hunt 106 = .ok (.iload 4, 2) := dk_21 4 (dk_at dksX9_hunt_4 11 rfl rfl)
theorem dX9_hunt_108 : decode cX9_hunt 108 = .ok (.baload, 1) := dk_51 (dk_at dksX9_hunt_4 13 rfl rfl)
theorem dX9_hunt_109 : decode cX9_hunt 109 = .ok (.ifCond .ne 83, 3) := dk_154 0 83 (dk_at dksX9_hunt_4 14 rfl rfl)
theorem dX9_hunt_112 : decode cX9_hunt 112 = .ok (.aload_n 0, 1) := dk_42 (dk_at dksX9_hunt_4 17 rfl rfl)
theorem dX9_hunt_113 : decode cX9_hunt 113 = .ok (.aload_n 0, 1) := dk_42 (dk_at dksX9_hunt_4 18 rfl rfl)
theorem dX9_hunt_114 : decode cX9_hunt 114 = .ok (.getfield 485, 3) := dk_180 1 229 (dk_at dksX9_hunt_4 19 rfl rfl)
theorem dX9_hunt_117 : decode cX9_hunt 117 = .ok (.ldc2_w 488, 3) := dk_20 1 232 (dk_at dksX9_hunt_5 0 rfl rfl)
theorem dX9_hunt_120 : decode cX9_hunt 120 = .ok (.lmul, 1) := dk_105 (dk_at dksX9_hunt_5 3 rfl rfl)
theorem dX9_hunt_121 : decode cX9_hunt 121 = .ok (.ldc2_w 490, 3) := dk_20 1 234 (dk_at dksX9_hunt_5 4 rfl rfl)
theorem dX9_hunt_124 : decode cX9_hunt 124 = .ok (.ladd, 1) := dk_97 (dk_at dksX9_hunt_5 7 rfl rfl)
theorem dX9_hunt_125 : decode cX9_hunt 125 = .ok (.ldc2_w 492, 3) := dk_20 1 236 (dk_at dksX9_hunt_5 8 rfl rfl)
theorem dX9_hunt_128 : decode cX9_hunt 128 = .ok (.lrem, 1) := dk_113 (dk_at dksX9_hunt_5 11 rfl rfl)
theorem dX9_hunt_129 : decode cX9_hunt 129 = .ok (.putfield 485, 3) := dk_181 1 229 (dk_at dksX9_hunt_5 12 rfl rfl)
theorem dX9_hunt_132 : decode cX9_hunt 132 = .ok (.aload_n 0, 1) := dk_42 (dk_at dksX9_hunt_5 15 rfl rfl)
theorem dX9_hunt_133 : decode cX9_hunt 133 = .ok (.iconst 1, 1) := dk_4 (dk_at dksX9_hunt_5 16 rfl rfl)
theorem dX9_hunt_134 : decode cX9_hunt 134 = .ok (.iload 4, 2) := dk_21 4 (dk_at dksX9_hunt_5 17 rfl rfl)
theorem dX9_hunt_136 : decode cX9_hunt 136 = .ok (.aload_n 0, 1) := dk_42 (dk_at dksX9_hunt_5 19 rfl rfl)
theorem dX9_hunt_137 : decode cX9_hunt 137 = .ok (.getfield 84, 3) := dk_180 0 84 (dk_at dksX9_hunt_5 20 rfl rfl)
theorem dX9_hunt_140 : decode cX9_hunt 140 = .ok (.iload 4, 2) := dk_21 4 (dk_at dksX9_hunt_6 0 rfl rfl)
theorem dX9_hunt_142 : decode cX9_hunt 142 = .ok (.iaload, 1) := dk_46 (dk_at dksX9_hunt_6 2 rfl rfl)
theorem dX9_hunt_143 : decode cX9_hunt 143 = .ok (.iload_n 3, 1) := dk_29 (dk_at dksX9_hunt_6 3 rfl rfl)
theorem dX9_hunt_144 : decode cX9_hunt 144 = .ok (.aload_n 0, 1) := dk_42 (dk_at dksX9_hunt_6 4 rfl rfl)
theorem dX9_hunt_145 : decode cX9_hunt 145 = .ok (.getfield 13, 3) := dk_180 0 13 (dk_at dksX9_hunt_6 5 rfl rfl)
theorem dX9_hunt_148 : decode cX9_hunt 148 = .ok (.bipush 7, 2) := dk_16 7 (dk_at dksX9_hunt_6 8 rfl rfl)
theorem dX9_hunt_150 : decode cX9_hunt 150 = .ok (.iload_n 3, 1) := dk_29 (dk_at dksX9_hunt_6 10 rfl rfl)
theorem dX9_hunt_151 : decode cX9_hunt 151 = .ok (.iadd, 1) := dk_96 (dk_at dksX9_hunt_6 11 rfl rfl)
theorem dX9_hunt_152 : decode cX9_hunt 152 = .ok (.iaload, 1) := dk_46 (dk_at dksX9_hunt_6 12 rfl rfl)
theorem dX9_hunt_153 : decode cX9_hunt 153 = .ok (.lconst 0, 1) := dk_9 (dk_at dksX9_hunt_6 13 rfl rfl)
theorem dX9_hunt_154 : decode cX9_hunt 154 = .ok (.invokevirtual 385, 3) := dk_182 1 129 (dk_at dksX9_hunt_6 14 rfl rfl)
theorem dX9_hunt_157 : decode cX9_hunt 157 = .ok (.lstore 5, 2) := dk_55 5 (dk_at dksX9_hunt_6 17 rfl rfl)
theorem dX9_hunt_159 : decode cX9_hunt 159 = .ok (.aload_n 0, 1) := dk_42 (dk_at dksX9_hunt_6 19 rfl rfl)
theorem dX9_hunt_160 : decode cX9_hunt 160 = .ok (.getfield 485, 3) := dk_180 1 229 (dk_at dksX9_hunt_6 20 rfl rfl)
theorem dX9_hunt_163 : decode cX9_hunt 163 = .ok (.ldc2_w 189, 3) := dk_20 0 189 (dk_at dksX9_hunt_7 0 rfl rfl)
theorem dX9_hunt_166 : decode cX9_hunt 166 = .ok (.lrem, 1) := dk_113 (dk_at dksX9_hunt_7 3 rfl rfl)
theorem dX9_hunt_167 : decode cX9_hunt 167 = .ok (.lload 5, 2) := dk_22 5 (dk_at dksX9_hunt_7 4 rfl rfl)
theorem dX9_hunt_169 : decode cX9_hunt 169 = .ok (.lcmp, 1) := dk_148 (dk_at dksX9_hunt_7 6 rfl rfl)
theorem dX9_hunt_170 : decode cX9_hunt 170 = .ok (.ifCond .ge 22, 3) := dk_156 0 22 (dk_at dksX9_hunt_7 7 rfl rfl)
theorem dX9_hunt_173 : decode cX9_hunt 173 = .ok (.aload_n 0, 1) := dk_42 (dk_at dksX9_hunt_7 10 rfl rfl)
theorem dX9_hunt_174 : decode cX9_hunt 174 = .ok (.getfield 90, 3) := dk_180 0 90 (dk_at dksX9_hunt_7 11 rfl rfl)
theorem dX9_hunt_177 : decode cX9_hunt 177 = .ok (.iload 4, 2) := dk_21 4 (dk_at dksX9_hunt_7 14 rfl rfl)
theorem dX9_hunt_179 : decode cX9_hunt 179 = .ok (.iconst 1, 1) := dk_4 (dk_at dksX9_hunt_7 16 rfl rfl)
theorem dX9_hunt_180 : decode cX9_hunt 180 = .ok (.bastore, 1) := dk_84 (dk_at dksX9_hunt_7 17 rfl rfl)
theorem dX9_hunt_181 : decode cX9_hunt 181 = .ok (.aload_n 0, 1) := dk_42 (dk_at dksX9_hunt_7 18 rfl rfl)
theorem dX9_hunt_182 : decode cX9_hunt 182 = .ok (.getfield 141, 3) := dk_180 0 141 (dk_at dksX9_hunt_7 19 rfl rfl)
theorem dX9_hunt_185 : decode cX9_hunt 185 = .ok (.iload 4, 2) := dk_21 4 (dk_at dksX9_hunt_7 22 rfl rfl)
theorem dX9_hunt_187 : decode cX9_hunt 187 = .ok (.iload_n 3, 1) := dk_29 (dk_at dksX9_hunt_8 0 rfl rfl)
theorem dX9_hunt_188 : decode cX9_hunt 188 = .ok (.iastore, 1) := dk_79 (dk_at dksX9_hunt_8 1 rfl rfl)
theorem dX9_hunt_189 : decode cX9_hunt 189 = .ok (.iinc 2 1, 3) := dk_132 2 1 (dk_at dksX9_hunt_8 2 rfl rfl)
theorem dX9_hunt_192 : decode cX9_hunt 192 = .ok (.iinc 4 1, 3) := dk_132 4 1 (dk_at dksX9_hunt_8 5 rfl rfl)
theorem dX9_hunt_195 : decode cX9_hunt 195 = .ok (.goto (-115), 3) := dk_167 255 141 (dk_at dksX9_hunt_8 8 rfl rfl)
theorem dX9_hunt_198 : decode cX9_hunt 198 = .ok (.iinc 3 1, 3) := dk_132 3 1 (dk_at dksX9_hunt_8 11 rfl rfl)
theorem dX9_hunt_201 : decode cX9_hunt 201 = .ok (.goto (-143), 3) := dk_167 255 113 (dk_at dksX9_hunt_8 14 rfl rfl)
theorem dX9_hunt_204 : decode cX9_hunt 204 = .ok (.aload_n 0, 1) := dk_42 (dk_at dksX9_hunt_8 17 rfl rfl)
theorem dX9_hunt_205 : decode cX9_hunt 205 = .ok (.aload_n 0, 1) := dk_42 (dk_at dksX9_hunt_8 18 rfl rfl)
theorem dX9_hunt_206 : decode cX9_hunt 206 = .ok (.getfield 13, 3) := dk_180 0 13 (dk_at dksX9_hunt_8 19 rfl rfl)
theorem dX9_hunt_209 : decode cX9_hunt 209 = .ok (.iconst 0, 1) := dk_3 (dk_at dksX9_hunt_8 22 rfl rfl)
theorem dX9_hunt_210 : decode cX9_hunt 210 = .ok (.iaload, 1) := dk_46 (dk_at dksX9_hunt_8 23 rfl rfl)
theorem dX9_hunt_211 : decode cX9_hunt 211 = .ok (.putfield 494, 3) := dk_181 1 238 (dk_at dksX9_hunt_9 0 rfl rfl)
theorem dX9_hunt_214 : decode cX9_hunt 214 = .ok (.iconst 0, 1) := dk_3 (dk_at dksX9_hunt_9 3 rfl rfl)
theorem dX9_hunt_215 : decode cX9_hunt 215 = .ok (.istore_n 3, 1) := dk_62 (dk_at dksX9_hunt_9 4 rfl rfl)
theorem dX9_hunt_216 : decode cX9_hunt 216 = .ok (.iload_n 3, 1) := dk_29 (dk_at dksX9_hunt_9 5 rfl rfl)
theorem dX9_hunt_217 : decode cX9_hunt 217 = .ok (.aload_n 0, 1) := dk_42 (dk_at dksX9_hunt_9 6 rfl rfl)
theorem dX9_hunt_218 : decode cX9_hunt 218 = .ok (.getfield 494, 3) := dk_180 1 238 (dk_at dksX9_hunt_9 7 rfl rfl)
theorem dX9_hunt_221 : decode cX9_hunt 221 = .ok (.if_icmp .ge 33, 3) := dk_162 0 33 (dk_at dksX9_hunt_9 10 rfl rfl)
theorem dX9_hunt_224 : decode cX9_hunt 224 = .ok (.aload_n 0, 1) := dk_42 (dk_at dksX9_hunt_9 13 rfl rfl)
theorem dX9_hunt_225 : decode cX9_hunt 225 = .ok (.getfield 144, 3) := dk_180 0 144 (dk_at dksX9_hunt_9 14 rfl rfl)
theorem dX9_hunt_228 : decode cX9_hunt 228 = .ok (.iload_n 3, 1) := dk_29 (dk_at dksX9_hunt_9 17 rfl rfl)
theorem dX9_hunt_229 : decode cX9_hunt 229 = .ok (.aload_n 0, 1) := dk_42 (dk_at dksX9_hunt_9 18 rfl rfl)
theorem dX9_hunt_230 : decode cX9_hunt 230 = .ok (.getfield 87, 3) := dk_180 0 87 (dk_at dksX9_hunt_9 19 rfl rfl)
theorem dX9_hunt_233 : decode cX9_hunt 233 = .ok (.iload_n 3, 1) := dk_29 (dk_at dksX9_hunt_9 22 rfl rfl)
theorem dX9_hunt_234 : decode cX9_hunt 234 = .ok (.iaload, 1) := dk_46 (dk_at dksX9_hunt_9 23 rfl rfl)
theorem dX9_hunt_235 : decode cX9_hunt 235 = .ok (.iastore, 1) := dk_79 (dk_at dksX9_hunt_10 0 rfl rfl)
theorem dX9_hunt_236 : decode cX9_hunt 236 = .ok (.aload_n 0, 1) := dk_42 (dk_at dksX9_hunt_10 1 rfl rfl)
theorem dX9_hunt_237 : decode cX9_hunt 237 = .ok (.getfield 147, 3) := dk_180 0 147 (dk_at dksX9_hunt_10 2 rfl rfl)
theorem dX9_hunt_240 : decode cX9_hunt 240 = .ok (.iload_n 3, 1) := dk_29 (dk_at dksX9_hunt_10 5 rfl rfl)
theorem dX9_hunt_241 : decode cX9_hunt 241 = .ok (.aload_n 0, 1) := dk_42 (dk_at dksX9_hunt_10 6 rfl rfl)
theorem dX9_hunt_242 : decode cX9_hunt 242 = .ok (.getfield 84, 3) := dk_180 0 84 (dk_at dksX9_hunt_10 7 rfl rfl)
theorem dX9_hunt_245 : decode cX9_hunt 245 = .ok (.iload_n 3, 1) := dk_29 (dk_at dksX9_hunt_10 10 rfl rfl)
theorem dX9_hunt_246 : decode cX9_hunt 246 = .ok (.iaload, 1) := dk_46 (dk_at dksX9_hunt_10 11 rfl rfl)
theorem dX9_hunt_247 : decode cX9_hunt 247 = .ok (.iastore, 1) := dk_79 (dk_at dksX9_hunt_10 12 rfl rfl)
theorem dX9_hunt_248 : decode cX9_hunt 248 = .ok (.iinc 3 1, 3) := dk_132 3 1 (dk_at dksX9_hunt_10 13 rfl rfl)
theorem dX9_hunt_251 : decode cX9_hunt 251 = .ok (.goto (-35), 3) := dk_167 255 221 (dk_at dksX9_hunt_10 16 rfl rfl)
theorem dX9_hunt_254 : decode cX9_hunt 254 = .ok (.aload_n 0, 1) := dk_42 (dk_at dksX9_hunt_10 19 rfl rfl)
theorem dX9_hunt_255 : decode cX9_hunt 255 = .ok (.iload_n 2, 1) := dk_28 (dk_at dksX9_hunt_10 20 rfl rfl)
theorem dX9_hunt_256 : decode cX9_hunt 256 = .ok (.invokevirtual 164, 3) := dk_182 0 164 (dk_at dksX9_hunt_10 21 rfl rfl)
theorem dX9_hunt_259 : decode cX9_hunt 259 = .ok (.ireturn, 1) := dk_172 (dk_at dksX9_hunt_11 0 rfl rfl)
abbrev cX9_hunted : ByteArray := prog_23_method_104_code
def yX9_hunted : MethodName := ⟨RX9, "hunted", "(II)I"⟩
def dkwX9_hunted_2 : List UInt8 := [42, 180, 0, 141, 27, 46, 172, 42, 180, 0, 144, 27, 46, 172, 42, 180, 0, 147, 27, 46, 172, 2, 172]
abbrev dktX9_hunted_2 : List UInt8 := dkwX9_hunted_2 ++ []
def dkwX9_hunted_1 : List UInt8 := [170, 0, 0, 0, 0, 0, 0, 49, 0, 0, 0, 0, 0, 0, 0, 2, 0, 0, 0, 28, 0, 0, 0, 35, 0, 0, 0, 42]
abbrev dktX9_hunted_1 : List UInt8 := dkwX9_hunted_1 ++ dktX9_hunted_2
def dkwX9_hunted_0 : List UInt8 := [42, 3, 181, 0, 150, 27, 133, 9, 42, 180, 1, 238, 133, 10, 101, 184, 0, 160, 154, 0, 5, 2, 172, 28]
abbrev dktX9_hunted_0 : List UInt8 := dkwX9_hunted_0 ++ dktX9_hunted_1
theorem dksX9_hunted_0 : cX9_hunted.data.toList.drop 0 = dktX9_hunted_0 := by decide +kernel
theorem dksX9_hunted_1 : cX9_hunted.data.toList.drop 24 = dktX9_hunted_1 := dk_seg dksX9_hunted_0 24 rfl rfl
theorem dksX9_hunted_2 : cX9_hunted.data.toList.drop 52 = dktX9_hunted_2 := dk_seg dksX9_hunted_1 28 rfl rfl
theorem dX9_hunted_0 : decode cX9_hunted 0 = .ok (.aload_n 0, 1) := dk_42 (dk_at dksX9_hunted_0 0 rfl rfl)
theorem dX9_hunted_1 : decode cX9_hunted 1 = .ok (.iconst 0, 1) := dk_3 (dk_at dksX9_hunted_0 1 rfl rfl)
theorem dX9_hunted_2 : decode cX9_hunted 2 = .ok (.putfield 150, 3) := dk_181 0 150 (dk_at dksX9_hunted_0 2 rfl rfl)
theorem dX9_hunted_5 : decode cX9_hunted 5 = .ok (.iload_n 1, 1) := dk_27 (dk_at dksX9_hunted_0 5 rfl rfl)
theorem dX9_hunted_6 : decode cX9_hunted 6 = .ok (.i2l, 1) := dk_133 (dk_at dksX9_hunted_0 6 rfl rfl)
theorem dX9_hunted_7 : decode cX9_hunted 7 = .ok (.lconst 0, 1) := dk_9 (dk_at dksX9_hunted_0 7 rfl rfl)
theorem dX9_hunted_8 : decode cX9_hunted 8 = .ok (.aload_n 0, 1) := dk_42 (dk_at dksX9_hunted_0 8 rfl rfl)
theorem dX9_hunted_9 : decode cX9_hunted 9 = .ok (.getfield 494, 3) := dk_180 1 238 (dk_at dksX9_hunted_0 9 rfl rfl)
theorem dX9_hunted_12 : decode cX9_hunted 12 = .ok (.i2l, 1) := dk_133 (dk_at dksX9_hunted_0 12 rfl rfl)
theorem dX9_hunted_13 : decode cX9_hunted 13 = .ok (.lconst 1, 1) := dk_10 (dk_at dksX9_hunted_0 13 rfl rfl)
theorem dX9_hunted_14 : decode cX9_hunted 14 = .ok (.lsub, 1) := dk_101 (dk_at dksX9_hunted_0 14 rfl rfl)
theorem dX9_hunted_15 : decode cX9_hunted 15 = .ok (.invokestatic 160, 3) := dk_184 0 160 (dk_at dksX9_hunted_0 15 rfl rfl)
theorem dX9_hunted_18 : decode cX9_hunted 18 = .ok (.ifCond .ne 5, 3) := dk_154 0 5 (dk_at dksX9_hunted_0 18 rfl rfl)
theorem dX9_hunted_21 : decode cX9_hunted 21 = .ok (.iconst (-1), 1) := dk_2 (dk_at dksX9_hunted_0 21 rfl rfl)
theorem dX9_hunted_22 : decode cX9_hunted 22 = .ok (.ireturn, 1) := dk_172 (dk_at dksX9_hunted_0 22 rfl rfl)
theorem dX9_hunted_23 : decode cX9_hunted 23 = .ok (.iload_n 2, 1) := dk_28 (dk_at dksX9_hunted_0 23 rfl rfl)
theorem dX9_hunted_24 : decode cX9_hunted 24 = .ok (.tableswitch 49 0 2 #[28, 35, 42], 28) := by decide +kernel
theorem dX9_hunted_52 : decode cX9_hunted 52 = .ok (.aload_n 0, 1) := dk_42 (dk_at dksX9_hunted_2 0 rfl rfl)
theorem dX9_hunted_53 : decode cX9_hunted 53 = .ok (.getfield 141, 3) := dk_180 0 141 (dk_at dksX9_hunted_2 1 rfl rfl)
theorem dX9_hunted_56 : decode cX9_hunted 56 = .ok (.iload_n 1, 1) := dk_27 (dk_at dksX9_hunted_2 4 rfl rfl)
theorem dX9_hunted_57 : decode cX9_hunted 57 = .ok (.iaload, 1) := dk_46 (dk_at dksX9_hunted_2 5 rfl rfl)
theorem dX9_hunted_58 : decode cX9_hunted 58 = .ok (.ireturn, 1) := dk_172 (dk_at dksX9_hunted_2 6 rfl rfl)
theorem dX9_hunted_59 : decode cX9_hunted 59 = .ok (.aload_n 0, 1) := dk_42 (dk_at dksX9_hunted_2 7 rfl rfl)
theorem dX9_hunted_60 : decode cX9_hunted 60 = .ok (.getfield 144, 3) := dk_180 0 144 (dk_at dksX9_hunted_2 8 rfl rfl)
theorem dX9_hunted_63 : decode cX9_hunted 63 = .ok (.iload_n 1, 1) := dk_27 (dk_at dksX9_hunted_2 11 rfl rfl)
theorem dX9_hunted_64 : decode cX9_hunted 64 = .ok (.iaload, 1) := dk_46 (dk_at dksX9_hunted_2 12 rfl rfl)
theorem dX9_hunted_65 : decode cX9_hunted 65 = .ok (.ireturn, 1) := dk_172 (dk_at dksX9_hunted_2 13 rfl rfl)
theorem dX9_hunted_66 : decode cX9_hunted 66 = .ok (.aload_n 0, 1) := dk_42 (dk_at dksX9_hunted_2 14 rfl rfl)
theorem dX9_hunted_67 : decode cX9_hunted 67 = .ok (.getfield 147, 3) := dk_180 0 147 (dk_at dksX9_hunted_2 15 rfl rfl)
theorem dX9_hunted_70 : decode cX9_hunted 70 = .ok (.iload_n 1, 1) := dk_27 (dk_at dksX9_hunted_2 18 rfl rfl)
theorem dX9_hunted_71 : decode cX9_hunted 71 = .ok (.iaload, 1) := dk_46 (dk_at dksX9_hunted_2 19 rfl rfl)
theorem dX9_hunted_72 : decode cX9_hunted 72 = .ok (.ireturn, 1) := dk_172 (dk_at dksX9_hunted_2 20 rfl rfl)
theorem dX9_hunted_73 : decode cX9_hunted 73 = .ok (.iconst (-1), 1) := dk_2 (dk_at dksX9_hunted_2 21 rfl rfl)
theorem dX9_hunted_74 : decode cX9_hunted 74 = .ok (.ireturn, 1) := dk_172 (dk_at dksX9_hunted_2 22 rfl rfl)
abbrev cX9_count : ByteArray := prog_23_method_105_code
def yX9_count : MethodName := ⟨RX9, "count", "(I)I"⟩
def dkwX9_count_8 : List UInt8 := [46, 172, 2, 172]
abbrev dktX9_count_8 : List UInt8 := dkwX9_count_8 ++ []
def dkwX9_count_7 : List UInt8 := [16, 6, 46, 172, 42, 180, 0, 13, 6, 46, 172, 42, 180, 0, 13, 8, 46, 172, 42, 180, 0, 13, 16, 6]
abbrev dktX9_count_7 : List UInt8 := dkwX9_count_7 ++ dktX9_count_8
def dkwX9_count_6 : List UInt8 := [180, 0, 7, 5, 46, 172, 42, 180, 0, 7, 6, 46, 172, 42, 180, 0, 7, 8, 46, 172, 42, 180, 0, 7]
abbrev dktX9_count_6 : List UInt8 := dkwX9_count_6 ++ dktX9_count_7
def dkwX9_count_5 : List UInt8 := [180, 0, 13, 7, 46, 172, 28, 172, 29, 172, 42, 180, 0, 206, 172, 42, 180, 0, 7, 4, 46, 172, 42]
abbrev dktX9_count_5 : List UInt8 := dkwX9_count_5 ++ dktX9_count_6
def dkwX9_count_4 : List UInt8 := [42, 180, 0, 13, 3, 46, 172, 42, 180, 0, 13, 4, 46, 172, 42, 180, 0, 13, 5, 46, 172, 42]
abbrev dktX9_count_4 : List UInt8 := dkwX9_count_4 ++ dktX9_count_5
def dkwX9_count_3 : List UInt8 := [170, 0, 0, 0, 0, 0, 170, 0, 0, 0, 0, 0, 0, 0, 14, 0, 0, 0, 75, 0, 0, 0, 82, 0, 0, 0, 89, 0, 0, 0, 96, 0, 0, 0, 103, 0, 0, 0, 105, 0, 0, 0, 107, 0, 0, 0, 112, 0, 0, 0, 119, 0, 0, 0, 126, 0, 0, 0, 133, 0, 0, 0, 140, 0, 0, 0, 148, 0, 0, 0, 155, 0, 0, 0, 162]
abbrev dktX9_count_3 : List UInt8 := dkwX9_count_3 ++ dktX9_count_4
def dkwX9_count_2 : List UInt8 := [132, 4, 1, 167, 255, 219, 27]
abbrev dktX9_count_2 : List UInt8 := dkwX9_count_2 ++ dktX9_count_3
def dkwX9_count_1 : List UInt8 := [17, 0, 176, 21, 4, 96, 46, 96, 61, 29, 42, 180, 0, 13, 16, 80, 21, 4, 96, 46, 96, 62]
abbrev dktX9_count_1 : List UInt8 := dkwX9_count_1 ++ dktX9_count_2
def dkwX9_count_0 : List UInt8 := [42, 3, 181, 0, 150, 3, 61, 3, 62, 3, 54, 4, 21, 4, 16, 96, 162, 0, 36, 28, 42, 180, 0, 13]
abbrev dktX9_count_0 : List UInt8 := dkwX9_count_0 ++ dktX9_count_1
theorem dksX9_count_0 : cX9_count.data.toList.drop 0 = dktX9_count_0 := by decide +kernel
theorem dksX9_count_1 : cX9_count.data.toList.drop 24 = dktX9_count_1 := dk_seg dksX9_count_0 24 rfl rfl
theorem dksX9_count_2 : cX9_count.data.toList.drop 46 = dktX9_count_2 := dk_seg dksX9_count_1 22 rfl rfl
theorem dksX9_count_3 : cX9_count.data.toList.drop 53 = dktX9_count_3 := dk_seg dksX9_count_2 7 rfl rfl
theorem dksX9_count_4 : cX9_count.data.toList.drop 128 = dktX9_count_4 := dk_seg dksX9_count_3 75 rfl rfl
theorem dksX9_count_5 : cX9_count.data.toList.drop 150 = dktX9_count_5 := dk_seg dksX9_count_4 22 rfl rfl
theorem dksX9_count_6 : cX9_count.data.toList.drop 173 = dktX9_count_6 := dk_seg dksX9_count_5 23 rfl rfl
theorem dksX9_count_7 : cX9_count.data.toList.drop 197 = dktX9_count_7 := dk_seg dksX9_count_6 24 rfl rfl
theorem dksX9_count_8 : cX9_count.data.toList.drop 221 = dktX9_count_8 := dk_seg dksX9_count_7 24 rfl rfl
theorem dX9_count_0 : decode cX9_count 0 = .ok (.aload_n 0, 1) := dk_42 (dk_at dksX9_count_0 0 rfl rfl)
theorem dX9_count_1 : decode cX9_count 1 = .ok (.iconst 0, 1) := dk_3 (dk_at dksX9_count_0 1 rfl rfl)
theorem dX9_count_2 : decode cX9_count 2 = .ok (.putfield 150, 3) := dk_181 0 150 (dk_at dksX9_count_0 2 rfl rfl)
theorem dX9_count_5 : decode cX9_count 5 = .ok (.iconst 0, 1) := dk_3 (dk_at dksX9_count_0 5 rfl rfl)
theorem dX9_count_6 : decode cX9_count 6 = .ok (.istore_n 2, 1) := dk_61 (dk_at dksX9_count_0 6 rfl rfl)
theorem dX9_count_7 : decode cX9_count 7 = .ok (.iconst 0, 1) := dk_3 (dk_at dksX9_count_0 7 rfl rfl)
theorem dX9_count_8 : decode cX9_count 8 = .ok (.istore_n 3, 1) := dk_62 (dk_at dksX9_count_0 8 rfl rfl)
theorem dX9_count_9 : decode cX9_count 9 = .ok (.iconst 0, 1) := dk_3 (dk_at dksX9_count_0 9 rfl rfl)
theorem dX9_count_10 : decode cX9_count 10 = .ok (.istore 4, 2) := dk_54 4 (dk_at dksX9_count_0 10 rfl rfl)
theorem dX9_count_12 : decode cX9_count 12 = .ok (.iload 4, 2) := dk_21 4 (dk_at dksX9_count_0 12 rfl rfl)
theorem dX9_count_14 : decode cX9_count 14 = .ok (.bipush 96, 2) := dk_16 96 (dk_at dksX9_count_0 14 rfl rfl)
theorem dX9_count_16 : decode cX9_count 16 = .ok (.if_icmp .ge 36, 3) := dk_162 0 36 (dk_at dksX9_count_0 16 rfl rfl)
theorem dX9_count_19 : decode cX9_count 19 = .ok (.iload_n 2, 1) := dk_28 (dk_at dksX9_count_0 19 rfl rfl)
theorem dX9_count_20 : decode cX9_count 20 = .ok (.aload_n 0, 1) := dk_42 (dk_at dksX9_count_0 20 rfl rfl)
theorem dX9_count_21 : decode cX9_count 21 = .ok (.getfield 13, 3) := dk_180 0 13 (dk_at dksX9_count_0 21 rfl rfl)
theorem dX9_count_24 : decode cX9_count 24 = .ok (.sipush 176, 3) := dk_17 0 176 (dk_at dksX9_count_1 0 rfl rfl)
theorem dX9_count_27 : decode cX9_count 27 = .ok (.iload 4, 2) := dk_21 4 (dk_at dksX9_count_1 3 rfl rfl)
theorem dX9_count_29 : decode cX9_count 29 = .ok (.iadd, 1) := dk_96 (dk_at dksX9_count_1 5 rfl rfl)
theorem dX9_count_30 : decode cX9_count 30 = .ok (.iaload, 1) := dk_46 (dk_at dksX9_count_1 6 rfl rfl)
theorem dX9_count_31 : decode cX9_count 31 = .ok (.iadd, 1) := dk_96 (dk_at dksX9_count_1 7 rfl rfl)
theorem dX9_count_32 : decode cX9_count 32 = .ok (.istore_n 2, 1) := dk_61 (dk_at dksX9_count_1 8 rfl rfl)
theorem dX9_count_33 : decode cX9_count 33 = .ok (.iload_n 3, 1) := dk_29 (dk_at dksX9_count_1 9 rfl rfl)
theorem dX9_count_34 : decode cX9_count 34 = .ok (.aload_n 0, 1) := dk_42 (dk_at dksX9_count_1 10 rfl rfl)
theorem dX9_count_35 : decode cX9_count 35 = .ok (.getfield 13, 3) := dk_180 0 13 (dk_at dksX9_count_1 11 rfl rfl)
theorem dX9_count_38 : decode cX9_count 38 = .ok (.bipush 80, 2) := dk_16 80 (dk_at dksX9_count_1 14 rfl rfl)
theorem dX9_count_40 : decode cX9_count 40 = .ok (.iload 4, 2) := dk_21 4 (dk_at dksX9_count_1 16 rfl rfl)
theorem dX9_count_42 : decode cX9_count 42 = .ok (.iadd, 1) := dk_96 (dk_at dksX9_count_1 18 rfl rfl)
theorem dX9_count_43 : decode cX9_count 43 = .ok (.iaload, 1) := dk_46 (dk_at dksX9_count_1 19 rfl rfl)
theorem dX9_count_44 : decode cX9_count 44 = .ok (.iadd, 1) := dk_96 (dk_at dksX9_count_1 20 rfl rfl)
theorem dX9_count_45 : decode cX9_count 45 = .ok (.istore_n 3, 1) := dk_62 (dk_at dksX9_count_1 21 rfl rfl)
theorem dX9_count_46 : decode cX9_count 46 = .ok (.iinc 4 1, 3) := dk_132 4 1 (dk_at dksX9_count_2 0 rfl rfl)
theorem dX9_count_49 : decode cX9_count 49 = .ok (.goto (-37), 3) := dk_167 255 219 (dk_at dksX9_count_2 3 rfl rfl)
theorem dX9_count_52 : decode cX9_count 52 = .ok (.iload_n 1, 1) := dk_27 (dk_at dksX9_count_2 6 rfl rfl)
theorem dX9_count_53 : decode cX9_count 53 = .ok (.tableswitch 170 0 14 #[75, 82, 89, 96, 103, 105, 107, 112, 119, 126, 133, 140, 148, 155, 162], 75) := by decide +kernel
theorem dX9_count_128 : decode cX9_count 128 = .ok (.aload_n 0, 1) := dk_42 (dk_at dksX9_count_4 0 rfl rfl)
theorem dX9_count_129 : decode cX9_count 129 = .ok (.getfield 13, 3) := dk_180 0 13 (dk_at dksX9_count_4 1 rfl rfl)
theorem dX9_count_132 : decode cX9_count 132 = .ok (.iconst 0, 1) := dk_3 (dk_at dksX9_count_4 4 rfl rfl)
theorem dX9_count_133 : decode cX9_count 133 = .ok (.iaload, 1) := dk_46 (dk_at dksX9_count_4 5 rfl rfl)
theorem dX9_count_134 : decode cX9_count 134 = .ok (.ireturn, 1) := dk_172 (dk_at dksX9_count_4 6 rfl rfl)
theorem dX9_count_135 : decode cX9_count 135 = .ok (.aload_n 0, 1) := dk_42 (dk_at dksX9_count_4 7 rfl rfl)
theorem dX9_count_136 : decode cX9_count 136 = .ok (.getfield 13, 3) := dk_180 0 13 (dk_at dksX9_count_4 8 rfl rfl)
theorem dX9_count_139 : decode cX9_count 139 = .ok (.iconst 1, 1) := dk_4 (dk_at dksX9_count_4 11 rfl rfl)
theorem dX9_count_140 : decode cX9_count 140 = .ok (.iaload, 1) := dk_46 (dk_at dksX9_count_4 12 rfl rfl)
theorem dX9_count_141 : decode cX9_count 141 = .ok (.ireturn, 1) := dk_172 (dk_at dksX9_count_4 13 rfl rfl)
theorem dX9_count_142 : decode cX9_count 142 = .ok (.aload_n 0, 1) := dk_42 (dk_at dksX9_count_4 14 rfl rfl)
theorem dX9_count_143 : decode cX9_count 143 = .ok (.getfield 13, 3) := dk_180 0 13 (dk_at dksX9_count_4 15 rfl rfl)
theorem dX9_count_146 : decode cX9_count 146 = .ok (.iconst 2, 1) := dk_5 (dk_at dksX9_count_4 18 rfl rfl)
theorem dX9_count_147 : decode cX9_count 147 = .ok (.iaload, 1) := dk_46 (dk_at dksX9_count_4 19 rfl rfl)
theorem dX9_count_148 : decode cX9_count 148 = .ok (.ireturn, 1) := dk_172 (dk_at dksX9_count_4 20 rfl rfl)
theorem dX9_count_149 : decode cX9_count 149 = .ok (.aload_n 0, 1) := dk_42 (dk_at dksX9_count_4 21 rfl rfl)
theorem dX9_count_150 : decode cX9_count 150 = .ok (.getfield 13, 3) := dk_180 0 13 (dk_at dksX9_count_5 0 rfl rfl)
theorem dX9_count_153 : decode cX9_count 153 = .ok (.iconst 4, 1) := dk_7 (dk_at dksX9_count_5 3 rfl rfl)
theorem dX9_count_154 : decode cX9_count 154 = .ok (.iaload, 1) := dk_46 (dk_at dksX9_count_5 4 rfl rfl)
theorem dX9_count_155 : decode cX9_count 155 = .ok (.ireturn, 1) := dk_172 (dk_at dksX9_count_5 5 rfl rfl)
theorem dX9_count_156 : decode cX9_count 156 = .ok (.iload_n 2, 1) := dk_28 (dk_at dksX9_count_5 6 rfl rfl)
theorem dX9_count_157 : decode cX9_count 157 = .ok (.ireturn, 1) := dk_172 (dk_at dksX9_count_5 7 rfl rfl)
theorem dX9_count_158 : decode cX9_count 158 = .ok (.iload_n 3, 1) := dk_29 (dk_at dksX9_count_5 8 rfl rfl)
theorem dX9_count_159 : decode cX9_count 159 = .ok (.ireturn, 1) := dk_172 (dk_at dksX9_count_5 9 rfl rfl)
theorem dX9_count_160 : decode cX9_count 160 = .ok (.aload_n 0, 1) := dk_42 (dk_at dksX9_count_5 10 rfl rfl)
theorem dX9_count_161 : decode cX9_count 161 = .ok (.getfield 206, 3) := dk_180 0 206 (dk_at dksX9_count_5 11 rfl rfl)
theorem dX9_count_164 : decode cX9_count 164 = .ok (.ireturn, 1) := dk_172 (dk_at dksX9_count_5 14 rfl rfl)
theorem dX9_count_165 : decode cX9_count 165 = .ok (.aload_n 0, 1) := dk_42 (dk_at dksX9_count_5 15 rfl rfl)
theorem dX9_count_166 : decode cX9_count 166 = .ok (.getfield 7, 3) := dk_180 0 7 (dk_at dksX9_count_5 16 rfl rfl)
theorem dX9_count_169 : decode cX9_count 169 = .ok (.iconst 1, 1) := dk_4 (dk_at dksX9_count_5 19 rfl rfl)
theorem dX9_count_170 : decode cX9_count 170 = .ok (.iaload, 1) := dk_46 (dk_at dksX9_count_5 20 rfl rfl)
theorem dX9_count_171 : decode cX9_count 171 = .ok (.ireturn, 1) := dk_172 (dk_at dksX9_count_5 21 rfl rfl)
theorem dX9_count_172 : decode cX9_count 172 = .ok (.aload_n 0, 1) := dk_42 (dk_at dksX9_count_5 22 rfl rfl)
theorem dX9_count_173 : decode cX9_count 173 = .ok (.getfield 7, 3) := dk_180 0 7 (dk_at dksX9_count_6 0 rfl rfl)
theorem dX9_count_176 : decode cX9_count 176 = .ok (.iconst 2, 1) := dk_5 (dk_at dksX9_count_6 3 rfl rfl)
theorem dX9_count_177 : decode cX9_count 177 = .ok (.iaload, 1) := dk_46 (dk_at dksX9_count_6 4 rfl rfl)
theorem dX9_count_178 : decode cX9_count 178 = .ok (.ireturn, 1) := dk_172 (dk_at dksX9_count_6 5 rfl rfl)
theorem dX9_count_179 : decode cX9_count 179 = .ok (.aload_n 0, 1) := dk_42 (dk_at dksX9_count_6 6 rfl rfl)
theorem dX9_count_180 : decode cX9_count 180 = .ok (.getfield 7, 3) := dk_180 0 7 (dk_at dksX9_count_6 7 rfl rfl)
theorem dX9_count_183 : decode cX9_count 183 = .ok (.iconst 3, 1) := dk_6 (dk_at dksX9_count_6 10 rfl rfl)
theorem dX9_count_184 : decode cX9_count 184 = .ok (.iaload, 1) := dk_46 (dk_at dksX9_count_6 11 rfl rfl)
theorem dX9_count_185 : decode cX9_count 185 = .ok (.ireturn, 1) := dk_172 (dk_at dksX9_count_6 12 rfl rfl)
theorem dX9_count_186 : decode cX9_count 186 = .ok (.aload_n 0, 1) := dk_42 (dk_at dksX9_count_6 13 rfl rfl)
theorem dX9_count_187 : decode cX9_count 187 = .ok (.getfield 7, 3) := dk_180 0 7 (dk_at dksX9_count_6 14 rfl rfl)
theorem dX9_count_190 : decode cX9_count 190 = .ok (.iconst 5, 1) := dk_8 (dk_at dksX9_count_6 17 rfl rfl)
theorem dX9_count_191 : decode cX9_count 191 = .ok (.iaload, 1) := dk_46 (dk_at dksX9_count_6 18 rfl rfl)
theorem dX9_count_192 : decode cX9_count 192 = .ok (.ireturn, 1) := dk_172 (dk_at dksX9_count_6 19 rfl rfl)
theorem dX9_count_193 : decode cX9_count 193 = .ok (.aload_n 0, 1) := dk_42 (dk_at dksX9_count_6 20 rfl rfl)
theorem dX9_count_194 : decode cX9_count 194 = .ok (.getfield 7, 3) := dk_180 0 7 (dk_at dksX9_count_6 21 rfl rfl)
theorem dX9_count_197 : decode cX9_count 197 = .ok (.bipush 6, 2) := dk_16 6 (dk_at dksX9_count_7 0 rfl rfl)
theorem dX9_count_199 : decode cX9_count 199 = .ok (.iaload, 1) := dk_46 (dk_at dksX9_count_7 2 rfl rfl)
theorem dX9_count_200 : decode cX9_count 200 = .ok (.ireturn, 1) := dk_172 (dk_at dksX9_count_7 3 rfl rfl)
theorem dX9_count_201 : decode cX9_count 201 = .ok (.aload_n 0, 1) := dk_42 (dk_at dksX9_count_7 4 rfl rfl)
theorem dX9_count_202 : decode cX9_count 202 = .ok (.getfield 13, 3) := dk_180 0 13 (dk_at dksX9_count_7 5 rfl rfl)
theorem dX9_count_205 : decode cX9_count 205 = .ok (.iconst 3, 1) := dk_6 (dk_at dksX9_count_7 8 rfl rfl)
theorem dX9_count_206 : decode cX9_count 206 = .ok (.iaload, 1) := dk_46 (dk_at dksX9_count_7 9 rfl rfl)
theorem dX9_count_207 : decode cX9_count 207 = .ok (.ireturn, 1) := dk_172 (dk_at dksX9_count_7 10 rfl rfl)
theorem dX9_count_208 : decode cX9_count 208 = .ok (.aload_n 0, 1) := dk_42 (dk_at dksX9_count_7 11 rfl rfl)
theorem dX9_count_209 : decode cX9_count 209 = .ok (.getfield 13, 3) := dk_180 0 13 (dk_at dksX9_count_7 12 rfl rfl)
theorem dX9_count_212 : decode cX9_count 212 = .ok (.iconst 5, 1) := dk_8 (dk_at dksX9_count_7 15 rfl rfl)
theorem dX9_count_213 : decode cX9_count 213 = .ok (.iaload, 1) := dk_46 (dk_at dksX9_count_7 16 rfl rfl)
theorem dX9_count_214 : decode cX9_count 214 = .ok (.ireturn, 1) := dk_172 (dk_at dksX9_count_7 17 rfl rfl)
theorem dX9_count_215 : decode cX9_count 215 = .ok (.aload_n 0, 1) := dk_42 (dk_at dksX9_count_7 18 rfl rfl)
theorem dX9_count_216 : decode cX9_count 216 = .ok (.getfield 13, 3) := dk_180 0 13 (dk_at dksX9_count_7 19 rfl rfl)
theorem dX9_count_219 : decode cX9_count 219 = .ok (.bipush 6, 2) := dk_16 6 (dk_at dksX9_count_7 22 rfl rfl)
theorem dX9_count_221 : decode cX9_count 221 = .ok (.iaload, 1) := dk_46 (dk_at dksX9_count_8 0 rfl rfl)
theorem dX9_count_222 : decode cX9_count 222 = .ok (.ireturn, 1) := dk_172 (dk_at dksX9_count_8 1 rfl rfl)
theorem dX9_count_223 : decode cX9_count 223 = .ok (.iconst (-1), 1) := dk_2 (dk_at dksX9_count_8 2 rfl rfl)
theorem dX9_count_224 : decode cX9_count 224 = .ok (.ireturn, 1) := dk_172 (dk_at dksX9_count_8 3 rfl rfl)
abbrev cX9_status : ByteArray := prog_23_method_106_code
def yX9_status : MethodName := ⟨RX9, "status", "()I"⟩
def dkwX9_status_0 : List UInt8 := [42, 3, 181, 0, 150, 42, 180, 0, 153, 172]
abbrev dktX9_status_0 : List UInt8 := dkwX9_status_0 ++ []
theorem dksX9_status_0 : cX9_status.data.toList.drop 0 = dktX9_status_0 := by decide +kernel
theorem dX9_status_0 : decode cX9_status 0 = .ok (.aload_n 0, 1) := dk_42 (dk_at dksX9_status_0 0 rfl rfl)
theorem dX9_status_1 : decode cX9_status 1 = .ok (.iconst 0, 1) := dk_3 (dk_at dksX9_status_0 1 rfl rfl)
theorem dX9_status_2 : decode cX9_status 2 = .ok (.putfield 150, 3) := dk_181 0 150 (dk_at dksX9_status_0 2 rfl rfl)
theorem dX9_status_5 : decode cX9_status 5 = .ok (.aload_n 0, 1) := dk_42 (dk_at dksX9_status_0 5 rfl rfl)
theorem dX9_status_6 : decode cX9_status 6 = .ok (.getfield 153, 3) := dk_180 0 153 (dk_at dksX9_status_0 6 rfl rfl)
theorem dX9_status_9 : decode cX9_status 9 = .ok (.ireturn, 1) := dk_172 (dk_at dksX9_status_0 9 rfl rfl)
theorem q117 : (Jvm.Cond.initialized "SnailPostModel") ∈ lw_all := lw_g (lw_at lw_m1 15 rfl) rfl
theorem q638 : (Jvm.Cond.selects "SnailPostModel" ({ cls := "java/lang/Object", name := "getClass", desc := "()Ljava/lang/Class;" } : Jvm.MethodName) ({ cls := "java/lang/Object", name := "getClass", desc := "()Ljava/lang/Class;" } : Jvm.MethodName)) ∈ lw_all := lw_g (lw_at lw_m3 56 rfl) rfl
theorem q1435 : (Jvm.Cond.instantiable "SnailPostModel" (60 : Nat)) ∈ lw_all := lw_g (lw_at lw_m6 133 rfl) rfl
theorem q1437 : (Jvm.Cond.instanceMethod ({ cls := "SnailPostModel", name := "<init>", desc := "()V" } : Jvm.MethodName)) ∈ lw_all := lw_g (lw_at lw_m6 135 rfl) rfl
theorem q1438 : (Jvm.Cond.code ({ cls := "SnailPostModel", name := "<init>", desc := "()V" } : Jvm.MethodName) prog_23_method_1_code (2 : Nat) (Option.none : Option Jvm.ClassFile.FieldType)) ∈ lw_all := lw_g (lw_at lw_m6 136 rfl) rfl
theorem q1439 : (Jvm.Cond.methodLink "SnailPostModel" (1 : Nat) ({ cls := "java/lang/Object", name := "<init>", desc := "()V" } : Jvm.MethodName)) ∈ lw_all := lw_g (lw_at lw_m6 137 rfl) rfl
theorem q1440 : (Jvm.Cond.constantLong "SnailPostModel" (45 : Nat) (20383020 : Int64)) ∈ lw_all := lw_g (lw_at lw_m6 138 rfl) rfl
theorem q1441 : (Jvm.Cond.constantLong "SnailPostModel" (47 : Nat) (370116 : Int64)) ∈ lw_all := lw_g (lw_at lw_m6 139 rfl) rfl
theorem q1442 : (Jvm.Cond.constantLong "SnailPostModel" (49 : Nat) (132528 : Int64)) ∈ lw_all := lw_g (lw_at lw_m6 140 rfl) rfl
theorem q1443 : (Jvm.Cond.constantLong "SnailPostModel" (51 : Nat) (12885268 : Int64)) ∈ lw_all := lw_g (lw_at lw_m6 141 rfl) rfl
theorem q1444 : (Jvm.Cond.constantLong "SnailPostModel" (53 : Nat) (21562668 : Int64)) ∈ lw_all := lw_g (lw_at lw_m6 142 rfl) rfl
theorem q1445 : (Jvm.Cond.constantLong "SnailPostModel" (55 : Nat) (16110 : Int64)) ∈ lw_all := lw_g (lw_at lw_m6 143 rfl) rfl
theorem q1446 : (Jvm.Cond.constantLong "SnailPostModel" (57 : Nat) (267845 : Int64)) ∈ lw_all := lw_g (lw_at lw_m6 144 rfl) rfl
theorem q1447 : (Jvm.Cond.constantLong "SnailPostModel" (59 : Nat) (278194 : Int64)) ∈ lw_all := lw_g (lw_at lw_m6 145 rfl) rfl
theorem q1448 : (Jvm.Cond.constantLong "SnailPostModel" (61 : Nat) (24 : Int64)) ∈ lw_all := lw_g (lw_at lw_m6 146 rfl) rfl
theorem q1449 : (Jvm.Cond.constantLong "SnailPostModel" (63 : Nat) (25 : Int64)) ∈ lw_all := lw_g (lw_at lw_m6 147 rfl) rfl
theorem q1450 : (Jvm.Cond.constantLong "SnailPostModel" (69 : Nat) (13289651 : Int64)) ∈ lw_all := lw_g (lw_at lw_m6 148 rfl) rfl
theorem q1451 : (Jvm.Cond.constantLong "SnailPostModel" (71 : Nat) (165523 : Int64)) ∈ lw_all := lw_g (lw_at lw_m6 149 rfl) rfl
theorem q1452 : (Jvm.Cond.constantLong "SnailPostModel" (73 : Nat) (8434323 : Int64)) ∈ lw_all := lw_g (lw_at lw_m6 150 rfl) rfl
theorem q1453 : (Jvm.Cond.fieldLink "SnailPostModel" (150 : Nat) "SnailPostModel" "thrown" "I") ∈ lw_all := lw_g (lw_at lw_m6 151 rfl) rfl
theorem q1454 : (Jvm.Cond.fieldLink "SnailPostModel" (153 : Nat) "SnailPostModel" "status" "I") ∈ lw_all := lw_g (lw_at lw_m6 152 rfl) rfl
theorem q1455 : (Jvm.Cond.fieldLink "SnailPostModel" (7 : Nat) "SnailPostModel" "refusals" "[I") ∈ lw_all := lw_g (lw_at lw_m6 153 rfl) rfl
theorem q1456 : (Jvm.Cond.fieldLink "SnailPostModel" (13 : Nat) "SnailPostModel" "row" "[I") ∈ lw_all := lw_g (lw_at lw_m6 154 rfl) rfl
theorem q1457 : (Jvm.Cond.fieldLink "SnailPostModel" (16 : Nat) "SnailPostModel" "images" "[I") ∈ lw_all := lw_g (lw_at lw_m6 155 rfl) rfl
theorem q1458 : (Jvm.Cond.fieldLink "SnailPostModel" (19 : Nat) "SnailPostModel" "isKept" "[Z") ∈ lw_all := lw_g (lw_at lw_m6 156 rfl) rfl
theorem q1459 : (Jvm.Cond.fieldLink "SnailPostModel" (209 : Nat) "SnailPostModel" "spilt" "I") ∈ lw_all := lw_g (lw_at lw_m6 157 rfl) rfl
theorem q1460 : (Jvm.Cond.fieldLink "SnailPostModel" (23 : Nat) "SnailPostModel" "tape" "[I") ∈ lw_all := lw_g (lw_at lw_m6 158 rfl) rfl
theorem q1461 : (Jvm.Cond.fieldLink "SnailPostModel" (206 : Nat) "SnailPostModel" "taped" "I") ∈ lw_all := lw_g (lw_at lw_m6 159 rfl) rfl
theorem q1462 : (Jvm.Cond.fieldLink "SnailPostModel" (226 : Nat) "SnailPostModel" "from" "I") ∈ lw_all := lw_g (lw_at lw_m6 160 rfl) rfl
theorem q1463 : (Jvm.Cond.fieldLink "SnailPostModel" (216 : Nat) "SnailPostModel" "to" "I") ∈ lw_all := lw_g (lw_at lw_m6 161 rfl) rfl
theorem q1464 : (Jvm.Cond.fieldLink "SnailPostModel" (239 : Nat) "SnailPostModel" "sort" "I") ∈ lw_all := lw_g (lw_at lw_m6 162 rfl) rfl
theorem q1465 : (Jvm.Cond.fieldLink "SnailPostModel" (229 : Nat) "SnailPostModel" "worth" "J") ∈ lw_all := lw_g (lw_at lw_m6 163 rfl) rfl
theorem q1466 : (Jvm.Cond.fieldLink "SnailPostModel" (26 : Nat) "SnailPostModel" "fault" "I") ∈ lw_all := lw_g (lw_at lw_m6 164 rfl) rfl
theorem q1467 : (Jvm.Cond.fieldLink "SnailPostModel" (219 : Nat) "SnailPostModel" "bad" "Z") ∈ lw_all := lw_g (lw_at lw_m6 165 rfl) rfl
theorem q1468 : (Jvm.Cond.fieldLink "SnailPostModel" (333 : Nat) "SnailPostModel" "nClauses" "I") ∈ lw_all := lw_g (lw_at lw_m6 166 rfl) rfl
theorem q1469 : (Jvm.Cond.fieldLink "SnailPostModel" (30 : Nat) "SnailPostModel" "nClause" "[I") ∈ lw_all := lw_g (lw_at lw_m6 167 rfl) rfl
theorem q1470 : (Jvm.Cond.fieldLink "SnailPostModel" (258 : Nat) "SnailPostModel" "nCode" "I") ∈ lw_all := lw_g (lw_at lw_m6 168 rfl) rfl
theorem q1471 : (Jvm.Cond.fieldLink "SnailPostModel" (33 : Nat) "SnailPostModel" "nOp" "[I") ∈ lw_all := lw_g (lw_at lw_m6 169 rfl) rfl
theorem q1472 : (Jvm.Cond.fieldLink "SnailPostModel" (36 : Nat) "SnailPostModel" "nArg" "[I") ∈ lw_all := lw_g (lw_at lw_m6 170 rfl) rfl
theorem q1473 : (Jvm.Cond.fieldLink "SnailPostModel" (285 : Nat) "SnailPostModel" "nLeaves" "I") ∈ lw_all := lw_g (lw_at lw_m6 171 rfl) rfl
theorem q1474 : (Jvm.Cond.fieldLink "SnailPostModel" (39 : Nat) "SnailPostModel" "pile" "[I") ∈ lw_all := lw_g (lw_at lw_m6 172 rfl) rfl
theorem q1475 : (Jvm.Cond.fieldLink "SnailPostModel" (42 : Nat) "SnailPostModel" "pileAt" "[I") ∈ lw_all := lw_g (lw_at lw_m6 173 rfl) rfl
theorem q1476 : (Jvm.Cond.fieldLink "SnailPostModel" (261 : Nat) "SnailPostModel" "piled" "I") ∈ lw_all := lw_g (lw_at lw_m6 174 rfl) rfl
theorem q1477 : (Jvm.Cond.fieldLink "SnailPostModel" (279 : Nat) "SnailPostModel" "opened" "I") ∈ lw_all := lw_g (lw_at lw_m6 175 rfl) rfl
theorem q1478 : (Jvm.Cond.fieldLink "SnailPostModel" (65 : Nat) "SnailPostModel" "words" "[J") ∈ lw_all := lw_g (lw_at lw_m6 176 rfl) rfl
theorem q1479 : (Jvm.Cond.fieldLink "SnailPostModel" (75 : Nat) "SnailPostModel" "headWords" "[J") ∈ lw_all := lw_g (lw_at lw_m6 177 rfl) rfl
theorem q1480 : (Jvm.Cond.fieldLink "SnailPostModel" (350 : Nat) "SnailPostModel" "law" "I") ∈ lw_all := lw_g (lw_at lw_m6 178 rfl) rfl
theorem q1481 : (Jvm.Cond.fieldLink "SnailPostModel" (78 : Nat) "SnailPostModel" "set" "[J") ∈ lw_all := lw_g (lw_at lw_m6 179 rfl) rfl
theorem q1482 : (Jvm.Cond.fieldLink "SnailPostModel" (81 : Nat) "SnailPostModel" "rest" "[J") ∈ lw_all := lw_g (lw_at lw_m6 180 rfl) rfl
theorem q1483 : (Jvm.Cond.fieldLink "SnailPostModel" (347 : Nat) "SnailPostModel" "broken" "Z") ∈ lw_all := lw_g (lw_at lw_m6 181 rfl) rfl
theorem q1484 : (Jvm.Cond.fieldLink "SnailPostModel" (361 : Nat) "SnailPostModel" "value" "J") ∈ lw_all := lw_g (lw_at lw_m6 182 rfl) rfl
theorem q1485 : (Jvm.Cond.fieldLink "SnailPostModel" (367 : Nat) "SnailPostModel" "sum" "J") ∈ lw_all := lw_g (lw_at lw_m6 183 rfl) rfl
theorem q1486 : (Jvm.Cond.fieldLink "SnailPostModel" (84 : Nat) "SnailPostModel" "at" "[I") ∈ lw_all := lw_g (lw_at lw_m6 184 rfl) rfl
theorem q1487 : (Jvm.Cond.fieldLink "SnailPostModel" (87 : Nat) "SnailPostModel" "came" "[I") ∈ lw_all := lw_g (lw_at lw_m6 185 rfl) rfl
theorem q1488 : (Jvm.Cond.fieldLink "SnailPostModel" (90 : Nat) "SnailPostModel" "eaten" "[Z") ∈ lw_all := lw_g (lw_at lw_m6 186 rfl) rfl
theorem q1489 : (Jvm.Cond.fieldLink "SnailPostModel" (93 : Nat) "SnailPostModel" "been" "[I") ∈ lw_all := lw_g (lw_at lw_m6 187 rfl) rfl
theorem q1490 : (Jvm.Cond.fieldLink "SnailPostModel" (96 : Nat) "SnailPostModel" "stayed" "[I") ∈ lw_all := lw_g (lw_at lw_m6 188 rfl) rfl
theorem q1491 : (Jvm.Cond.fieldLink "SnailPostModel" (99 : Nat) "SnailPostModel" "places" "[I") ∈ lw_all := lw_g (lw_at lw_m6 189 rfl) rfl
theorem q1492 : (Jvm.Cond.fieldLink "SnailPostModel" (102 : Nat) "SnailPostModel" "keptAt" "[I") ∈ lw_all := lw_g (lw_at lw_m6 190 rfl) rfl
theorem q1493 : (Jvm.Cond.fieldLink "SnailPostModel" (105 : Nat) "SnailPostModel" "keptCame" "[I") ∈ lw_all := lw_g (lw_at lw_m6 191 rfl) rfl
theorem q1494 : (Jvm.Cond.fieldLink "SnailPostModel" (108 : Nat) "SnailPostModel" "keptBeen" "[I") ∈ lw_all := lw_g (lw_at lw_m6 192 rfl) rfl
theorem q1495 : (Jvm.Cond.fieldLink "SnailPostModel" (111 : Nat) "SnailPostModel" "tried" "[I") ∈ lw_all := lw_g (lw_at lw_m6 193 rfl) rfl
theorem q1496 : (Jvm.Cond.fieldLink "SnailPostModel" (114 : Nat) "SnailPostModel" "chosen" "[I") ∈ lw_all := lw_g (lw_at lw_m6 194 rfl) rfl
theorem q1497 : (Jvm.Cond.fieldLink "SnailPostModel" (414 : Nat) "SnailPostModel" "mostCome" "I") ∈ lw_all := lw_g (lw_at lw_m6 195 rfl) rfl
theorem q1498 : (Jvm.Cond.fieldLink "SnailPostModel" (417 : Nat) "SnailPostModel" "leastSum" "I") ∈ lw_all := lw_g (lw_at lw_m6 196 rfl) rfl
theorem q1499 : (Jvm.Cond.fieldLink "SnailPostModel" (420 : Nat) "SnailPostModel" "asGood" "I") ∈ lw_all := lw_g (lw_at lw_m6 197 rfl) rfl
theorem q1500 : (Jvm.Cond.fieldLink "SnailPostModel" (117 : Nat) "SnailPostModel" "bests" "[I") ∈ lw_all := lw_g (lw_at lw_m6 198 rfl) rfl
theorem q1501 : (Jvm.Cond.fieldLink "SnailPostModel" (120 : Nat) "SnailPostModel" "firsts" "[I") ∈ lw_all := lw_g (lw_at lw_m6 199 rfl) rfl
theorem q1502 : (Jvm.Cond.fieldLink "SnailPostModel" (123 : Nat) "SnailPostModel" "trying" "[I") ∈ lw_all := lw_g (lw_at lw_m6 200 rfl) rfl
theorem q1503 : (Jvm.Cond.fieldLink "SnailPostModel" (126 : Nat) "SnailPostModel" "steps" "[I") ∈ lw_all := lw_g (lw_at lw_m6 201 rfl) rfl
theorem q1504 : (Jvm.Cond.fieldLink "SnailPostModel" (129 : Nat) "SnailPostModel" "shells" "[I") ∈ lw_all := lw_g (lw_at lw_m6 202 rfl) rfl
theorem q1505 : (Jvm.Cond.fieldLink "SnailPostModel" (132 : Nat) "SnailPostModel" "waysTo" "[I") ∈ lw_all := lw_g (lw_at lw_m6 203 rfl) rfl
theorem q1506 : (Jvm.Cond.fieldLink "SnailPostModel" (135 : Nat) "SnailPostModel" "waysOn" "[I") ∈ lw_all := lw_g (lw_at lw_m6 204 rfl) rfl
theorem q1507 : (Jvm.Cond.fieldLink "SnailPostModel" (138 : Nat) "SnailPostModel" "waysAhead" "[I") ∈ lw_all := lw_g (lw_at lw_m6 205 rfl) rfl
theorem q1508 : (Jvm.Cond.fieldLink "SnailPostModel" (485 : Nat) "SnailPostModel" "state" "J") ∈ lw_all := lw_g (lw_at lw_m6 206 rfl) rfl
theorem q1509 : (Jvm.Cond.fieldLink "SnailPostModel" (141 : Nat) "SnailPostModel" "eatenBehind" "[I") ∈ lw_all := lw_g (lw_at lw_m6 207 rfl) rfl
theorem q1510 : (Jvm.Cond.fieldLink "SnailPostModel" (144 : Nat) "SnailPostModel" "endCame" "[I") ∈ lw_all := lw_g (lw_at lw_m6 208 rfl) rfl
theorem q1511 : (Jvm.Cond.fieldLink "SnailPostModel" (147 : Nat) "SnailPostModel" "endAt" "[I") ∈ lw_all := lw_g (lw_at lw_m6 209 rfl) rfl
theorem q1512 : (Jvm.Cond.fieldLink "SnailPostModel" (494 : Nat) "SnailPostModel" "nHunted" "I") ∈ lw_all := lw_g (lw_at lw_m6 210 rfl) rfl
theorem q1513 : (Jvm.Cond.lays "SnailPostModel" "SnailPostModel" "thrown" "I") ∈ lw_all := lw_g (lw_at lw_m6 211 rfl) rfl
theorem q1514 : (Jvm.Cond.soleField "SnailPostModel" "thrown") ∈ lw_all := lw_g (lw_at lw_m6 212 rfl) rfl
theorem q1515 : (Jvm.Cond.lays "SnailPostModel" "SnailPostModel" "status" "I") ∈ lw_all := lw_g (lw_at lw_m6 213 rfl) rfl
theorem q1516 : (Jvm.Cond.soleField "SnailPostModel" "status") ∈ lw_all := lw_g (lw_at lw_m6 214 rfl) rfl
theorem q1517 : (Jvm.Cond.laysFinal "SnailPostModel" "SnailPostModel" "refusals" "[I") ∈ lw_all := lw_g (lw_at lw_m6 215 rfl) rfl
theorem q1518 : (Jvm.Cond.soleField "SnailPostModel" "refusals") ∈ lw_all := lw_g (lw_at lw_m6 216 rfl) rfl
theorem q1519 : (Jvm.Cond.laysFinal "SnailPostModel" "SnailPostModel" "row" "[I") ∈ lw_all := lw_g (lw_at lw_m6 217 rfl) rfl
theorem q1520 : (Jvm.Cond.soleField "SnailPostModel" "row") ∈ lw_all := lw_g (lw_at lw_m6 218 rfl) rfl
theorem q1521 : (Jvm.Cond.laysFinal "SnailPostModel" "SnailPostModel" "images" "[I") ∈ lw_all := lw_g (lw_at lw_m6 219 rfl) rfl
theorem q1522 : (Jvm.Cond.soleField "SnailPostModel" "images") ∈ lw_all := lw_g (lw_at lw_m6 220 rfl) rfl
theorem q1523 : (Jvm.Cond.laysFinal "SnailPostModel" "SnailPostModel" "isKept" "[Z") ∈ lw_all := lw_g (lw_at lw_m6 221 rfl) rfl
theorem q1524 : (Jvm.Cond.soleField "SnailPostModel" "isKept") ∈ lw_all := lw_g (lw_at lw_m6 222 rfl) rfl
theorem q1525 : (Jvm.Cond.lays "SnailPostModel" "SnailPostModel" "spilt" "I") ∈ lw_all := lw_g (lw_at lw_m6 223 rfl) rfl
theorem q1526 : (Jvm.Cond.soleField "SnailPostModel" "spilt") ∈ lw_all := lw_g (lw_at lw_m6 224 rfl) rfl
theorem q1527 : (Jvm.Cond.laysFinal "SnailPostModel" "SnailPostModel" "tape" "[I") ∈ lw_all := lw_g (lw_at lw_m6 225 rfl) rfl
theorem q1528 : (Jvm.Cond.soleField "SnailPostModel" "tape") ∈ lw_all := lw_g (lw_at lw_m6 226 rfl) rfl
theorem q1529 : (Jvm.Cond.lays "SnailPostModel" "SnailPostModel" "taped" "I") ∈ lw_all := lw_g (lw_at lw_m6 227 rfl) rfl
theorem q1530 : (Jvm.Cond.soleField "SnailPostModel" "taped") ∈ lw_all := lw_g (lw_at lw_m6 228 rfl) rfl
theorem q1531 : (Jvm.Cond.lays "SnailPostModel" "SnailPostModel" "from" "I") ∈ lw_all := lw_g (lw_at lw_m6 229 rfl) rfl
theorem q1532 : (Jvm.Cond.soleField "SnailPostModel" "from") ∈ lw_all := lw_g (lw_at lw_m6 230 rfl) rfl
theorem q1533 : (Jvm.Cond.lays "SnailPostModel" "SnailPostModel" "to" "I") ∈ lw_all := lw_g (lw_at lw_m6 231 rfl) rfl
theorem q1534 : (Jvm.Cond.soleField "SnailPostModel" "to") ∈ lw_all := lw_g (lw_at lw_m6 232 rfl) rfl
theorem q1535 : (Jvm.Cond.lays "SnailPostModel" "SnailPostModel" "sort" "I") ∈ lw_all := lw_g (lw_at lw_m6 233 rfl) rfl
theorem q1536 : (Jvm.Cond.soleField "SnailPostModel" "sort") ∈ lw_all := lw_g (lw_at lw_m6 234 rfl) rfl
theorem q1537 : (Jvm.Cond.lays "SnailPostModel" "SnailPostModel" "worth" "J") ∈ lw_all := lw_g (lw_at lw_m6 235 rfl) rfl
theorem q1538 : (Jvm.Cond.soleField "SnailPostModel" "worth") ∈ lw_all := lw_g (lw_at lw_m6 236 rfl) rfl
theorem q1539 : (Jvm.Cond.lays "SnailPostModel" "SnailPostModel" "fault" "I") ∈ lw_all := lw_g (lw_at lw_m6 237 rfl) rfl
theorem q1540 : (Jvm.Cond.soleField "SnailPostModel" "fault") ∈ lw_all := lw_g (lw_at lw_m6 238 rfl) rfl
theorem q1541 : (Jvm.Cond.lays "SnailPostModel" "SnailPostModel" "bad" "Z") ∈ lw_all := lw_g (lw_at lw_m6 239 rfl) rfl
theorem q1542 : (Jvm.Cond.soleField "SnailPostModel" "bad") ∈ lw_all := lw_g (lw_at lw_m7 0 rfl) rfl
theorem q1543 : (Jvm.Cond.lays "SnailPostModel" "SnailPostModel" "nClauses" "I") ∈ lw_all := lw_g (lw_at lw_m7 1 rfl) rfl
theorem q1544 : (Jvm.Cond.soleField "SnailPostModel" "nClauses") ∈ lw_all := lw_g (lw_at lw_m7 2 rfl) rfl
theorem q1545 : (Jvm.Cond.laysFinal "SnailPostModel" "SnailPostModel" "nClause" "[I") ∈ lw_all := lw_g (lw_at lw_m7 3 rfl) rfl
theorem q1546 : (Jvm.Cond.soleField "SnailPostModel" "nClause") ∈ lw_all := lw_g (lw_at lw_m7 4 rfl) rfl
theorem q1547 : (Jvm.Cond.lays "SnailPostModel" "SnailPostModel" "nCode" "I") ∈ lw_all := lw_g (lw_at lw_m7 5 rfl) rfl
theorem q1548 : (Jvm.Cond.soleField "SnailPostModel" "nCode") ∈ lw_all := lw_g (lw_at lw_m7 6 rfl) rfl
theorem q1549 : (Jvm.Cond.laysFinal "SnailPostModel" "SnailPostModel" "nOp" "[I") ∈ lw_all := lw_g (lw_at lw_m7 7 rfl) rfl
theorem q1550 : (Jvm.Cond.soleField "SnailPostModel" "nOp") ∈ lw_all := lw_g (lw_at lw_m7 8 rfl) rfl
theorem q1551 : (Jvm.Cond.laysFinal "SnailPostModel" "SnailPostModel" "nArg" "[I") ∈ lw_all := lw_g (lw_at lw_m7 9 rfl) rfl
theorem q1552 : (Jvm.Cond.soleField "SnailPostModel" "nArg") ∈ lw_all := lw_g (lw_at lw_m7 10 rfl) rfl
theorem q1553 : (Jvm.Cond.lays "SnailPostModel" "SnailPostModel" "nLeaves" "I") ∈ lw_all := lw_g (lw_at lw_m7 11 rfl) rfl
theorem q1554 : (Jvm.Cond.soleField "SnailPostModel" "nLeaves") ∈ lw_all := lw_g (lw_at lw_m7 12 rfl) rfl
theorem q1555 : (Jvm.Cond.laysFinal "SnailPostModel" "SnailPostModel" "pile" "[I") ∈ lw_all := lw_g (lw_at lw_m7 13 rfl) rfl
theorem q1556 : (Jvm.Cond.soleField "SnailPostModel" "pile") ∈ lw_all := lw_g (lw_at lw_m7 14 rfl) rfl
theorem q1557 : (Jvm.Cond.laysFinal "SnailPostModel" "SnailPostModel" "pileAt" "[I") ∈ lw_all := lw_g (lw_at lw_m7 15 rfl) rfl
theorem q1558 : (Jvm.Cond.soleField "SnailPostModel" "pileAt") ∈ lw_all := lw_g (lw_at lw_m7 16 rfl) rfl
theorem q1559 : (Jvm.Cond.lays "SnailPostModel" "SnailPostModel" "piled" "I") ∈ lw_all := lw_g (lw_at lw_m7 17 rfl) rfl
theorem q1560 : (Jvm.Cond.soleField "SnailPostModel" "piled") ∈ lw_all := lw_g (lw_at lw_m7 18 rfl) rfl
theorem q1561 : (Jvm.Cond.lays "SnailPostModel" "SnailPostModel" "opened" "I") ∈ lw_all := lw_g (lw_at lw_m7 19 rfl) rfl
theorem q1562 : (Jvm.Cond.soleField "SnailPostModel" "opened") ∈ lw_all := lw_g (lw_at lw_m7 20 rfl) rfl
theorem q1563 : (Jvm.Cond.laysFinal "SnailPostModel" "SnailPostModel" "words" "[J") ∈ lw_all := lw_g (lw_at lw_m7 21 rfl) rfl
theorem q1564 : (Jvm.Cond.soleField "SnailPostModel" "words") ∈ lw_all := lw_g (lw_at lw_m7 22 rfl) rfl
theorem q1565 : (Jvm.Cond.laysFinal "SnailPostModel" "SnailPostModel" "headWords" "[J") ∈ lw_all := lw_g (lw_at lw_m7 23 rfl) rfl
theorem q1566 : (Jvm.Cond.soleField "SnailPostModel" "headWords") ∈ lw_all := lw_g (lw_at lw_m7 24 rfl) rfl
theorem q1567 : (Jvm.Cond.lays "SnailPostModel" "SnailPostModel" "law" "I") ∈ lw_all := lw_g (lw_at lw_m7 25 rfl) rfl
theorem q1568 : (Jvm.Cond.soleField "SnailPostModel" "law") ∈ lw_all := lw_g (lw_at lw_m7 26 rfl) rfl
theorem q1569 : (Jvm.Cond.laysFinal "SnailPostModel" "SnailPostModel" "set" "[J") ∈ lw_all := lw_g (lw_at lw_m7 27 rfl) rfl
theorem q1570 : (Jvm.Cond.soleField "SnailPostModel" "set") ∈ lw_all := lw_g (lw_at lw_m7 28 rfl) rfl
theorem q1571 : (Jvm.Cond.laysFinal "SnailPostModel" "SnailPostModel" "rest" "[J") ∈ lw_all := lw_g (lw_at lw_m7 29 rfl) rfl
theorem q1572 : (Jvm.Cond.soleField "SnailPostModel" "rest") ∈ lw_all := lw_g (lw_at lw_m7 30 rfl) rfl
theorem q1573 : (Jvm.Cond.lays "SnailPostModel" "SnailPostModel" "broken" "Z") ∈ lw_all := lw_g (lw_at lw_m7 31 rfl) rfl
theorem q1574 : (Jvm.Cond.soleField "SnailPostModel" "broken") ∈ lw_all := lw_g (lw_at lw_m7 32 rfl) rfl
theorem q1575 : (Jvm.Cond.lays "SnailPostModel" "SnailPostModel" "value" "J") ∈ lw_all := lw_g (lw_at lw_m7 33 rfl) rfl
theorem q1576 : (Jvm.Cond.soleField "SnailPostModel" "value") ∈ lw_all := lw_g (lw_at lw_m7 34 rfl) rfl
theorem q1577 : (Jvm.Cond.lays "SnailPostModel" "SnailPostModel" "sum" "J") ∈ lw_all := lw_g (lw_at lw_m7 35 rfl) rfl
theorem q1578 : (Jvm.Cond.soleField "SnailPostModel" "sum") ∈ lw_all := lw_g (lw_at lw_m7 36 rfl) rfl
theorem q1579 : (Jvm.Cond.laysFinal "SnailPostModel" "SnailPostModel" "at" "[I") ∈ lw_all := lw_g (lw_at lw_m7 37 rfl) rfl
theorem q1580 : (Jvm.Cond.soleField "SnailPostModel" "at") ∈ lw_all := lw_g (lw_at lw_m7 38 rfl) rfl
theorem q1581 : (Jvm.Cond.laysFinal "SnailPostModel" "SnailPostModel" "came" "[I") ∈ lw_all := lw_g (lw_at lw_m7 39 rfl) rfl
theorem q1582 : (Jvm.Cond.soleField "SnailPostModel" "came") ∈ lw_all := lw_g (lw_at lw_m7 40 rfl) rfl
theorem q1583 : (Jvm.Cond.laysFinal "SnailPostModel" "SnailPostModel" "eaten" "[Z") ∈ lw_all := lw_g (lw_at lw_m7 41 rfl) rfl
theorem q1584 : (Jvm.Cond.soleField "SnailPostModel" "eaten") ∈ lw_all := lw_g (lw_at lw_m7 42 rfl) rfl
theorem q1585 : (Jvm.Cond.laysFinal "SnailPostModel" "SnailPostModel" "been" "[I") ∈ lw_all := lw_g (lw_at lw_m7 43 rfl) rfl
theorem q1586 : (Jvm.Cond.soleField "SnailPostModel" "been") ∈ lw_all := lw_g (lw_at lw_m7 44 rfl) rfl
theorem q1587 : (Jvm.Cond.laysFinal "SnailPostModel" "SnailPostModel" "stayed" "[I") ∈ lw_all := lw_g (lw_at lw_m7 45 rfl) rfl
theorem q1588 : (Jvm.Cond.soleField "SnailPostModel" "stayed") ∈ lw_all := lw_g (lw_at lw_m7 46 rfl) rfl
theorem q1589 : (Jvm.Cond.laysFinal "SnailPostModel" "SnailPostModel" "places" "[I") ∈ lw_all := lw_g (lw_at lw_m7 47 rfl) rfl
theorem q1590 : (Jvm.Cond.soleField "SnailPostModel" "places") ∈ lw_all := lw_g (lw_at lw_m7 48 rfl) rfl
theorem q1591 : (Jvm.Cond.laysFinal "SnailPostModel" "SnailPostModel" "keptAt" "[I") ∈ lw_all := lw_g (lw_at lw_m7 49 rfl) rfl
theorem q1592 : (Jvm.Cond.soleField "SnailPostModel" "keptAt") ∈ lw_all := lw_g (lw_at lw_m7 50 rfl) rfl
theorem q1593 : (Jvm.Cond.laysFinal "SnailPostModel" "SnailPostModel" "keptCame" "[I") ∈ lw_all := lw_g (lw_at lw_m7 51 rfl) rfl
theorem q1594 : (Jvm.Cond.soleField "SnailPostModel" "keptCame") ∈ lw_all := lw_g (lw_at lw_m7 52 rfl) rfl
theorem q1595 : (Jvm.Cond.laysFinal "SnailPostModel" "SnailPostModel" "keptBeen" "[I") ∈ lw_all := lw_g (lw_at lw_m7 53 rfl) rfl
theorem q1596 : (Jvm.Cond.soleField "SnailPostModel" "keptBeen") ∈ lw_all := lw_g (lw_at lw_m7 54 rfl) rfl
theorem q1597 : (Jvm.Cond.laysFinal "SnailPostModel" "SnailPostModel" "tried" "[I") ∈ lw_all := lw_g (lw_at lw_m7 55 rfl) rfl
theorem q1598 : (Jvm.Cond.soleField "SnailPostModel" "tried") ∈ lw_all := lw_g (lw_at lw_m7 56 rfl) rfl
theorem q1599 : (Jvm.Cond.laysFinal "SnailPostModel" "SnailPostModel" "chosen" "[I") ∈ lw_all := lw_g (lw_at lw_m7 57 rfl) rfl
theorem q1600 : (Jvm.Cond.soleField "SnailPostModel" "chosen") ∈ lw_all := lw_g (lw_at lw_m7 58 rfl) rfl
theorem q1601 : (Jvm.Cond.lays "SnailPostModel" "SnailPostModel" "mostCome" "I") ∈ lw_all := lw_g (lw_at lw_m7 59 rfl) rfl
theorem q1602 : (Jvm.Cond.soleField "SnailPostModel" "mostCome") ∈ lw_all := lw_g (lw_at lw_m7 60 rfl) rfl
theorem q1603 : (Jvm.Cond.lays "SnailPostModel" "SnailPostModel" "leastSum" "I") ∈ lw_all := lw_g (lw_at lw_m7 61 rfl) rfl
theorem q1604 : (Jvm.Cond.soleField "SnailPostModel" "leastSum") ∈ lw_all := lw_g (lw_at lw_m7 62 rfl) rfl
theorem q1605 : (Jvm.Cond.lays "SnailPostModel" "SnailPostModel" "asGood" "I") ∈ lw_all := lw_g (lw_at lw_m7 63 rfl) rfl
theorem q1606 : (Jvm.Cond.soleField "SnailPostModel" "asGood") ∈ lw_all := lw_g (lw_at lw_m7 64 rfl) rfl
theorem q1607 : (Jvm.Cond.laysFinal "SnailPostModel" "SnailPostModel" "bests" "[I") ∈ lw_all := lw_g (lw_at lw_m7 65 rfl) rfl
theorem q1608 : (Jvm.Cond.soleField "SnailPostModel" "bests") ∈ lw_all := lw_g (lw_at lw_m7 66 rfl) rfl
theorem q1609 : (Jvm.Cond.laysFinal "SnailPostModel" "SnailPostModel" "firsts" "[I") ∈ lw_all := lw_g (lw_at lw_m7 67 rfl) rfl
theorem q1610 : (Jvm.Cond.soleField "SnailPostModel" "firsts") ∈ lw_all := lw_g (lw_at lw_m7 68 rfl) rfl
theorem q1611 : (Jvm.Cond.laysFinal "SnailPostModel" "SnailPostModel" "trying" "[I") ∈ lw_all := lw_g (lw_at lw_m7 69 rfl) rfl
theorem q1612 : (Jvm.Cond.soleField "SnailPostModel" "trying") ∈ lw_all := lw_g (lw_at lw_m7 70 rfl) rfl
theorem q1613 : (Jvm.Cond.laysFinal "SnailPostModel" "SnailPostModel" "steps" "[I") ∈ lw_all := lw_g (lw_at lw_m7 71 rfl) rfl
theorem q1614 : (Jvm.Cond.soleField "SnailPostModel" "steps") ∈ lw_all := lw_g (lw_at lw_m7 72 rfl) rfl
theorem q1615 : (Jvm.Cond.laysFinal "SnailPostModel" "SnailPostModel" "shells" "[I") ∈ lw_all := lw_g (lw_at lw_m7 73 rfl) rfl
theorem q1616 : (Jvm.Cond.soleField "SnailPostModel" "shells") ∈ lw_all := lw_g (lw_at lw_m7 74 rfl) rfl
theorem q1617 : (Jvm.Cond.laysFinal "SnailPostModel" "SnailPostModel" "waysTo" "[I") ∈ lw_all := lw_g (lw_at lw_m7 75 rfl) rfl
theorem q1618 : (Jvm.Cond.soleField "SnailPostModel" "waysTo") ∈ lw_all := lw_g (lw_at lw_m7 76 rfl) rfl
theorem q1619 : (Jvm.Cond.laysFinal "SnailPostModel" "SnailPostModel" "waysOn" "[I") ∈ lw_all := lw_g (lw_at lw_m7 77 rfl) rfl
theorem q1620 : (Jvm.Cond.soleField "SnailPostModel" "waysOn") ∈ lw_all := lw_g (lw_at lw_m7 78 rfl) rfl
theorem q1621 : (Jvm.Cond.laysFinal "SnailPostModel" "SnailPostModel" "waysAhead" "[I") ∈ lw_all := lw_g (lw_at lw_m7 79 rfl) rfl
theorem q1622 : (Jvm.Cond.soleField "SnailPostModel" "waysAhead") ∈ lw_all := lw_g (lw_at lw_m7 80 rfl) rfl
theorem q1623 : (Jvm.Cond.lays "SnailPostModel" "SnailPostModel" "state" "J") ∈ lw_all := lw_g (lw_at lw_m7 81 rfl) rfl
theorem q1624 : (Jvm.Cond.soleField "SnailPostModel" "state") ∈ lw_all := lw_g (lw_at lw_m7 82 rfl) rfl
theorem q1625 : (Jvm.Cond.laysFinal "SnailPostModel" "SnailPostModel" "eatenBehind" "[I") ∈ lw_all := lw_g (lw_at lw_m7 83 rfl) rfl
theorem q1626 : (Jvm.Cond.soleField "SnailPostModel" "eatenBehind") ∈ lw_all := lw_g (lw_at lw_m7 84 rfl) rfl
theorem q1627 : (Jvm.Cond.laysFinal "SnailPostModel" "SnailPostModel" "endCame" "[I") ∈ lw_all := lw_g (lw_at lw_m7 85 rfl) rfl
theorem q1628 : (Jvm.Cond.soleField "SnailPostModel" "endCame") ∈ lw_all := lw_g (lw_at lw_m7 86 rfl) rfl
theorem q1629 : (Jvm.Cond.laysFinal "SnailPostModel" "SnailPostModel" "endAt" "[I") ∈ lw_all := lw_g (lw_at lw_m7 87 rfl) rfl
theorem q1630 : (Jvm.Cond.soleField "SnailPostModel" "endAt") ∈ lw_all := lw_g (lw_at lw_m7 88 rfl) rfl
theorem q1631 : (Jvm.Cond.lays "SnailPostModel" "SnailPostModel" "nHunted" "I") ∈ lw_all := lw_g (lw_at lw_m7 89 rfl) rfl
theorem q1632 : (Jvm.Cond.soleField "SnailPostModel" "nHunted") ∈ lw_all := lw_g (lw_at lw_m7 90 rfl) rfl
theorem q1633 : (Jvm.Cond.superclass "SnailPostModel" "java/lang/Object") ∈ lw_all := lw_g (lw_at lw_m7 91 rfl) rfl
theorem q1635 : (Jvm.Cond.instanceMethod ({ cls := "SnailPostModel", name := "image", desc := "(I)I" } : Jvm.MethodName)) ∈ lw_all := lw_g (lw_at lw_m7 93 rfl) rfl
theorem q1636 : (Jvm.Cond.selects "SnailPostModel" ({ cls := "SnailPostModel", name := "image", desc := "(I)I" } : Jvm.MethodName) ({ cls := "SnailPostModel", name := "image", desc := "(I)I" } : Jvm.MethodName)) ∈ lw_all := lw_g (lw_at lw_m7 94 rfl) rfl
theorem q1637 : (Jvm.Cond.code ({ cls := "SnailPostModel", name := "image", desc := "(I)I" } : Jvm.MethodName) prog_23_method_9_code (3 : Nat) (Option.some Jvm.ClassFile.FieldType.int)) ∈ lw_all := lw_g (lw_at lw_m7 95 rfl) rfl
theorem q1638 : (Jvm.Cond.methodLink "SnailPostModel" (160 : Nat) ({ cls := "SnailPostModel", name := "in", desc := "(JJJ)Z" } : Jvm.MethodName)) ∈ lw_all := lw_g (lw_at lw_m7 96 rfl) rfl
theorem q1639 : (Jvm.Cond.static ({ cls := "SnailPostModel", name := "in", desc := "(JJJ)Z" } : Jvm.MethodName)) ∈ lw_all := lw_g (lw_at lw_m7 97 rfl) rfl
theorem q1640 : (Jvm.Cond.code ({ cls := "SnailPostModel", name := "in", desc := "(JJJ)Z" } : Jvm.MethodName) prog_23_method_3_code (6 : Nat) (Option.some Jvm.ClassFile.FieldType.boolean)) ∈ lw_all := lw_g (lw_at lw_m7 98 rfl) rfl
theorem q1641 : (Jvm.Cond.methodLink "SnailPostModel" (164 : Nat) ({ cls := "SnailPostModel", name := "tell", desc := "(I)I" } : Jvm.MethodName)) ∈ lw_all := lw_g (lw_at lw_m7 99 rfl) rfl
theorem q1642 : (Jvm.Cond.privateMethod ({ cls := "SnailPostModel", name := "tell", desc := "(I)I" } : Jvm.MethodName)) ∈ lw_tbl := lw_at lw_m7 100 rfl
theorem q1643 : (Jvm.Cond.instanceMethod ({ cls := "SnailPostModel", name := "tell", desc := "(I)I" } : Jvm.MethodName)) ∈ lw_all := lw_g (lw_at lw_m7 101 rfl) rfl
theorem q1644 : (Jvm.Cond.code ({ cls := "SnailPostModel", name := "tell", desc := "(I)I" } : Jvm.MethodName) prog_23_method_6_code (2 : Nat) (Option.some Jvm.ClassFile.FieldType.int)) ∈ lw_all := lw_g (lw_at lw_m7 102 rfl) rfl
theorem q1646 : (Jvm.Cond.instanceMethod ({ cls := "SnailPostModel", name := "back", desc := "(I)I" } : Jvm.MethodName)) ∈ lw_all := lw_g (lw_at lw_m7 104 rfl) rfl
theorem q1647 : (Jvm.Cond.selects "SnailPostModel" ({ cls := "SnailPostModel", name := "back", desc := "(I)I" } : Jvm.MethodName) ({ cls := "SnailPostModel", name := "back", desc := "(I)I" } : Jvm.MethodName)) ∈ lw_all := lw_g (lw_at lw_m7 105 rfl) rfl
theorem q1648 : (Jvm.Cond.code ({ cls := "SnailPostModel", name := "back", desc := "(I)I" } : Jvm.MethodName) prog_23_method_10_code (3 : Nat) (Option.some Jvm.ClassFile.FieldType.int)) ∈ lw_all := lw_g (lw_at lw_m7 106 rfl) rfl
theorem q1650 : (Jvm.Cond.instanceMethod ({ cls := "SnailPostModel", name := "damp", desc := "(II)I" } : Jvm.MethodName)) ∈ lw_all := lw_g (lw_at lw_m7 108 rfl) rfl
theorem q1651 : (Jvm.Cond.selects "SnailPostModel" ({ cls := "SnailPostModel", name := "damp", desc := "(II)I" } : Jvm.MethodName) ({ cls := "SnailPostModel", name := "damp", desc := "(II)I" } : Jvm.MethodName)) ∈ lw_all := lw_g (lw_at lw_m7 109 rfl) rfl
theorem q1652 : (Jvm.Cond.code ({ cls := "SnailPostModel", name := "damp", desc := "(II)I" } : Jvm.MethodName) prog_23_method_15_code (3 : Nat) (Option.some Jvm.ClassFile.FieldType.int)) ∈ lw_all := lw_g (lw_at lw_m7 110 rfl) rfl
theorem q1653 : (Jvm.Cond.methodLink "SnailPostModel" (173 : Nat) ({ cls := "SnailPostModel", name := "isCell", desc := "(I)Z" } : Jvm.MethodName)) ∈ lw_all := lw_g (lw_at lw_m7 111 rfl) rfl
theorem q1654 : (Jvm.Cond.static ({ cls := "SnailPostModel", name := "isCell", desc := "(I)Z" } : Jvm.MethodName)) ∈ lw_all := lw_g (lw_at lw_m7 112 rfl) rfl
theorem q1655 : (Jvm.Cond.code ({ cls := "SnailPostModel", name := "isCell", desc := "(I)Z" } : Jvm.MethodName) prog_23_method_11_code (1 : Nat) (Option.some Jvm.ClassFile.FieldType.boolean)) ∈ lw_all := lw_g (lw_at lw_m7 113 rfl) rfl
theorem q1656 : (Jvm.Cond.constantLong "SnailPostModel" (167 : Nat) (95 : Int64)) ∈ lw_all := lw_g (lw_at lw_m7 114 rfl) rfl
theorem q1657 : (Jvm.Cond.constantLong "SnailPostModel" (177 : Nat) (9 : Int64)) ∈ lw_all := lw_g (lw_at lw_m7 115 rfl) rfl
theorem q1658 : (Jvm.Cond.methodLink "SnailPostModel" (179 : Nat) ({ cls := "SnailPostModel", name := "change", desc := "(II)I" } : Jvm.MethodName)) ∈ lw_all := lw_g (lw_at lw_m7 116 rfl) rfl
theorem q1659 : (Jvm.Cond.privateMethod ({ cls := "SnailPostModel", name := "change", desc := "(II)I" } : Jvm.MethodName)) ∈ lw_tbl := lw_at lw_m7 117 rfl
theorem q1660 : (Jvm.Cond.instanceMethod ({ cls := "SnailPostModel", name := "change", desc := "(II)I" } : Jvm.MethodName)) ∈ lw_all := lw_g (lw_at lw_m7 118 rfl) rfl
theorem q1661 : (Jvm.Cond.code ({ cls := "SnailPostModel", name := "change", desc := "(II)I" } : Jvm.MethodName) prog_23_method_8_code (4 : Nat) (Option.some Jvm.ClassFile.FieldType.int)) ∈ lw_all := lw_g (lw_at lw_m7 119 rfl) rfl
theorem q1662 : (Jvm.Cond.methodLink "SnailPostModel" (156 : Nat) ({ cls := "SnailPostModel", name := "was", desc := "(I)I" } : Jvm.MethodName)) ∈ lw_all := lw_g (lw_at lw_m7 120 rfl) rfl
theorem q1663 : (Jvm.Cond.privateMethod ({ cls := "SnailPostModel", name := "was", desc := "(I)I" } : Jvm.MethodName)) ∈ lw_tbl := lw_at lw_m7 121 rfl
theorem q1664 : (Jvm.Cond.instanceMethod ({ cls := "SnailPostModel", name := "was", desc := "(I)I" } : Jvm.MethodName)) ∈ lw_all := lw_g (lw_at lw_m7 122 rfl) rfl
theorem q1665 : (Jvm.Cond.code ({ cls := "SnailPostModel", name := "was", desc := "(I)I" } : Jvm.MethodName) prog_23_method_7_code (2 : Nat) (Option.some Jvm.ClassFile.FieldType.int)) ∈ lw_all := lw_g (lw_at lw_m7 123 rfl) rfl
theorem q1667 : (Jvm.Cond.instanceMethod ({ cls := "SnailPostModel", name := "salt", desc := "(II)I" } : Jvm.MethodName)) ∈ lw_all := lw_g (lw_at lw_m7 125 rfl) rfl
theorem q1668 : (Jvm.Cond.selects "SnailPostModel" ({ cls := "SnailPostModel", name := "salt", desc := "(II)I" } : Jvm.MethodName) ({ cls := "SnailPostModel", name := "salt", desc := "(II)I" } : Jvm.MethodName)) ∈ lw_all := lw_g (lw_at lw_m7 126 rfl) rfl
theorem q1669 : (Jvm.Cond.code ({ cls := "SnailPostModel", name := "salt", desc := "(II)I" } : Jvm.MethodName) prog_23_method_16_code (3 : Nat) (Option.some Jvm.ClassFile.FieldType.int)) ∈ lw_all := lw_g (lw_at lw_m7 127 rfl) rfl
theorem q1670 : (Jvm.Cond.methodLink "SnailPostModel" (182 : Nat) ({ cls := "SnailPostModel", name := "isOfSnails", desc := "(I)Z" } : Jvm.MethodName)) ∈ lw_all := lw_g (lw_at lw_m7 128 rfl) rfl
theorem q1671 : (Jvm.Cond.privateMethod ({ cls := "SnailPostModel", name := "isOfSnails", desc := "(I)Z" } : Jvm.MethodName)) ∈ lw_tbl := lw_at lw_m7 129 rfl
theorem q1672 : (Jvm.Cond.instanceMethod ({ cls := "SnailPostModel", name := "isOfSnails", desc := "(I)Z" } : Jvm.MethodName)) ∈ lw_all := lw_g (lw_at lw_m7 130 rfl) rfl
theorem q1673 : (Jvm.Cond.code ({ cls := "SnailPostModel", name := "isOfSnails", desc := "(I)Z" } : Jvm.MethodName) prog_23_method_14_code (4 : Nat) (Option.some Jvm.ClassFile.FieldType.boolean)) ∈ lw_all := lw_g (lw_at lw_m7 131 rfl) rfl
theorem q1674 : (Jvm.Cond.methodLink "SnailPostModel" (169 : Nat) ({ cls := "SnailPostModel", name := "ofSnail", desc := "(II)I" } : Jvm.MethodName)) ∈ lw_all := lw_g (lw_at lw_m7 132 rfl) rfl
theorem q1675 : (Jvm.Cond.privateMethod ({ cls := "SnailPostModel", name := "ofSnail", desc := "(II)I" } : Jvm.MethodName)) ∈ lw_tbl := lw_at lw_m7 133 rfl
theorem q1676 : (Jvm.Cond.instanceMethod ({ cls := "SnailPostModel", name := "ofSnail", desc := "(II)I" } : Jvm.MethodName)) ∈ lw_all := lw_g (lw_at lw_m7 134 rfl) rfl
theorem q1677 : (Jvm.Cond.code ({ cls := "SnailPostModel", name := "ofSnail", desc := "(II)I" } : Jvm.MethodName) prog_23_method_13_code (3 : Nat) (Option.some Jvm.ClassFile.FieldType.int)) ∈ lw_all := lw_g (lw_at lw_m7 135 rfl) rfl
theorem q1679 : (Jvm.Cond.instanceMethod ({ cls := "SnailPostModel", name := "of", desc := "(II)I" } : Jvm.MethodName)) ∈ lw_all := lw_g (lw_at lw_m7 137 rfl) rfl
theorem q1680 : (Jvm.Cond.selects "SnailPostModel" ({ cls := "SnailPostModel", name := "of", desc := "(II)I" } : Jvm.MethodName) ({ cls := "SnailPostModel", name := "of", desc := "(II)I" } : Jvm.MethodName)) ∈ lw_all := lw_g (lw_at lw_m7 138 rfl) rfl
theorem q1681 : (Jvm.Cond.code ({ cls := "SnailPostModel", name := "of", desc := "(II)I" } : Jvm.MethodName) prog_23_method_17_code (3 : Nat) (Option.some Jvm.ClassFile.FieldType.int)) ∈ lw_all := lw_g (lw_at lw_m7 139 rfl) rfl
theorem q1683 : (Jvm.Cond.instanceMethod ({ cls := "SnailPostModel", name := "snail", desc := "(IIII)I" } : Jvm.MethodName)) ∈ lw_all := lw_g (lw_at lw_m7 141 rfl) rfl
theorem q1684 : (Jvm.Cond.selects "SnailPostModel" ({ cls := "SnailPostModel", name := "snail", desc := "(IIII)I" } : Jvm.MethodName) ({ cls := "SnailPostModel", name := "snail", desc := "(IIII)I" } : Jvm.MethodName)) ∈ lw_all := lw_g (lw_at lw_m7 142 rfl) rfl
theorem q1685 : (Jvm.Cond.code ({ cls := "SnailPostModel", name := "snail", desc := "(IIII)I" } : Jvm.MethodName) prog_23_method_18_code (7 : Nat) (Option.some Jvm.ClassFile.FieldType.int)) ∈ lw_all := lw_g (lw_at lw_m7 143 rfl) rfl
theorem q1686 : (Jvm.Cond.constantLong "SnailPostModel" (185 : Nat) (12 : Int64)) ∈ lw_all := lw_g (lw_at lw_m7 144 rfl) rfl
theorem q1687 : (Jvm.Cond.constantLong "SnailPostModel" (187 : Nat) (4 : Int64)) ∈ lw_all := lw_g (lw_at lw_m7 145 rfl) rfl
theorem q1689 : (Jvm.Cond.instanceMethod ({ cls := "SnailPostModel", name := "put", desc := "(III)I" } : Jvm.MethodName)) ∈ lw_all := lw_g (lw_at lw_m7 147 rfl) rfl
theorem q1690 : (Jvm.Cond.selects "SnailPostModel" ({ cls := "SnailPostModel", name := "put", desc := "(III)I" } : Jvm.MethodName) ({ cls := "SnailPostModel", name := "put", desc := "(III)I" } : Jvm.MethodName)) ∈ lw_all := lw_g (lw_at lw_m7 148 rfl) rfl
theorem q1691 : (Jvm.Cond.code ({ cls := "SnailPostModel", name := "put", desc := "(III)I" } : Jvm.MethodName) prog_23_method_20_code (4 : Nat) (Option.some Jvm.ClassFile.FieldType.int)) ∈ lw_all := lw_g (lw_at lw_m7 149 rfl) rfl
theorem q1692 : (Jvm.Cond.methodLink "SnailPostModel" (193 : Nat) ({ cls := "SnailPostModel", name := "fits", desc := "(II)Z" } : Jvm.MethodName)) ∈ lw_all := lw_g (lw_at lw_m7 150 rfl) rfl
theorem q1693 : (Jvm.Cond.static ({ cls := "SnailPostModel", name := "fits", desc := "(II)Z" } : Jvm.MethodName)) ∈ lw_all := lw_g (lw_at lw_m7 151 rfl) rfl
theorem q1694 : (Jvm.Cond.code ({ cls := "SnailPostModel", name := "fits", desc := "(II)Z" } : Jvm.MethodName) prog_23_method_19_code (2 : Nat) (Option.some Jvm.ClassFile.FieldType.boolean)) ∈ lw_all := lw_g (lw_at lw_m7 152 rfl) rfl
theorem q1695 : (Jvm.Cond.constantLong "SnailPostModel" (189 : Nat) (100 : Int64)) ∈ lw_all := lw_g (lw_at lw_m7 153 rfl) rfl
theorem q1696 : (Jvm.Cond.constantLong "SnailPostModel" (191 : Nat) (63 : Int64)) ∈ lw_all := lw_g (lw_at lw_m7 154 rfl) rfl
theorem q1697 : (Jvm.Cond.methodLink "SnailPostModel" (197 : Nat) ({ cls := "SnailPostModel", name := "isSnail", desc := "(I)Z" } : Jvm.MethodName)) ∈ lw_all := lw_g (lw_at lw_m7 155 rfl) rfl
theorem q1698 : (Jvm.Cond.privateMethod ({ cls := "SnailPostModel", name := "isSnail", desc := "(I)Z" } : Jvm.MethodName)) ∈ lw_tbl := lw_at lw_m7 156 rfl
theorem q1699 : (Jvm.Cond.instanceMethod ({ cls := "SnailPostModel", name := "isSnail", desc := "(I)Z" } : Jvm.MethodName)) ∈ lw_all := lw_g (lw_at lw_m7 157 rfl) rfl
theorem q1700 : (Jvm.Cond.code ({ cls := "SnailPostModel", name := "isSnail", desc := "(I)Z" } : Jvm.MethodName) prog_23_method_12_code (2 : Nat) (Option.some Jvm.ClassFile.FieldType.boolean)) ∈ lw_all := lw_g (lw_at lw_m7 158 rfl) rfl
theorem q1702 : (Jvm.Cond.instanceMethod ({ cls := "SnailPostModel", name := "fact", desc := "(II)I" } : Jvm.MethodName)) ∈ lw_all := lw_g (lw_at lw_m7 160 rfl) rfl
theorem q1703 : (Jvm.Cond.selects "SnailPostModel" ({ cls := "SnailPostModel", name := "fact", desc := "(II)I" } : Jvm.MethodName) ({ cls := "SnailPostModel", name := "fact", desc := "(II)I" } : Jvm.MethodName)) ∈ lw_all := lw_g (lw_at lw_m7 161 rfl) rfl
theorem q1704 : (Jvm.Cond.code ({ cls := "SnailPostModel", name := "fact", desc := "(II)I" } : Jvm.MethodName) prog_23_method_21_code (3 : Nat) (Option.some Jvm.ClassFile.FieldType.int)) ∈ lw_all := lw_g (lw_at lw_m7 162 rfl) rfl
theorem q1705 : (Jvm.Cond.constantLong "SnailPostModel" (200 : Nat) (5 : Int64)) ∈ lw_all := lw_g (lw_at lw_m7 163 rfl) rfl
theorem q1707 : (Jvm.Cond.instanceMethod ({ cls := "SnailPostModel", name := "spot", desc := "(I)I" } : Jvm.MethodName)) ∈ lw_all := lw_g (lw_at lw_m7 165 rfl) rfl
theorem q1708 : (Jvm.Cond.selects "SnailPostModel" ({ cls := "SnailPostModel", name := "spot", desc := "(I)I" } : Jvm.MethodName) ({ cls := "SnailPostModel", name := "spot", desc := "(I)I" } : Jvm.MethodName)) ∈ lw_all := lw_g (lw_at lw_m7 166 rfl) rfl
theorem q1709 : (Jvm.Cond.code ({ cls := "SnailPostModel", name := "spot", desc := "(I)I" } : Jvm.MethodName) prog_23_method_22_code (3 : Nat) (Option.some Jvm.ClassFile.FieldType.int)) ∈ lw_all := lw_g (lw_at lw_m7 167 rfl) rfl
theorem q1711 : (Jvm.Cond.instanceMethod ({ cls := "SnailPostModel", name := "plan", desc := "(II)I" } : Jvm.MethodName)) ∈ lw_all := lw_g (lw_at lw_m7 169 rfl) rfl
theorem q1712 : (Jvm.Cond.selects "SnailPostModel" ({ cls := "SnailPostModel", name := "plan", desc := "(II)I" } : Jvm.MethodName) ({ cls := "SnailPostModel", name := "plan", desc := "(II)I" } : Jvm.MethodName)) ∈ lw_all := lw_g (lw_at lw_m7 170 rfl) rfl
theorem q1713 : (Jvm.Cond.code ({ cls := "SnailPostModel", name := "plan", desc := "(II)I" } : Jvm.MethodName) prog_23_method_23_code (3 : Nat) (Option.some Jvm.ClassFile.FieldType.int)) ∈ lw_all := lw_g (lw_at lw_m7 171 rfl) rfl
theorem q1715 : (Jvm.Cond.instanceMethod ({ cls := "SnailPostModel", name := "terms", desc := "(II)I" } : Jvm.MethodName)) ∈ lw_all := lw_g (lw_at lw_m7 173 rfl) rfl
theorem q1716 : (Jvm.Cond.selects "SnailPostModel" ({ cls := "SnailPostModel", name := "terms", desc := "(II)I" } : Jvm.MethodName) ({ cls := "SnailPostModel", name := "terms", desc := "(II)I" } : Jvm.MethodName)) ∈ lw_all := lw_g (lw_at lw_m7 174 rfl) rfl
theorem q1717 : (Jvm.Cond.code ({ cls := "SnailPostModel", name := "terms", desc := "(II)I" } : Jvm.MethodName) prog_23_method_24_code (4 : Nat) (Option.some Jvm.ClassFile.FieldType.int)) ∈ lw_all := lw_g (lw_at lw_m7 175 rfl) rfl
theorem q1718 : (Jvm.Cond.constantLong "SnailPostModel" (202 : Nat) (6 : Int64)) ∈ lw_all := lw_g (lw_at lw_m7 176 rfl) rfl
theorem q1719 : (Jvm.Cond.constantLong "SnailPostModel" (204 : Nat) (20 : Int64)) ∈ lw_all := lw_g (lw_at lw_m7 177 rfl) rfl
theorem q1721 : (Jvm.Cond.instanceMethod ({ cls := "SnailPostModel", name := "row", desc := "()I" } : Jvm.MethodName)) ∈ lw_all := lw_g (lw_at lw_m7 179 rfl) rfl
theorem q1722 : (Jvm.Cond.selects "SnailPostModel" ({ cls := "SnailPostModel", name := "row", desc := "()I" } : Jvm.MethodName) ({ cls := "SnailPostModel", name := "row", desc := "()I" } : Jvm.MethodName)) ∈ lw_all := lw_g (lw_at lw_m7 180 rfl) rfl
theorem q1723 : (Jvm.Cond.code ({ cls := "SnailPostModel", name := "row", desc := "()I" } : Jvm.MethodName) prog_23_method_25_code (6 : Nat) (Option.some Jvm.ClassFile.FieldType.int)) ∈ lw_all := lw_g (lw_at lw_m7 181 rfl) rfl
theorem q1725 : (Jvm.Cond.instanceMethod ({ cls := "SnailPostModel", name := "spilt", desc := "()I" } : Jvm.MethodName)) ∈ lw_all := lw_g (lw_at lw_m7 183 rfl) rfl
theorem q1726 : (Jvm.Cond.selects "SnailPostModel" ({ cls := "SnailPostModel", name := "spilt", desc := "()I" } : Jvm.MethodName) ({ cls := "SnailPostModel", name := "spilt", desc := "()I" } : Jvm.MethodName)) ∈ lw_all := lw_g (lw_at lw_m7 184 rfl) rfl
theorem q1727 : (Jvm.Cond.code ({ cls := "SnailPostModel", name := "spilt", desc := "()I" } : Jvm.MethodName) prog_23_method_26_code (1 : Nat) (Option.some Jvm.ClassFile.FieldType.int)) ∈ lw_all := lw_g (lw_at lw_m7 185 rfl) rfl
theorem q1729 : (Jvm.Cond.instanceMethod ({ cls := "SnailPostModel", name := "feed", desc := "(IIIII)I" } : Jvm.MethodName)) ∈ lw_all := lw_g (lw_at lw_m7 187 rfl) rfl
theorem q1730 : (Jvm.Cond.selects "SnailPostModel" ({ cls := "SnailPostModel", name := "feed", desc := "(IIIII)I" } : Jvm.MethodName) ({ cls := "SnailPostModel", name := "feed", desc := "(IIIII)I" } : Jvm.MethodName)) ∈ lw_all := lw_g (lw_at lw_m7 188 rfl) rfl
theorem q1731 : (Jvm.Cond.code ({ cls := "SnailPostModel", name := "feed", desc := "(IIIII)I" } : Jvm.MethodName) prog_23_method_28_code (6 : Nat) (Option.some Jvm.ClassFile.FieldType.int)) ∈ lw_all := lw_g (lw_at lw_m7 189 rfl) rfl
theorem q1732 : (Jvm.Cond.methodLink "SnailPostModel" (212 : Nat) ({ cls := "SnailPostModel", name := "four", desc := "(I)V" } : Jvm.MethodName)) ∈ lw_all := lw_g (lw_at lw_m7 190 rfl) rfl
theorem q1733 : (Jvm.Cond.privateMethod ({ cls := "SnailPostModel", name := "four", desc := "(I)V" } : Jvm.MethodName)) ∈ lw_tbl := lw_at lw_m7 191 rfl
theorem q1734 : (Jvm.Cond.instanceMethod ({ cls := "SnailPostModel", name := "four", desc := "(I)V" } : Jvm.MethodName)) ∈ lw_all := lw_g (lw_at lw_m7 192 rfl) rfl
theorem q1735 : (Jvm.Cond.code ({ cls := "SnailPostModel", name := "four", desc := "(I)V" } : Jvm.MethodName) prog_23_method_27_code (3 : Nat) (Option.none : Option Jvm.ClassFile.FieldType)) ∈ lw_all := lw_g (lw_at lw_m7 193 rfl) rfl
theorem q1737 : (Jvm.Cond.instanceMethod ({ cls := "SnailPostModel", name := "end", desc := "(I)I" } : Jvm.MethodName)) ∈ lw_all := lw_g (lw_at lw_m7 195 rfl) rfl
theorem q1738 : (Jvm.Cond.selects "SnailPostModel" ({ cls := "SnailPostModel", name := "end", desc := "(I)I" } : Jvm.MethodName) ({ cls := "SnailPostModel", name := "end", desc := "(I)I" } : Jvm.MethodName)) ∈ lw_all := lw_g (lw_at lw_m7 196 rfl) rfl
theorem q1739 : (Jvm.Cond.code ({ cls := "SnailPostModel", name := "end", desc := "(I)I" } : Jvm.MethodName) prog_23_method_29_code (2 : Nat) (Option.some Jvm.ClassFile.FieldType.int)) ∈ lw_all := lw_g (lw_at lw_m7 197 rfl) rfl
theorem q1741 : (Jvm.Cond.instanceMethod ({ cls := "SnailPostModel", name := "fault", desc := "()I" } : Jvm.MethodName)) ∈ lw_all := lw_g (lw_at lw_m7 199 rfl) rfl
theorem q1742 : (Jvm.Cond.selects "SnailPostModel" ({ cls := "SnailPostModel", name := "fault", desc := "()I" } : Jvm.MethodName) ({ cls := "SnailPostModel", name := "fault", desc := "()I" } : Jvm.MethodName)) ∈ lw_all := lw_g (lw_at lw_m7 200 rfl) rfl
theorem q1743 : (Jvm.Cond.code ({ cls := "SnailPostModel", name := "fault", desc := "()I" } : Jvm.MethodName) prog_23_method_38_code (1 : Nat) (Option.some Jvm.ClassFile.FieldType.int)) ∈ lw_all := lw_g (lw_at lw_m7 201 rfl) rfl
theorem q1745 : (Jvm.Cond.instanceMethod ({ cls := "SnailPostModel", name := "law", desc := "()I" } : Jvm.MethodName)) ∈ lw_all := lw_g (lw_at lw_m7 203 rfl) rfl
theorem q1746 : (Jvm.Cond.selects "SnailPostModel" ({ cls := "SnailPostModel", name := "law", desc := "()I" } : Jvm.MethodName) ({ cls := "SnailPostModel", name := "law", desc := "()I" } : Jvm.MethodName)) ∈ lw_all := lw_g (lw_at lw_m7 204 rfl) rfl
theorem q1747 : (Jvm.Cond.code ({ cls := "SnailPostModel", name := "law", desc := "()I" } : Jvm.MethodName) prog_23_method_54_code (3 : Nat) (Option.some Jvm.ClassFile.FieldType.int)) ∈ lw_all := lw_g (lw_at lw_m7 205 rfl) rfl
theorem q1748 : (Jvm.Cond.methodLink "SnailPostModel" (341 : Nat) ({ cls := "SnailPostModel", name := "begin", desc := "()V" } : Jvm.MethodName)) ∈ lw_all := lw_g (lw_at lw_m7 206 rfl) rfl
theorem q1749 : (Jvm.Cond.privateMethod ({ cls := "SnailPostModel", name := "begin", desc := "()V" } : Jvm.MethodName)) ∈ lw_tbl := lw_at lw_m7 207 rfl
theorem q1750 : (Jvm.Cond.instanceMethod ({ cls := "SnailPostModel", name := "begin", desc := "()V" } : Jvm.MethodName)) ∈ lw_all := lw_g (lw_at lw_m7 208 rfl) rfl
theorem q1751 : (Jvm.Cond.code ({ cls := "SnailPostModel", name := "begin", desc := "()V" } : Jvm.MethodName) prog_23_method_32_code (1 : Nat) (Option.none : Option Jvm.ClassFile.FieldType)) ∈ lw_all := lw_g (lw_at lw_m7 209 rfl) rfl
theorem q1752 : (Jvm.Cond.methodLink "SnailPostModel" (223 : Nat) ({ cls := "SnailPostModel", name := "next", desc := "()V" } : Jvm.MethodName)) ∈ lw_all := lw_g (lw_at lw_m7 210 rfl) rfl
theorem q1753 : (Jvm.Cond.privateMethod ({ cls := "SnailPostModel", name := "next", desc := "()V" } : Jvm.MethodName)) ∈ lw_tbl := lw_at lw_m7 211 rfl
theorem q1754 : (Jvm.Cond.instanceMethod ({ cls := "SnailPostModel", name := "next", desc := "()V" } : Jvm.MethodName)) ∈ lw_all := lw_g (lw_at lw_m7 212 rfl) rfl
theorem q1755 : (Jvm.Cond.code ({ cls := "SnailPostModel", name := "next", desc := "()V" } : Jvm.MethodName) prog_23_method_33_code (1 : Nat) (Option.none : Option Jvm.ClassFile.FieldType)) ∈ lw_all := lw_g (lw_at lw_m7 213 rfl) rfl
theorem q1756 : (Jvm.Cond.methodLink "SnailPostModel" (233 : Nat) ({ cls := "SnailPostModel", name := "isSmall", desc := "(I)Z" } : Jvm.MethodName)) ∈ lw_all := lw_g (lw_at lw_m7 214 rfl) rfl
theorem q1757 : (Jvm.Cond.static ({ cls := "SnailPostModel", name := "isSmall", desc := "(I)Z" } : Jvm.MethodName)) ∈ lw_all := lw_g (lw_at lw_m7 215 rfl) rfl
theorem q1758 : (Jvm.Cond.code ({ cls := "SnailPostModel", name := "isSmall", desc := "(I)Z" } : Jvm.MethodName) prog_23_method_30_code (1 : Nat) (Option.some Jvm.ClassFile.FieldType.boolean)) ∈ lw_all := lw_g (lw_at lw_m7 216 rfl) rfl
theorem q1759 : (Jvm.Cond.methodLink "SnailPostModel" (236 : Nat) ({ cls := "SnailPostModel", name := "isDigit", desc := "(I)Z" } : Jvm.MethodName)) ∈ lw_all := lw_g (lw_at lw_m7 217 rfl) rfl
theorem q1760 : (Jvm.Cond.static ({ cls := "SnailPostModel", name := "isDigit", desc := "(I)Z" } : Jvm.MethodName)) ∈ lw_all := lw_g (lw_at lw_m7 218 rfl) rfl
theorem q1761 : (Jvm.Cond.code ({ cls := "SnailPostModel", name := "isDigit", desc := "(I)Z" } : Jvm.MethodName) prog_23_method_31_code (1 : Nat) (Option.some Jvm.ClassFile.FieldType.boolean)) ∈ lw_all := lw_g (lw_at lw_m7 219 rfl) rfl
theorem q1762 : (Jvm.Cond.constantLong "SnailPostModel" (242 : Nat) (32 : Int64)) ∈ lw_all := lw_g (lw_at lw_m7 220 rfl) rfl
theorem q1763 : (Jvm.Cond.constantLong "SnailPostModel" (244 : Nat) (96 : Int64)) ∈ lw_all := lw_g (lw_at lw_m7 221 rfl) rfl
theorem q1764 : (Jvm.Cond.constantLong "SnailPostModel" (246 : Nat) (-1 : Int64)) ∈ lw_all := lw_g (lw_at lw_m7 222 rfl) rfl
theorem q1765 : (Jvm.Cond.constantLong "SnailPostModel" (248 : Nat) (1000000 : Int64)) ∈ lw_all := lw_g (lw_at lw_m7 223 rfl) rfl
theorem q1766 : (Jvm.Cond.constantLong "SnailPostModel" (250 : Nat) (10 : Int64)) ∈ lw_all := lw_g (lw_at lw_m7 224 rfl) rfl
theorem q1767 : (Jvm.Cond.constantLong "SnailPostModel" (252 : Nat) (48 : Int64)) ∈ lw_all := lw_g (lw_at lw_m7 225 rfl) rfl
theorem q1768 : (Jvm.Cond.methodLink "SnailPostModel" (344 : Nat) ({ cls := "SnailPostModel", name := "readClause", desc := "()V" } : Jvm.MethodName)) ∈ lw_all := lw_g (lw_at lw_m7 226 rfl) rfl
theorem q1769 : (Jvm.Cond.privateMethod ({ cls := "SnailPostModel", name := "readClause", desc := "()V" } : Jvm.MethodName)) ∈ lw_tbl := lw_at lw_m7 227 rfl
theorem q1770 : (Jvm.Cond.instanceMethod ({ cls := "SnailPostModel", name := "readClause", desc := "()V" } : Jvm.MethodName)) ∈ lw_all := lw_g (lw_at lw_m7 228 rfl) rfl
theorem q1771 : (Jvm.Cond.code ({ cls := "SnailPostModel", name := "readClause", desc := "()V" } : Jvm.MethodName) prog_23_method_53_code (4 : Nat) (Option.none : Option Jvm.ClassFile.FieldType)) ∈ lw_all := lw_g (lw_at lw_m7 229 rfl) rfl
theorem q1772 : (Jvm.Cond.methodLink "SnailPostModel" (275 : Nat) ({ cls := "SnailPostModel", name := "isWord", desc := "(J)Z" } : Jvm.MethodName)) ∈ lw_all := lw_g (lw_at lw_m7 230 rfl) rfl
theorem q1773 : (Jvm.Cond.privateMethod ({ cls := "SnailPostModel", name := "isWord", desc := "(J)Z" } : Jvm.MethodName)) ∈ lw_tbl := lw_at lw_m7 231 rfl
theorem q1774 : (Jvm.Cond.instanceMethod ({ cls := "SnailPostModel", name := "isWord", desc := "(J)Z" } : Jvm.MethodName)) ∈ lw_all := lw_g (lw_at lw_m7 232 rfl) rfl
theorem q1775 : (Jvm.Cond.code ({ cls := "SnailPostModel", name := "isWord", desc := "(J)Z" } : Jvm.MethodName) prog_23_method_34_code (3 : Nat) (Option.some Jvm.ClassFile.FieldType.boolean)) ∈ lw_all := lw_g (lw_at lw_m7 233 rfl) rfl
theorem q1776 : (Jvm.Cond.methodLink "SnailPostModel" (254 : Nat) ({ cls := "SnailPostModel", name := "must", desc := "(Z)V" } : Jvm.MethodName)) ∈ lw_all := lw_g (lw_at lw_m7 234 rfl) rfl
theorem q1777 : (Jvm.Cond.privateMethod ({ cls := "SnailPostModel", name := "must", desc := "(Z)V" } : Jvm.MethodName)) ∈ lw_tbl := lw_at lw_m7 235 rfl
theorem q1778 : (Jvm.Cond.instanceMethod ({ cls := "SnailPostModel", name := "must", desc := "(Z)V" } : Jvm.MethodName)) ∈ lw_all := lw_g (lw_at lw_m7 236 rfl) rfl
theorem q1779 : (Jvm.Cond.code ({ cls := "SnailPostModel", name := "must", desc := "(Z)V" } : Jvm.MethodName) prog_23_method_36_code (2 : Nat) (Option.none : Option Jvm.ClassFile.FieldType)) ∈ lw_all := lw_g (lw_at lw_m7 237 rfl) rfl
theorem q1780 : (Jvm.Cond.methodLink "SnailPostModel" (336 : Nat) ({ cls := "SnailPostModel", name := "readExpression", desc := "(Z)V" } : Jvm.MethodName)) ∈ lw_all := lw_g (lw_at lw_m7 238 rfl) rfl
theorem q1781 : (Jvm.Cond.privateMethod ({ cls := "SnailPostModel", name := "readExpression", desc := "(Z)V" } : Jvm.MethodName)) ∈ lw_tbl := lw_at lw_m7 239 rfl
theorem q1782 : (Jvm.Cond.instanceMethod ({ cls := "SnailPostModel", name := "readExpression", desc := "(Z)V" } : Jvm.MethodName)) ∈ lw_all := lw_g (lw_at lw_m8 0 rfl) rfl
theorem q1783 : (Jvm.Cond.code ({ cls := "SnailPostModel", name := "readExpression", desc := "(Z)V" } : Jvm.MethodName) prog_23_method_52_code (3 : Nat) (Option.none : Option Jvm.ClassFile.FieldType)) ∈ lw_all := lw_g (lw_at lw_m8 1 rfl) rfl
theorem q1784 : (Jvm.Cond.methodLink "SnailPostModel" (323 : Nat) ({ cls := "SnailPostModel", name := "readPlain", desc := "()I" } : Jvm.MethodName)) ∈ lw_all := lw_g (lw_at lw_m8 2 rfl) rfl
theorem q1785 : (Jvm.Cond.privateMethod ({ cls := "SnailPostModel", name := "readPlain", desc := "()I" } : Jvm.MethodName)) ∈ lw_tbl := lw_at lw_m8 3 rfl
theorem q1786 : (Jvm.Cond.instanceMethod ({ cls := "SnailPostModel", name := "readPlain", desc := "()I" } : Jvm.MethodName)) ∈ lw_all := lw_g (lw_at lw_m8 4 rfl) rfl
theorem q1787 : (Jvm.Cond.code ({ cls := "SnailPostModel", name := "readPlain", desc := "()I" } : Jvm.MethodName) prog_23_method_49_code (1 : Nat) (Option.some Jvm.ClassFile.FieldType.int)) ∈ lw_all := lw_g (lw_at lw_m8 5 rfl) rfl
theorem q1788 : (Jvm.Cond.constantLong "SnailPostModel" (304 : Nat) (14836 : Int64)) ∈ lw_all := lw_g (lw_at lw_m8 6 rfl) rfl
theorem q1789 : (Jvm.Cond.methodLink "SnailPostModel" (282 : Nat) ({ cls := "SnailPostModel", name := "push", desc := "(II)V" } : Jvm.MethodName)) ∈ lw_all := lw_g (lw_at lw_m8 7 rfl) rfl
theorem q1790 : (Jvm.Cond.privateMethod ({ cls := "SnailPostModel", name := "push", desc := "(II)V" } : Jvm.MethodName)) ∈ lw_tbl := lw_at lw_m8 8 rfl
theorem q1791 : (Jvm.Cond.instanceMethod ({ cls := "SnailPostModel", name := "push", desc := "(II)V" } : Jvm.MethodName)) ∈ lw_all := lw_g (lw_at lw_m8 9 rfl) rfl
theorem q1792 : (Jvm.Cond.code ({ cls := "SnailPostModel", name := "push", desc := "(II)V" } : Jvm.MethodName) prog_23_method_40_code (3 : Nat) (Option.none : Option Jvm.ClassFile.FieldType)) ∈ lw_all := lw_g (lw_at lw_m8 10 rfl) rfl
theorem q1793 : (Jvm.Cond.methodLink "SnailPostModel" (288 : Nat) ({ cls := "SnailPostModel", name := "isSign", desc := "(I)Z" } : Jvm.MethodName)) ∈ lw_all := lw_g (lw_at lw_m8 11 rfl) rfl
theorem q1794 : (Jvm.Cond.privateMethod ({ cls := "SnailPostModel", name := "isSign", desc := "(I)Z" } : Jvm.MethodName)) ∈ lw_tbl := lw_at lw_m8 12 rfl
theorem q1795 : (Jvm.Cond.instanceMethod ({ cls := "SnailPostModel", name := "isSign", desc := "(I)Z" } : Jvm.MethodName)) ∈ lw_all := lw_g (lw_at lw_m8 13 rfl) rfl
theorem q1796 : (Jvm.Cond.code ({ cls := "SnailPostModel", name := "isSign", desc := "(I)Z" } : Jvm.MethodName) prog_23_method_35_code (2 : Nat) (Option.some Jvm.ClassFile.FieldType.boolean)) ∈ lw_all := lw_g (lw_at lw_m8 14 rfl) rfl
theorem q1797 : (Jvm.Cond.methodLink "SnailPostModel" (291 : Nat) ({ cls := "SnailPostModel", name := "openBracket", desc := "(I)V" } : Jvm.MethodName)) ∈ lw_all := lw_g (lw_at lw_m8 15 rfl) rfl
theorem q1798 : (Jvm.Cond.privateMethod ({ cls := "SnailPostModel", name := "openBracket", desc := "(I)V" } : Jvm.MethodName)) ∈ lw_tbl := lw_at lw_m8 16 rfl
theorem q1799 : (Jvm.Cond.instanceMethod ({ cls := "SnailPostModel", name := "openBracket", desc := "(I)V" } : Jvm.MethodName)) ∈ lw_all := lw_g (lw_at lw_m8 17 rfl) rfl
theorem q1800 : (Jvm.Cond.code ({ cls := "SnailPostModel", name := "openBracket", desc := "(I)V" } : Jvm.MethodName) prog_23_method_46_code (2 : Nat) (Option.none : Option Jvm.ClassFile.FieldType)) ∈ lw_all := lw_g (lw_at lw_m8 18 rfl) rfl
theorem q1801 : (Jvm.Cond.methodLink "SnailPostModel" (306 : Nat) ({ cls := "SnailPostModel", name := "readPart", desc := "()I" } : Jvm.MethodName)) ∈ lw_all := lw_g (lw_at lw_m8 19 rfl) rfl
theorem q1802 : (Jvm.Cond.privateMethod ({ cls := "SnailPostModel", name := "readPart", desc := "()I" } : Jvm.MethodName)) ∈ lw_tbl := lw_at lw_m8 20 rfl
theorem q1803 : (Jvm.Cond.instanceMethod ({ cls := "SnailPostModel", name := "readPart", desc := "()I" } : Jvm.MethodName)) ∈ lw_all := lw_g (lw_at lw_m8 21 rfl) rfl
theorem q1804 : (Jvm.Cond.code ({ cls := "SnailPostModel", name := "readPart", desc := "()I" } : Jvm.MethodName) prog_23_method_48_code (3 : Nat) (Option.some Jvm.ClassFile.FieldType.int)) ∈ lw_all := lw_g (lw_at lw_m8 22 rfl) rfl
theorem q1805 : (Jvm.Cond.methodLink "SnailPostModel" (294 : Nat) ({ cls := "SnailPostModel", name := "partAt", desc := "()I" } : Jvm.MethodName)) ∈ lw_all := lw_g (lw_at lw_m8 23 rfl) rfl
theorem q1806 : (Jvm.Cond.privateMethod ({ cls := "SnailPostModel", name := "partAt", desc := "()I" } : Jvm.MethodName)) ∈ lw_tbl := lw_at lw_m8 24 rfl
theorem q1807 : (Jvm.Cond.instanceMethod ({ cls := "SnailPostModel", name := "partAt", desc := "()I" } : Jvm.MethodName)) ∈ lw_all := lw_g (lw_at lw_m8 25 rfl) rfl
theorem q1808 : (Jvm.Cond.code ({ cls := "SnailPostModel", name := "partAt", desc := "()I" } : Jvm.MethodName) prog_23_method_45_code (3 : Nat) (Option.some Jvm.ClassFile.FieldType.int)) ∈ lw_all := lw_g (lw_at lw_m8 26 rfl) rfl
theorem q1809 : (Jvm.Cond.constantLong "SnailPostModel" (298 : Nat) (1000 : Int64)) ∈ lw_all := lw_g (lw_at lw_m8 27 rfl) rfl
theorem q1810 : (Jvm.Cond.methodLink "SnailPostModel" (300 : Nat) ({ cls := "SnailPostModel", name := "leaf", desc := "(ZII)V" } : Jvm.MethodName)) ∈ lw_all := lw_g (lw_at lw_m8 28 rfl) rfl
theorem q1811 : (Jvm.Cond.privateMethod ({ cls := "SnailPostModel", name := "leaf", desc := "(ZII)V" } : Jvm.MethodName)) ∈ lw_tbl := lw_at lw_m8 29 rfl
theorem q1812 : (Jvm.Cond.instanceMethod ({ cls := "SnailPostModel", name := "leaf", desc := "(ZII)V" } : Jvm.MethodName)) ∈ lw_all := lw_g (lw_at lw_m8 30 rfl) rfl
theorem q1813 : (Jvm.Cond.code ({ cls := "SnailPostModel", name := "leaf", desc := "(ZII)V" } : Jvm.MethodName) prog_23_method_47_code (4 : Nat) (Option.none : Option Jvm.ClassFile.FieldType)) ∈ lw_all := lw_g (lw_at lw_m8 31 rfl) rfl
theorem q1814 : (Jvm.Cond.methodLink "SnailPostModel" (267 : Nat) ({ cls := "SnailPostModel", name := "emit", desc := "(II)V" } : Jvm.MethodName)) ∈ lw_all := lw_g (lw_at lw_m8 32 rfl) rfl
theorem q1815 : (Jvm.Cond.privateMethod ({ cls := "SnailPostModel", name := "emit", desc := "(II)V" } : Jvm.MethodName)) ∈ lw_tbl := lw_at lw_m8 33 rfl
theorem q1816 : (Jvm.Cond.instanceMethod ({ cls := "SnailPostModel", name := "emit", desc := "(II)V" } : Jvm.MethodName)) ∈ lw_all := lw_g (lw_at lw_m8 34 rfl) rfl
theorem q1817 : (Jvm.Cond.code ({ cls := "SnailPostModel", name := "emit", desc := "(II)V" } : Jvm.MethodName) prog_23_method_39_code (3 : Nat) (Option.none : Option Jvm.ClassFile.FieldType)) ∈ lw_all := lw_g (lw_at lw_m8 35 rfl) rfl
theorem q1818 : (Jvm.Cond.methodLink "SnailPostModel" (326 : Nat) ({ cls := "SnailPostModel", name := "behindSum", desc := "(Z)I" } : Jvm.MethodName)) ∈ lw_all := lw_g (lw_at lw_m8 36 rfl) rfl
theorem q1819 : (Jvm.Cond.privateMethod ({ cls := "SnailPostModel", name := "behindSum", desc := "(Z)I" } : Jvm.MethodName)) ∈ lw_tbl := lw_at lw_m8 37 rfl
theorem q1820 : (Jvm.Cond.instanceMethod ({ cls := "SnailPostModel", name := "behindSum", desc := "(Z)I" } : Jvm.MethodName)) ∈ lw_all := lw_g (lw_at lw_m8 38 rfl) rfl
theorem q1821 : (Jvm.Cond.code ({ cls := "SnailPostModel", name := "behindSum", desc := "(Z)I" } : Jvm.MethodName) prog_23_method_50_code (4 : Nat) (Option.some Jvm.ClassFile.FieldType.int)) ∈ lw_all := lw_g (lw_at lw_m8 39 rfl) rfl
theorem q1822 : (Jvm.Cond.methodLink "SnailPostModel" (264 : Nat) ({ cls := "SnailPostModel", name := "binds", desc := "(I)I" } : Jvm.MethodName)) ∈ lw_all := lw_g (lw_at lw_m8 40 rfl) rfl
theorem q1823 : (Jvm.Cond.static ({ cls := "SnailPostModel", name := "binds", desc := "(I)I" } : Jvm.MethodName)) ∈ lw_all := lw_g (lw_at lw_m8 41 rfl) rfl
theorem q1824 : (Jvm.Cond.code ({ cls := "SnailPostModel", name := "binds", desc := "(I)I" } : Jvm.MethodName) prog_23_method_41_code (1 : Nat) (Option.some Jvm.ClassFile.FieldType.int)) ∈ lw_all := lw_g (lw_at lw_m8 42 rfl) rfl
theorem q1825 : (Jvm.Cond.methodLink "SnailPostModel" (309 : Nat) ({ cls := "SnailPostModel", name := "settle", desc := "(I)V" } : Jvm.MethodName)) ∈ lw_all := lw_g (lw_at lw_m8 43 rfl) rfl
theorem q1826 : (Jvm.Cond.privateMethod ({ cls := "SnailPostModel", name := "settle", desc := "(I)V" } : Jvm.MethodName)) ∈ lw_tbl := lw_at lw_m8 44 rfl
theorem q1827 : (Jvm.Cond.instanceMethod ({ cls := "SnailPostModel", name := "settle", desc := "(I)V" } : Jvm.MethodName)) ∈ lw_all := lw_g (lw_at lw_m8 45 rfl) rfl
theorem q1828 : (Jvm.Cond.code ({ cls := "SnailPostModel", name := "settle", desc := "(I)V" } : Jvm.MethodName) prog_23_method_42_code (2 : Nat) (Option.none : Option Jvm.ClassFile.FieldType)) ∈ lw_all := lw_g (lw_at lw_m8 46 rfl) rfl
theorem q1829 : (Jvm.Cond.methodLink "SnailPostModel" (312 : Nat) ({ cls := "SnailPostModel", name := "inner", desc := "()I" } : Jvm.MethodName)) ∈ lw_all := lw_g (lw_at lw_m8 47 rfl) rfl
theorem q1830 : (Jvm.Cond.privateMethod ({ cls := "SnailPostModel", name := "inner", desc := "()I" } : Jvm.MethodName)) ∈ lw_tbl := lw_at lw_m8 48 rfl
theorem q1831 : (Jvm.Cond.instanceMethod ({ cls := "SnailPostModel", name := "inner", desc := "()I" } : Jvm.MethodName)) ∈ lw_all := lw_g (lw_at lw_m8 49 rfl) rfl
theorem q1832 : (Jvm.Cond.code ({ cls := "SnailPostModel", name := "inner", desc := "()I" } : Jvm.MethodName) prog_23_method_43_code (3 : Nat) (Option.some Jvm.ClassFile.FieldType.int)) ∈ lw_all := lw_g (lw_at lw_m8 50 rfl) rfl
theorem q1833 : (Jvm.Cond.methodLink "SnailPostModel" (315 : Nat) ({ cls := "SnailPostModel", name := "isCompared", desc := "()Z" } : Jvm.MethodName)) ∈ lw_all := lw_g (lw_at lw_m8 51 rfl) rfl
theorem q1834 : (Jvm.Cond.privateMethod ({ cls := "SnailPostModel", name := "isCompared", desc := "()Z" } : Jvm.MethodName)) ∈ lw_tbl := lw_at lw_m8 52 rfl
theorem q1835 : (Jvm.Cond.instanceMethod ({ cls := "SnailPostModel", name := "isCompared", desc := "()Z" } : Jvm.MethodName)) ∈ lw_all := lw_g (lw_at lw_m8 53 rfl) rfl
theorem q1836 : (Jvm.Cond.code ({ cls := "SnailPostModel", name := "isCompared", desc := "()Z" } : Jvm.MethodName) prog_23_method_44_code (2 : Nat) (Option.some Jvm.ClassFile.FieldType.boolean)) ∈ lw_all := lw_g (lw_at lw_m8 54 rfl) rfl
theorem q1837 : (Jvm.Cond.constantLong "SnailPostModel" (271 : Nat) (23 : Int64)) ∈ lw_all := lw_g (lw_at lw_m8 55 rfl) rfl
theorem q1838 : (Jvm.Cond.constantLong "SnailPostModel" (273 : Nat) (26 : Int64)) ∈ lw_all := lw_g (lw_at lw_m8 56 rfl) rfl
theorem q1839 : (Jvm.Cond.methodLink "SnailPostModel" (330 : Nat) ({ cls := "SnailPostModel", name := "behindTest", desc := "()I" } : Jvm.MethodName)) ∈ lw_all := lw_g (lw_at lw_m8 57 rfl) rfl
theorem q1840 : (Jvm.Cond.privateMethod ({ cls := "SnailPostModel", name := "behindTest", desc := "()I" } : Jvm.MethodName)) ∈ lw_tbl := lw_at lw_m8 58 rfl
theorem q1841 : (Jvm.Cond.instanceMethod ({ cls := "SnailPostModel", name := "behindTest", desc := "()I" } : Jvm.MethodName)) ∈ lw_all := lw_g (lw_at lw_m8 59 rfl) rfl
theorem q1842 : (Jvm.Cond.code ({ cls := "SnailPostModel", name := "behindTest", desc := "()I" } : Jvm.MethodName) prog_23_method_51_code (2 : Nat) (Option.some Jvm.ClassFile.FieldType.int)) ∈ lw_all := lw_g (lw_at lw_m8 60 rfl) rfl
theorem q1843 : (Jvm.Cond.constantLong "SnailPostModel" (319 : Nat) (1476 : Int64)) ∈ lw_all := lw_g (lw_at lw_m8 61 rfl) rfl
theorem q1844 : (Jvm.Cond.constantLong "SnailPostModel" (321 : Nat) (498 : Int64)) ∈ lw_all := lw_g (lw_at lw_m8 62 rfl) rfl
theorem q1845 : (Jvm.Cond.constantLong "SnailPostModel" (339 : Nat) (294 : Int64)) ∈ lw_all := lw_g (lw_at lw_m8 63 rfl) rfl
theorem q1847 : (Jvm.Cond.instanceMethod ({ cls := "SnailPostModel", name := "force", desc := "(I)I" } : Jvm.MethodName)) ∈ lw_all := lw_g (lw_at lw_m8 65 rfl) rfl
theorem q1848 : (Jvm.Cond.selects "SnailPostModel" ({ cls := "SnailPostModel", name := "force", desc := "(I)I" } : Jvm.MethodName) ({ cls := "SnailPostModel", name := "force", desc := "(I)I" } : Jvm.MethodName)) ∈ lw_all := lw_g (lw_at lw_m8 66 rfl) rfl
theorem q1849 : (Jvm.Cond.code ({ cls := "SnailPostModel", name := "force", desc := "(I)I" } : Jvm.MethodName) prog_23_method_55_code (2 : Nat) (Option.some Jvm.ClassFile.FieldType.int)) ∈ lw_all := lw_g (lw_at lw_m8 67 rfl) rfl
theorem q1851 : (Jvm.Cond.instanceMethod ({ cls := "SnailPostModel", name := "where", desc := "(II)I" } : Jvm.MethodName)) ∈ lw_all := lw_g (lw_at lw_m8 69 rfl) rfl
theorem q1852 : (Jvm.Cond.selects "SnailPostModel" ({ cls := "SnailPostModel", name := "where", desc := "(II)I" } : Jvm.MethodName) ({ cls := "SnailPostModel", name := "where", desc := "(II)I" } : Jvm.MethodName)) ∈ lw_all := lw_g (lw_at lw_m8 70 rfl) rfl
theorem q1853 : (Jvm.Cond.code ({ cls := "SnailPostModel", name := "where", desc := "(II)I" } : Jvm.MethodName) prog_23_method_68_code (3 : Nat) (Option.some Jvm.ClassFile.FieldType.int)) ∈ lw_all := lw_g (lw_at lw_m8 71 rfl) rfl
theorem q1854 : (Jvm.Cond.constantLong "SnailPostModel" (407 : Nat) (59 : Int64)) ∈ lw_all := lw_g (lw_at lw_m8 72 rfl) rfl
theorem q1855 : (Jvm.Cond.methodLink "SnailPostModel" (409 : Nat) ({ cls := "SnailPostModel", name := "runPlan", desc := "()V" } : Jvm.MethodName)) ∈ lw_all := lw_g (lw_at lw_m8 73 rfl) rfl
theorem q1856 : (Jvm.Cond.privateMethod ({ cls := "SnailPostModel", name := "runPlan", desc := "()V" } : Jvm.MethodName)) ∈ lw_tbl := lw_at lw_m8 74 rfl
theorem q1857 : (Jvm.Cond.instanceMethod ({ cls := "SnailPostModel", name := "runPlan", desc := "()V" } : Jvm.MethodName)) ∈ lw_all := lw_g (lw_at lw_m8 75 rfl) rfl
theorem q1858 : (Jvm.Cond.code ({ cls := "SnailPostModel", name := "runPlan", desc := "()V" } : Jvm.MethodName) prog_23_method_67_code (2 : Nat) (Option.none : Option Jvm.ClassFile.FieldType)) ∈ lw_all := lw_g (lw_at lw_m8 76 rfl) rfl
theorem q1859 : (Jvm.Cond.methodLink "SnailPostModel" (401 : Nat) ({ cls := "SnailPostModel", name := "dawn", desc := "()V" } : Jvm.MethodName)) ∈ lw_all := lw_g (lw_at lw_m8 77 rfl) rfl
theorem q1860 : (Jvm.Cond.privateMethod ({ cls := "SnailPostModel", name := "dawn", desc := "()V" } : Jvm.MethodName)) ∈ lw_tbl := lw_at lw_m8 78 rfl
theorem q1861 : (Jvm.Cond.instanceMethod ({ cls := "SnailPostModel", name := "dawn", desc := "()V" } : Jvm.MethodName)) ∈ lw_all := lw_g (lw_at lw_m8 79 rfl) rfl
theorem q1862 : (Jvm.Cond.code ({ cls := "SnailPostModel", name := "dawn", desc := "()V" } : Jvm.MethodName) prog_23_method_64_code (2 : Nat) (Option.none : Option Jvm.ClassFile.FieldType)) ∈ lw_all := lw_g (lw_at lw_m8 80 rfl) rfl
theorem q1863 : (Jvm.Cond.methodLink "SnailPostModel" (404 : Nat) ({ cls := "SnailPostModel", name := "runHour", desc := "(II)V" } : Jvm.MethodName)) ∈ lw_all := lw_g (lw_at lw_m8 81 rfl) rfl
theorem q1864 : (Jvm.Cond.privateMethod ({ cls := "SnailPostModel", name := "runHour", desc := "(II)V" } : Jvm.MethodName)) ∈ lw_tbl := lw_at lw_m8 82 rfl
theorem q1865 : (Jvm.Cond.instanceMethod ({ cls := "SnailPostModel", name := "runHour", desc := "(II)V" } : Jvm.MethodName)) ∈ lw_all := lw_g (lw_at lw_m8 83 rfl) rfl
theorem q1866 : (Jvm.Cond.code ({ cls := "SnailPostModel", name := "runHour", desc := "(II)V" } : Jvm.MethodName) prog_23_method_65_code (5 : Nat) (Option.none : Option Jvm.ClassFile.FieldType)) ∈ lw_all := lw_g (lw_at lw_m8 84 rfl) rfl
theorem q1867 : (Jvm.Cond.methodLink "SnailPostModel" (389 : Nat) ({ cls := "SnailPostModel", name := "creep", desc := "(III)V" } : Jvm.MethodName)) ∈ lw_all := lw_g (lw_at lw_m8 85 rfl) rfl
theorem q1868 : (Jvm.Cond.privateMethod ({ cls := "SnailPostModel", name := "creep", desc := "(III)V" } : Jvm.MethodName)) ∈ lw_tbl := lw_at lw_m8 86 rfl
theorem q1869 : (Jvm.Cond.instanceMethod ({ cls := "SnailPostModel", name := "creep", desc := "(III)V" } : Jvm.MethodName)) ∈ lw_all := lw_g (lw_at lw_m8 87 rfl) rfl
theorem q1870 : (Jvm.Cond.code ({ cls := "SnailPostModel", name := "creep", desc := "(III)V" } : Jvm.MethodName) prog_23_method_66_code (15 : Nat) (Option.none : Option Jvm.ClassFile.FieldType)) ∈ lw_all := lw_g (lw_at lw_m8 88 rfl) rfl
theorem q1871 : (Jvm.Cond.methodLink "SnailPostModel" (385 : Nat) ({ cls := "SnailPostModel", name := "tells", desc := "(IIIIIJ)J" } : Jvm.MethodName)) ∈ lw_all := lw_g (lw_at lw_m8 89 rfl) rfl
theorem q1872 : (Jvm.Cond.privateMethod ({ cls := "SnailPostModel", name := "tells", desc := "(IIIIIJ)J" } : Jvm.MethodName)) ∈ lw_tbl := lw_at lw_m8 90 rfl
theorem q1873 : (Jvm.Cond.instanceMethod ({ cls := "SnailPostModel", name := "tells", desc := "(IIIIIJ)J" } : Jvm.MethodName)) ∈ lw_all := lw_g (lw_at lw_m8 91 rfl) rfl
theorem q1874 : (Jvm.Cond.code ({ cls := "SnailPostModel", name := "tells", desc := "(IIIIIJ)J" } : Jvm.MethodName) prog_23_method_62_code (13 : Nat) (Option.some Jvm.ClassFile.FieldType.long)) ∈ lw_all := lw_g (lw_at lw_m8 92 rfl) rfl
theorem q1875 : (Jvm.Cond.methodLink "SnailPostModel" (376 : Nat) ({ cls := "SnailPostModel", name := "lightIn", desc := "(II)I" } : Jvm.MethodName)) ∈ lw_all := lw_g (lw_at lw_m8 93 rfl) rfl
theorem q1876 : (Jvm.Cond.privateMethod ({ cls := "SnailPostModel", name := "lightIn", desc := "(II)I" } : Jvm.MethodName)) ∈ lw_tbl := lw_at lw_m8 94 rfl
theorem q1877 : (Jvm.Cond.instanceMethod ({ cls := "SnailPostModel", name := "lightIn", desc := "(II)I" } : Jvm.MethodName)) ∈ lw_all := lw_g (lw_at lw_m8 95 rfl) rfl
theorem q1878 : (Jvm.Cond.code ({ cls := "SnailPostModel", name := "lightIn", desc := "(II)I" } : Jvm.MethodName) prog_23_method_61_code (4 : Nat) (Option.some Jvm.ClassFile.FieldType.int)) ∈ lw_all := lw_g (lw_at lw_m8 96 rfl) rfl
theorem q1879 : (Jvm.Cond.methodLink "SnailPostModel" (373 : Nat) ({ cls := "SnailPostModel", name := "apart", desc := "(II)I" } : Jvm.MethodName)) ∈ lw_all := lw_g (lw_at lw_m8 97 rfl) rfl
theorem q1880 : (Jvm.Cond.static ({ cls := "SnailPostModel", name := "apart", desc := "(II)I" } : Jvm.MethodName)) ∈ lw_all := lw_g (lw_at lw_m8 98 rfl) rfl
theorem q1881 : (Jvm.Cond.code ({ cls := "SnailPostModel", name := "apart", desc := "(II)I" } : Jvm.MethodName) prog_23_method_60_code (2 : Nat) (Option.some Jvm.ClassFile.FieldType.int)) ∈ lw_all := lw_g (lw_at lw_m8 99 rfl) rfl
theorem q1882 : (Jvm.Cond.methodLink "SnailPostModel" (370 : Nat) ({ cls := "SnailPostModel", name := "size", desc := "(I)I" } : Jvm.MethodName)) ∈ lw_all := lw_g (lw_at lw_m8 100 rfl) rfl
theorem q1883 : (Jvm.Cond.static ({ cls := "SnailPostModel", name := "size", desc := "(I)I" } : Jvm.MethodName)) ∈ lw_all := lw_g (lw_at lw_m8 101 rfl) rfl
theorem q1884 : (Jvm.Cond.code ({ cls := "SnailPostModel", name := "size", desc := "(I)I" } : Jvm.MethodName) prog_23_method_59_code (1 : Nat) (Option.some Jvm.ClassFile.FieldType.int)) ∈ lw_all := lw_g (lw_at lw_m8 102 rfl) rfl
theorem q1885 : (Jvm.Cond.methodLink "SnailPostModel" (379 : Nat) ({ cls := "SnailPostModel", name := "bits", desc := "(I)I" } : Jvm.MethodName)) ∈ lw_all := lw_g (lw_at lw_m8 103 rfl) rfl
theorem q1886 : (Jvm.Cond.static ({ cls := "SnailPostModel", name := "bits", desc := "(I)I" } : Jvm.MethodName)) ∈ lw_all := lw_g (lw_at lw_m8 104 rfl) rfl
theorem q1887 : (Jvm.Cond.code ({ cls := "SnailPostModel", name := "bits", desc := "(I)I" } : Jvm.MethodName) prog_23_method_5_code (3 : Nat) (Option.some Jvm.ClassFile.FieldType.int)) ∈ lw_all := lw_g (lw_at lw_m8 105 rfl) rfl
theorem q1888 : (Jvm.Cond.methodLink "SnailPostModel" (382 : Nat) ({ cls := "SnailPostModel", name := "isSo", desc := "(I)Z" } : Jvm.MethodName)) ∈ lw_all := lw_g (lw_at lw_m8 106 rfl) rfl
theorem q1889 : (Jvm.Cond.privateMethod ({ cls := "SnailPostModel", name := "isSo", desc := "(I)Z" } : Jvm.MethodName)) ∈ lw_tbl := lw_at lw_m8 107 rfl
theorem q1890 : (Jvm.Cond.instanceMethod ({ cls := "SnailPostModel", name := "isSo", desc := "(I)Z" } : Jvm.MethodName)) ∈ lw_all := lw_g (lw_at lw_m8 108 rfl) rfl
theorem q1891 : (Jvm.Cond.code ({ cls := "SnailPostModel", name := "isSo", desc := "(I)Z" } : Jvm.MethodName) prog_23_method_58_code (2 : Nat) (Option.some Jvm.ClassFile.FieldType.boolean)) ∈ lw_all := lw_g (lw_at lw_m8 109 rfl) rfl
theorem q1892 : (Jvm.Cond.methodLink "SnailPostModel" (364 : Nat) ({ cls := "SnailPostModel", name := "reckonAll", desc := "(II)V" } : Jvm.MethodName)) ∈ lw_all := lw_g (lw_at lw_m8 110 rfl) rfl
theorem q1893 : (Jvm.Cond.privateMethod ({ cls := "SnailPostModel", name := "reckonAll", desc := "(II)V" } : Jvm.MethodName)) ∈ lw_tbl := lw_at lw_m8 111 rfl
theorem q1894 : (Jvm.Cond.instanceMethod ({ cls := "SnailPostModel", name := "reckonAll", desc := "(II)V" } : Jvm.MethodName)) ∈ lw_all := lw_g (lw_at lw_m8 112 rfl) rfl
theorem q1895 : (Jvm.Cond.code ({ cls := "SnailPostModel", name := "reckonAll", desc := "(II)V" } : Jvm.MethodName) prog_23_method_57_code (7 : Nat) (Option.none : Option Jvm.ClassFile.FieldType)) ∈ lw_all := lw_g (lw_at lw_m8 113 rfl) rfl
theorem q1896 : (Jvm.Cond.methodLink "SnailPostModel" (353 : Nat) ({ cls := "SnailPostModel", name := "reckon", desc := "(IJJ)J" } : Jvm.MethodName)) ∈ lw_all := lw_g (lw_at lw_m8 114 rfl) rfl
theorem q1897 : (Jvm.Cond.privateMethod ({ cls := "SnailPostModel", name := "reckon", desc := "(IJJ)J" } : Jvm.MethodName)) ∈ lw_tbl := lw_at lw_m8 115 rfl
theorem q1898 : (Jvm.Cond.instanceMethod ({ cls := "SnailPostModel", name := "reckon", desc := "(IJJ)J" } : Jvm.MethodName)) ∈ lw_all := lw_g (lw_at lw_m8 116 rfl) rfl
theorem q1899 : (Jvm.Cond.code ({ cls := "SnailPostModel", name := "reckon", desc := "(IJJ)J" } : Jvm.MethodName) prog_23_method_56_code (6 : Nat) (Option.some Jvm.ClassFile.FieldType.long)) ∈ lw_all := lw_g (lw_at lw_m8 117 rfl) rfl
theorem q1900 : (Jvm.Cond.constantLong "SnailPostModel" (357 : Nat) (-1000000000 : Int64)) ∈ lw_all := lw_g (lw_at lw_m8 118 rfl) rfl
theorem q1901 : (Jvm.Cond.constantLong "SnailPostModel" (359 : Nat) (1000000000 : Int64)) ∈ lw_all := lw_g (lw_at lw_m8 119 rfl) rfl
theorem q1902 : (Jvm.Cond.methodLink "SnailPostModel" (393 : Nat) ({ cls := "SnailPostModel", name := "luresOf", desc := "(IIII)J" } : Jvm.MethodName)) ∈ lw_all := lw_g (lw_at lw_m8 120 rfl) rfl
theorem q1903 : (Jvm.Cond.privateMethod ({ cls := "SnailPostModel", name := "luresOf", desc := "(IIII)J" } : Jvm.MethodName)) ∈ lw_tbl := lw_at lw_m8 121 rfl
theorem q1904 : (Jvm.Cond.instanceMethod ({ cls := "SnailPostModel", name := "luresOf", desc := "(IIII)J" } : Jvm.MethodName)) ∈ lw_all := lw_g (lw_at lw_m8 122 rfl) rfl
theorem q1905 : (Jvm.Cond.code ({ cls := "SnailPostModel", name := "luresOf", desc := "(IIII)J" } : Jvm.MethodName) prog_23_method_63_code (5 : Nat) (Option.some Jvm.ClassFile.FieldType.long)) ∈ lw_all := lw_g (lw_at lw_m8 123 rfl) rfl
theorem q1906 : (Jvm.Cond.constantLong "SnailPostModel" (397 : Nat) (11 : Int64)) ∈ lw_all := lw_g (lw_at lw_m8 124 rfl) rfl
theorem q1907 : (Jvm.Cond.constantLong "SnailPostModel" (399 : Nat) (7 : Int64)) ∈ lw_all := lw_g (lw_at lw_m8 125 rfl) rfl
theorem q1909 : (Jvm.Cond.instanceMethod ({ cls := "SnailPostModel", name := "day", desc := "(II)I" } : Jvm.MethodName)) ∈ lw_all := lw_g (lw_at lw_m8 127 rfl) rfl
theorem q1910 : (Jvm.Cond.selects "SnailPostModel" ({ cls := "SnailPostModel", name := "day", desc := "(II)I" } : Jvm.MethodName) ({ cls := "SnailPostModel", name := "day", desc := "(II)I" } : Jvm.MethodName)) ∈ lw_all := lw_g (lw_at lw_m8 128 rfl) rfl
theorem q1911 : (Jvm.Cond.code ({ cls := "SnailPostModel", name := "day", desc := "(II)I" } : Jvm.MethodName) prog_23_method_69_code (5 : Nat) (Option.some Jvm.ClassFile.FieldType.int)) ∈ lw_all := lw_g (lw_at lw_m8 129 rfl) rfl
theorem q1912 : (Jvm.Cond.constantLong "SnailPostModel" (412 : Nat) (2 : Int64)) ∈ lw_all := lw_g (lw_at lw_m8 130 rfl) rfl
theorem q1914 : (Jvm.Cond.instanceMethod ({ cls := "SnailPostModel", name := "trail", desc := "(I)I" } : Jvm.MethodName)) ∈ lw_all := lw_g (lw_at lw_m8 132 rfl) rfl
theorem q1915 : (Jvm.Cond.selects "SnailPostModel" ({ cls := "SnailPostModel", name := "trail", desc := "(I)I" } : Jvm.MethodName) ({ cls := "SnailPostModel", name := "trail", desc := "(I)I" } : Jvm.MethodName)) ∈ lw_all := lw_g (lw_at lw_m8 133 rfl) rfl
theorem q1916 : (Jvm.Cond.code ({ cls := "SnailPostModel", name := "trail", desc := "(I)I" } : Jvm.MethodName) prog_23_method_70_code (2 : Nat) (Option.some Jvm.ClassFile.FieldType.int)) ∈ lw_all := lw_g (lw_at lw_m8 134 rfl) rfl
theorem q1918 : (Jvm.Cond.instanceMethod ({ cls := "SnailPostModel", name := "best", desc := "(III)I" } : Jvm.MethodName)) ∈ lw_all := lw_g (lw_at lw_m8 136 rfl) rfl
theorem q1919 : (Jvm.Cond.selects "SnailPostModel" ({ cls := "SnailPostModel", name := "best", desc := "(III)I" } : Jvm.MethodName) ({ cls := "SnailPostModel", name := "best", desc := "(III)I" } : Jvm.MethodName)) ∈ lw_all := lw_g (lw_at lw_m8 137 rfl) rfl
theorem q1920 : (Jvm.Cond.code ({ cls := "SnailPostModel", name := "best", desc := "(III)I" } : Jvm.MethodName) prog_23_method_77_code (4 : Nat) (Option.some Jvm.ClassFile.FieldType.int)) ∈ lw_all := lw_g (lw_at lw_m8 138 rfl) rfl
theorem q1921 : (Jvm.Cond.methodLink "SnailPostModel" (438 : Nat) ({ cls := "SnailPostModel", name := "arePlanned", desc := "(II)Z" } : Jvm.MethodName)) ∈ lw_all := lw_g (lw_at lw_m8 139 rfl) rfl
theorem q1922 : (Jvm.Cond.privateMethod ({ cls := "SnailPostModel", name := "arePlanned", desc := "(II)Z" } : Jvm.MethodName)) ∈ lw_tbl := lw_at lw_m8 140 rfl
theorem q1923 : (Jvm.Cond.instanceMethod ({ cls := "SnailPostModel", name := "arePlanned", desc := "(II)Z" } : Jvm.MethodName)) ∈ lw_all := lw_g (lw_at lw_m8 141 rfl) rfl
theorem q1924 : (Jvm.Cond.code ({ cls := "SnailPostModel", name := "arePlanned", desc := "(II)Z" } : Jvm.MethodName) prog_23_method_76_code (3 : Nat) (Option.some Jvm.ClassFile.FieldType.boolean)) ∈ lw_all := lw_g (lw_at lw_m8 142 rfl) rfl
theorem q1925 : (Jvm.Cond.methodLink "SnailPostModel" (441 : Nat) ({ cls := "SnailPostModel", name := "findBest", desc := "(II)V" } : Jvm.MethodName)) ∈ lw_all := lw_g (lw_at lw_m8 143 rfl) rfl
theorem q1926 : (Jvm.Cond.privateMethod ({ cls := "SnailPostModel", name := "findBest", desc := "(II)V" } : Jvm.MethodName)) ∈ lw_tbl := lw_at lw_m8 144 rfl
theorem q1927 : (Jvm.Cond.instanceMethod ({ cls := "SnailPostModel", name := "findBest", desc := "(II)V" } : Jvm.MethodName)) ∈ lw_all := lw_g (lw_at lw_m8 145 rfl) rfl
theorem q1928 : (Jvm.Cond.code ({ cls := "SnailPostModel", name := "findBest", desc := "(II)V" } : Jvm.MethodName) prog_23_method_74_code (5 : Nat) (Option.none : Option Jvm.ClassFile.FieldType)) ∈ lw_all := lw_g (lw_at lw_m8 146 rfl) rfl
theorem q1929 : (Jvm.Cond.methodLink "SnailPostModel" (423 : Nat) ({ cls := "SnailPostModel", name := "keepGarden", desc := "(I)V" } : Jvm.MethodName)) ∈ lw_all := lw_g (lw_at lw_m8 147 rfl) rfl
theorem q1930 : (Jvm.Cond.privateMethod ({ cls := "SnailPostModel", name := "keepGarden", desc := "(I)V" } : Jvm.MethodName)) ∈ lw_tbl := lw_at lw_m8 148 rfl
theorem q1931 : (Jvm.Cond.instanceMethod ({ cls := "SnailPostModel", name := "keepGarden", desc := "(I)V" } : Jvm.MethodName)) ∈ lw_all := lw_g (lw_at lw_m8 149 rfl) rfl
theorem q1932 : (Jvm.Cond.code ({ cls := "SnailPostModel", name := "keepGarden", desc := "(I)V" } : Jvm.MethodName) prog_23_method_71_code (3 : Nat) (Option.none : Option Jvm.ClassFile.FieldType)) ∈ lw_all := lw_g (lw_at lw_m8 150 rfl) rfl
theorem q1933 : (Jvm.Cond.methodLink "SnailPostModel" (426 : Nat) ({ cls := "SnailPostModel", name := "backTo", desc := "(I)V" } : Jvm.MethodName)) ∈ lw_all := lw_g (lw_at lw_m8 151 rfl) rfl
theorem q1934 : (Jvm.Cond.privateMethod ({ cls := "SnailPostModel", name := "backTo", desc := "(I)V" } : Jvm.MethodName)) ∈ lw_tbl := lw_at lw_m8 152 rfl
theorem q1935 : (Jvm.Cond.instanceMethod ({ cls := "SnailPostModel", name := "backTo", desc := "(I)V" } : Jvm.MethodName)) ∈ lw_all := lw_g (lw_at lw_m8 153 rfl) rfl
theorem q1936 : (Jvm.Cond.code ({ cls := "SnailPostModel", name := "backTo", desc := "(I)V" } : Jvm.MethodName) prog_23_method_72_code (3 : Nat) (Option.none : Option Jvm.ClassFile.FieldType)) ∈ lw_all := lw_g (lw_at lw_m8 154 rfl) rfl
theorem q1937 : (Jvm.Cond.methodLink "SnailPostModel" (429 : Nat) ({ cls := "SnailPostModel", name := "weigh", desc := "(I)V" } : Jvm.MethodName)) ∈ lw_all := lw_g (lw_at lw_m8 155 rfl) rfl
theorem q1938 : (Jvm.Cond.privateMethod ({ cls := "SnailPostModel", name := "weigh", desc := "(I)V" } : Jvm.MethodName)) ∈ lw_tbl := lw_at lw_m8 156 rfl
theorem q1939 : (Jvm.Cond.instanceMethod ({ cls := "SnailPostModel", name := "weigh", desc := "(I)V" } : Jvm.MethodName)) ∈ lw_all := lw_g (lw_at lw_m8 157 rfl) rfl
theorem q1940 : (Jvm.Cond.code ({ cls := "SnailPostModel", name := "weigh", desc := "(I)V" } : Jvm.MethodName) prog_23_method_75_code (6 : Nat) (Option.none : Option Jvm.ClassFile.FieldType)) ∈ lw_all := lw_g (lw_at lw_m8 158 rfl) rfl
theorem q1941 : (Jvm.Cond.methodLink "SnailPostModel" (435 : Nat) ({ cls := "SnailPostModel", name := "is", desc := "(II)Z" } : Jvm.MethodName)) ∈ lw_all := lw_g (lw_at lw_m8 159 rfl) rfl
theorem q1942 : (Jvm.Cond.static ({ cls := "SnailPostModel", name := "is", desc := "(II)Z" } : Jvm.MethodName)) ∈ lw_all := lw_g (lw_at lw_m8 160 rfl) rfl
theorem q1943 : (Jvm.Cond.code ({ cls := "SnailPostModel", name := "is", desc := "(II)Z" } : Jvm.MethodName) prog_23_method_4_code (2 : Nat) (Option.some Jvm.ClassFile.FieldType.boolean)) ∈ lw_all := lw_g (lw_at lw_m8 161 rfl) rfl
theorem q1944 : (Jvm.Cond.methodLink "SnailPostModel" (432 : Nat) ({ cls := "SnailPostModel", name := "nextPlan", desc := "(I)I" } : Jvm.MethodName)) ∈ lw_all := lw_g (lw_at lw_m8 162 rfl) rfl
theorem q1945 : (Jvm.Cond.privateMethod ({ cls := "SnailPostModel", name := "nextPlan", desc := "(I)I" } : Jvm.MethodName)) ∈ lw_tbl := lw_at lw_m8 163 rfl
theorem q1946 : (Jvm.Cond.instanceMethod ({ cls := "SnailPostModel", name := "nextPlan", desc := "(I)I" } : Jvm.MethodName)) ∈ lw_all := lw_g (lw_at lw_m8 164 rfl) rfl
theorem q1947 : (Jvm.Cond.code ({ cls := "SnailPostModel", name := "nextPlan", desc := "(I)I" } : Jvm.MethodName) prog_23_method_73_code (3 : Nat) (Option.some Jvm.ClassFile.FieldType.int)) ∈ lw_all := lw_g (lw_at lw_m8 165 rfl) rfl
theorem q1949 : (Jvm.Cond.instanceMethod ({ cls := "SnailPostModel", name := "light", desc := "(II)I" } : Jvm.MethodName)) ∈ lw_all := lw_g (lw_at lw_m8 167 rfl) rfl
theorem q1950 : (Jvm.Cond.selects "SnailPostModel" ({ cls := "SnailPostModel", name := "light", desc := "(II)I" } : Jvm.MethodName) ({ cls := "SnailPostModel", name := "light", desc := "(II)I" } : Jvm.MethodName)) ∈ lw_all := lw_g (lw_at lw_m8 168 rfl) rfl
theorem q1951 : (Jvm.Cond.code ({ cls := "SnailPostModel", name := "light", desc := "(II)I" } : Jvm.MethodName) prog_23_method_78_code (4 : Nat) (Option.some Jvm.ClassFile.FieldType.int)) ∈ lw_all := lw_g (lw_at lw_m8 169 rfl) rfl
theorem q1953 : (Jvm.Cond.instanceMethod ({ cls := "SnailPostModel", name := "duel", desc := "(III)I" } : Jvm.MethodName)) ∈ lw_all := lw_g (lw_at lw_m8 171 rfl) rfl
theorem q1954 : (Jvm.Cond.selects "SnailPostModel" ({ cls := "SnailPostModel", name := "duel", desc := "(III)I" } : Jvm.MethodName) ({ cls := "SnailPostModel", name := "duel", desc := "(III)I" } : Jvm.MethodName)) ∈ lw_all := lw_g (lw_at lw_m8 172 rfl) rfl
theorem q1955 : (Jvm.Cond.code ({ cls := "SnailPostModel", name := "duel", desc := "(III)I" } : Jvm.MethodName) prog_23_method_80_code (6 : Nat) (Option.some Jvm.ClassFile.FieldType.int)) ∈ lw_all := lw_g (lw_at lw_m8 173 rfl) rfl
theorem q1956 : (Jvm.Cond.constant "SnailPostModel" (444 : Nat) (1000000 : Int32)) ∈ lw_all := lw_g (lw_at lw_m8 174 rfl) rfl
theorem q1957 : (Jvm.Cond.methodLink "SnailPostModel" (445 : Nat) ({ cls := "SnailPostModel", name := "settleDuel", desc := "(III)V" } : Jvm.MethodName)) ∈ lw_all := lw_g (lw_at lw_m8 175 rfl) rfl
theorem q1958 : (Jvm.Cond.privateMethod ({ cls := "SnailPostModel", name := "settleDuel", desc := "(III)V" } : Jvm.MethodName)) ∈ lw_tbl := lw_at lw_m8 176 rfl
theorem q1959 : (Jvm.Cond.instanceMethod ({ cls := "SnailPostModel", name := "settleDuel", desc := "(III)V" } : Jvm.MethodName)) ∈ lw_all := lw_g (lw_at lw_m8 177 rfl) rfl
theorem q1960 : (Jvm.Cond.code ({ cls := "SnailPostModel", name := "settleDuel", desc := "(III)V" } : Jvm.MethodName) prog_23_method_79_code (7 : Nat) (Option.none : Option Jvm.ClassFile.FieldType)) ∈ lw_all := lw_g (lw_at lw_m8 178 rfl) rfl
theorem q1962 : (Jvm.Cond.instanceMethod ({ cls := "SnailPostModel", name := "read", desc := "(I)I" } : Jvm.MethodName)) ∈ lw_all := lw_g (lw_at lw_m8 180 rfl) rfl
theorem q1963 : (Jvm.Cond.selects "SnailPostModel" ({ cls := "SnailPostModel", name := "read", desc := "(I)I" } : Jvm.MethodName) ({ cls := "SnailPostModel", name := "read", desc := "(I)I" } : Jvm.MethodName)) ∈ lw_all := lw_g (lw_at lw_m8 181 rfl) rfl
theorem q1964 : (Jvm.Cond.code ({ cls := "SnailPostModel", name := "read", desc := "(I)I" } : Jvm.MethodName) prog_23_method_87_code (2 : Nat) (Option.some Jvm.ClassFile.FieldType.int)) ∈ lw_all := lw_g (lw_at lw_m8 182 rfl) rfl
theorem q1965 : (Jvm.Cond.methodLink "SnailPostModel" (460 : Nat) ({ cls := "SnailPostModel", name := "allSnails", desc := "()I" } : Jvm.MethodName)) ∈ lw_all := lw_g (lw_at lw_m8 183 rfl) rfl
theorem q1966 : (Jvm.Cond.privateMethod ({ cls := "SnailPostModel", name := "allSnails", desc := "()I" } : Jvm.MethodName)) ∈ lw_tbl := lw_at lw_m8 184 rfl
theorem q1967 : (Jvm.Cond.instanceMethod ({ cls := "SnailPostModel", name := "allSnails", desc := "()I" } : Jvm.MethodName)) ∈ lw_all := lw_g (lw_at lw_m8 185 rfl) rfl
theorem q1968 : (Jvm.Cond.code ({ cls := "SnailPostModel", name := "allSnails", desc := "()I" } : Jvm.MethodName) prog_23_method_86_code (1 : Nat) (Option.some Jvm.ClassFile.FieldType.int)) ∈ lw_all := lw_g (lw_at lw_m8 186 rfl) rfl
theorem q1969 : (Jvm.Cond.methodLink "SnailPostModel" (463 : Nat) ({ cls := "SnailPostModel", name := "isRead", desc := "(I)Z" } : Jvm.MethodName)) ∈ lw_all := lw_g (lw_at lw_m8 187 rfl) rfl
theorem q1970 : (Jvm.Cond.privateMethod ({ cls := "SnailPostModel", name := "isRead", desc := "(I)Z" } : Jvm.MethodName)) ∈ lw_tbl := lw_at lw_m8 188 rfl
theorem q1971 : (Jvm.Cond.instanceMethod ({ cls := "SnailPostModel", name := "isRead", desc := "(I)Z" } : Jvm.MethodName)) ∈ lw_all := lw_g (lw_at lw_m8 189 rfl) rfl
theorem q1972 : (Jvm.Cond.code ({ cls := "SnailPostModel", name := "isRead", desc := "(I)Z" } : Jvm.MethodName) prog_23_method_84_code (3 : Nat) (Option.some Jvm.ClassFile.FieldType.boolean)) ∈ lw_all := lw_g (lw_at lw_m8 190 rfl) rfl
theorem q1973 : (Jvm.Cond.methodLink "SnailPostModel" (448 : Nat) ({ cls := "SnailPostModel", name := "noSteps", desc := "()V" } : Jvm.MethodName)) ∈ lw_all := lw_g (lw_at lw_m8 191 rfl) rfl
theorem q1974 : (Jvm.Cond.privateMethod ({ cls := "SnailPostModel", name := "noSteps", desc := "()V" } : Jvm.MethodName)) ∈ lw_tbl := lw_at lw_m8 192 rfl
theorem q1975 : (Jvm.Cond.instanceMethod ({ cls := "SnailPostModel", name := "noSteps", desc := "()V" } : Jvm.MethodName)) ∈ lw_all := lw_g (lw_at lw_m8 193 rfl) rfl
theorem q1976 : (Jvm.Cond.code ({ cls := "SnailPostModel", name := "noSteps", desc := "()V" } : Jvm.MethodName) prog_23_method_83_code (2 : Nat) (Option.none : Option Jvm.ClassFile.FieldType)) ∈ lw_all := lw_g (lw_at lw_m8 194 rfl) rfl
theorem q1977 : (Jvm.Cond.methodLink "SnailPostModel" (451 : Nat) ({ cls := "SnailPostModel", name := "put1", desc := "(I)V" } : Jvm.MethodName)) ∈ lw_all := lw_g (lw_at lw_m8 195 rfl) rfl
theorem q1978 : (Jvm.Cond.privateMethod ({ cls := "SnailPostModel", name := "put1", desc := "(I)V" } : Jvm.MethodName)) ∈ lw_tbl := lw_at lw_m8 196 rfl
theorem q1979 : (Jvm.Cond.instanceMethod ({ cls := "SnailPostModel", name := "put1", desc := "(I)V" } : Jvm.MethodName)) ∈ lw_all := lw_g (lw_at lw_m8 197 rfl) rfl
theorem q1980 : (Jvm.Cond.code ({ cls := "SnailPostModel", name := "put1", desc := "(I)V" } : Jvm.MethodName) prog_23_method_81_code (5 : Nat) (Option.none : Option Jvm.ClassFile.FieldType)) ∈ lw_all := lw_g (lw_at lw_m8 198 rfl) rfl
theorem q1981 : (Jvm.Cond.methodLink "SnailPostModel" (454 : Nat) ({ cls := "SnailPostModel", name := "areKnown", desc := "(I)Z" } : Jvm.MethodName)) ∈ lw_all := lw_g (lw_at lw_m8 199 rfl) rfl
theorem q1982 : (Jvm.Cond.privateMethod ({ cls := "SnailPostModel", name := "areKnown", desc := "(I)Z" } : Jvm.MethodName)) ∈ lw_tbl := lw_at lw_m8 200 rfl
theorem q1983 : (Jvm.Cond.instanceMethod ({ cls := "SnailPostModel", name := "areKnown", desc := "(I)Z" } : Jvm.MethodName)) ∈ lw_all := lw_g (lw_at lw_m8 201 rfl) rfl
theorem q1984 : (Jvm.Cond.code ({ cls := "SnailPostModel", name := "areKnown", desc := "(I)Z" } : Jvm.MethodName) prog_23_method_85_code (4 : Nat) (Option.some Jvm.ClassFile.FieldType.boolean)) ∈ lw_all := lw_g (lw_at lw_m8 202 rfl) rfl
theorem q1985 : (Jvm.Cond.methodLink "SnailPostModel" (457 : Nat) ({ cls := "SnailPostModel", name := "isKnown", desc := "(I)Z" } : Jvm.MethodName)) ∈ lw_all := lw_g (lw_at lw_m8 203 rfl) rfl
theorem q1986 : (Jvm.Cond.privateMethod ({ cls := "SnailPostModel", name := "isKnown", desc := "(I)Z" } : Jvm.MethodName)) ∈ lw_tbl := lw_at lw_m8 204 rfl
theorem q1987 : (Jvm.Cond.instanceMethod ({ cls := "SnailPostModel", name := "isKnown", desc := "(I)Z" } : Jvm.MethodName)) ∈ lw_all := lw_g (lw_at lw_m8 205 rfl) rfl
theorem q1988 : (Jvm.Cond.code ({ cls := "SnailPostModel", name := "isKnown", desc := "(I)Z" } : Jvm.MethodName) prog_23_method_82_code (4 : Nat) (Option.some Jvm.ClassFile.FieldType.boolean)) ∈ lw_all := lw_g (lw_at lw_m8 206 rfl) rfl
theorem q1990 : (Jvm.Cond.instanceMethod ({ cls := "SnailPostModel", name := "safe", desc := "()I" } : Jvm.MethodName)) ∈ lw_all := lw_g (lw_at lw_m8 208 rfl) rfl
theorem q1991 : (Jvm.Cond.selects "SnailPostModel" ({ cls := "SnailPostModel", name := "safe", desc := "()I" } : Jvm.MethodName) ({ cls := "SnailPostModel", name := "safe", desc := "()I" } : Jvm.MethodName)) ∈ lw_all := lw_g (lw_at lw_m8 209 rfl) rfl
theorem q1992 : (Jvm.Cond.code ({ cls := "SnailPostModel", name := "safe", desc := "()I" } : Jvm.MethodName) prog_23_method_88_code (4 : Nat) (Option.some Jvm.ClassFile.FieldType.int)) ∈ lw_all := lw_g (lw_at lw_m8 210 rfl) rfl
theorem q1994 : (Jvm.Cond.instanceMethod ({ cls := "SnailPostModel", name := "odds", desc := "()J" } : Jvm.MethodName)) ∈ lw_all := lw_g (lw_at lw_m8 212 rfl) rfl
theorem q1995 : (Jvm.Cond.selects "SnailPostModel" ({ cls := "SnailPostModel", name := "odds", desc := "()J" } : Jvm.MethodName) ({ cls := "SnailPostModel", name := "odds", desc := "()J" } : Jvm.MethodName)) ∈ lw_all := lw_g (lw_at lw_m8 213 rfl) rfl
theorem q1996 : (Jvm.Cond.code ({ cls := "SnailPostModel", name := "odds", desc := "()J" } : Jvm.MethodName) prog_23_method_90_code (1 : Nat) (Option.some Jvm.ClassFile.FieldType.long)) ∈ lw_all := lw_g (lw_at lw_m8 214 rfl) rfl
theorem q1997 : (Jvm.Cond.methodLink "SnailPostModel" (466 : Nat) ({ cls := "SnailPostModel", name := "oddsOf", desc := "(I)J" } : Jvm.MethodName)) ∈ lw_all := lw_g (lw_at lw_m8 215 rfl) rfl
theorem q1998 : (Jvm.Cond.privateMethod ({ cls := "SnailPostModel", name := "oddsOf", desc := "(I)J" } : Jvm.MethodName)) ∈ lw_tbl := lw_at lw_m8 216 rfl
theorem q1999 : (Jvm.Cond.instanceMethod ({ cls := "SnailPostModel", name := "oddsOf", desc := "(I)J" } : Jvm.MethodName)) ∈ lw_all := lw_g (lw_at lw_m8 217 rfl) rfl
theorem q2000 : (Jvm.Cond.code ({ cls := "SnailPostModel", name := "oddsOf", desc := "(I)J" } : Jvm.MethodName) prog_23_method_89_code (9 : Nat) (Option.some Jvm.ClassFile.FieldType.long)) ∈ lw_all := lw_g (lw_at lw_m8 218 rfl) rfl
theorem q2002 : (Jvm.Cond.instanceMethod ({ cls := "SnailPostModel", name := "keys", desc := "()I" } : Jvm.MethodName)) ∈ lw_all := lw_g (lw_at lw_m8 220 rfl) rfl
theorem q2003 : (Jvm.Cond.selects "SnailPostModel" ({ cls := "SnailPostModel", name := "keys", desc := "()I" } : Jvm.MethodName) ({ cls := "SnailPostModel", name := "keys", desc := "()I" } : Jvm.MethodName)) ∈ lw_all := lw_g (lw_at lw_m8 221 rfl) rfl
theorem q2004 : (Jvm.Cond.code ({ cls := "SnailPostModel", name := "keys", desc := "()I" } : Jvm.MethodName) prog_23_method_91_code (3 : Nat) (Option.some Jvm.ClassFile.FieldType.int)) ∈ lw_all := lw_g (lw_at lw_m8 222 rfl) rfl
theorem q2006 : (Jvm.Cond.instanceMethod ({ cls := "SnailPostModel", name := "send", desc := "(I)I" } : Jvm.MethodName)) ∈ lw_all := lw_g (lw_at lw_m8 224 rfl) rfl
theorem q2007 : (Jvm.Cond.selects "SnailPostModel" ({ cls := "SnailPostModel", name := "send", desc := "(I)I" } : Jvm.MethodName) ({ cls := "SnailPostModel", name := "send", desc := "(I)I" } : Jvm.MethodName)) ∈ lw_all := lw_g (lw_at lw_m8 225 rfl) rfl
theorem q2008 : (Jvm.Cond.code ({ cls := "SnailPostModel", name := "send", desc := "(I)I" } : Jvm.MethodName) prog_23_method_92_code (12 : Nat) (Option.some Jvm.ClassFile.FieldType.int)) ∈ lw_all := lw_g (lw_at lw_m8 226 rfl) rfl
theorem q2010 : (Jvm.Cond.instanceMethod ({ cls := "SnailPostModel", name := "shells", desc := "(III)I" } : Jvm.MethodName)) ∈ lw_all := lw_g (lw_at lw_m8 228 rfl) rfl
theorem q2011 : (Jvm.Cond.selects "SnailPostModel" ({ cls := "SnailPostModel", name := "shells", desc := "(III)I" } : Jvm.MethodName) ({ cls := "SnailPostModel", name := "shells", desc := "(III)I" } : Jvm.MethodName)) ∈ lw_all := lw_g (lw_at lw_m8 229 rfl) rfl
theorem q2012 : (Jvm.Cond.code ({ cls := "SnailPostModel", name := "shells", desc := "(III)I" } : Jvm.MethodName) prog_23_method_95_code (5 : Nat) (Option.some Jvm.ClassFile.FieldType.int)) ∈ lw_all := lw_g (lw_at lw_m8 230 rfl) rfl
theorem q2013 : (Jvm.Cond.constantLong "SnailPostModel" (474 : Nat) (3 : Int64)) ∈ lw_all := lw_g (lw_at lw_m8 231 rfl) rfl
theorem q2014 : (Jvm.Cond.methodLink "SnailPostModel" (476 : Nat) ({ cls := "SnailPostModel", name := "findShells", desc := "(III)Z" } : Jvm.MethodName)) ∈ lw_all := lw_g (lw_at lw_m8 232 rfl) rfl
theorem q2015 : (Jvm.Cond.privateMethod ({ cls := "SnailPostModel", name := "findShells", desc := "(III)Z" } : Jvm.MethodName)) ∈ lw_tbl := lw_at lw_m8 233 rfl
theorem q2016 : (Jvm.Cond.instanceMethod ({ cls := "SnailPostModel", name := "findShells", desc := "(III)Z" } : Jvm.MethodName)) ∈ lw_all := lw_g (lw_at lw_m8 234 rfl) rfl
theorem q2017 : (Jvm.Cond.code ({ cls := "SnailPostModel", name := "findShells", desc := "(III)Z" } : Jvm.MethodName) prog_23_method_94_code (8 : Nat) (Option.some Jvm.ClassFile.FieldType.boolean)) ∈ lw_all := lw_g (lw_at lw_m8 235 rfl) rfl
theorem q2018 : (Jvm.Cond.methodLink "SnailPostModel" (470 : Nat) ({ cls := "SnailPostModel", name := "areSafe", desc := "(III)Z" } : Jvm.MethodName)) ∈ lw_all := lw_g (lw_at lw_m8 236 rfl) rfl
theorem q2019 : (Jvm.Cond.privateMethod ({ cls := "SnailPostModel", name := "areSafe", desc := "(III)Z" } : Jvm.MethodName)) ∈ lw_tbl := lw_at lw_m8 237 rfl
theorem q2020 : (Jvm.Cond.instanceMethod ({ cls := "SnailPostModel", name := "areSafe", desc := "(III)Z" } : Jvm.MethodName)) ∈ lw_all := lw_g (lw_at lw_m8 238 rfl) rfl
theorem q2021 : (Jvm.Cond.code ({ cls := "SnailPostModel", name := "areSafe", desc := "(III)Z" } : Jvm.MethodName) prog_23_method_93_code (7 : Nat) (Option.some Jvm.ClassFile.FieldType.boolean)) ∈ lw_all := lw_g (lw_at lw_m8 239 rfl) rfl
theorem q2023 : (Jvm.Cond.instanceMethod ({ cls := "SnailPostModel", name := "cross", desc := "(II)I" } : Jvm.MethodName)) ∈ lw_all := lw_g (lw_at lw_m9 1 rfl) rfl
theorem q2024 : (Jvm.Cond.selects "SnailPostModel" ({ cls := "SnailPostModel", name := "cross", desc := "(II)I" } : Jvm.MethodName) ({ cls := "SnailPostModel", name := "cross", desc := "(II)I" } : Jvm.MethodName)) ∈ lw_all := lw_g (lw_at lw_m9 2 rfl) rfl
theorem q2025 : (Jvm.Cond.code ({ cls := "SnailPostModel", name := "cross", desc := "(II)I" } : Jvm.MethodName) prog_23_method_96_code (4 : Nat) (Option.some Jvm.ClassFile.FieldType.int)) ∈ lw_all := lw_g (lw_at lw_m9 3 rfl) rfl
theorem q2027 : (Jvm.Cond.instanceMethod ({ cls := "SnailPostModel", name := "drop", desc := "(I)I" } : Jvm.MethodName)) ∈ lw_all := lw_g (lw_at lw_m9 5 rfl) rfl
theorem q2028 : (Jvm.Cond.selects "SnailPostModel" ({ cls := "SnailPostModel", name := "drop", desc := "(I)I" } : Jvm.MethodName) ({ cls := "SnailPostModel", name := "drop", desc := "(I)I" } : Jvm.MethodName)) ∈ lw_all := lw_g (lw_at lw_m9 6 rfl) rfl
theorem q2029 : (Jvm.Cond.code ({ cls := "SnailPostModel", name := "drop", desc := "(I)I" } : Jvm.MethodName) prog_23_method_97_code (3 : Nat) (Option.some Jvm.ClassFile.FieldType.int)) ∈ lw_all := lw_g (lw_at lw_m9 7 rfl) rfl
theorem q2031 : (Jvm.Cond.instanceMethod ({ cls := "SnailPostModel", name := "orders", desc := "(I)I" } : Jvm.MethodName)) ∈ lw_all := lw_g (lw_at lw_m9 9 rfl) rfl
theorem q2032 : (Jvm.Cond.selects "SnailPostModel" ({ cls := "SnailPostModel", name := "orders", desc := "(I)I" } : Jvm.MethodName) ({ cls := "SnailPostModel", name := "orders", desc := "(I)I" } : Jvm.MethodName)) ∈ lw_all := lw_g (lw_at lw_m9 10 rfl) rfl
theorem q2033 : (Jvm.Cond.code ({ cls := "SnailPostModel", name := "orders", desc := "(I)I" } : Jvm.MethodName) prog_23_method_100_code (5 : Nat) (Option.some Jvm.ClassFile.FieldType.int)) ∈ lw_all := lw_g (lw_at lw_m9 11 rfl) rfl
theorem q2034 : (Jvm.Cond.methodLink "SnailPostModel" (482 : Nat) ({ cls := "SnailPostModel", name := "findOrders", desc := "()V" } : Jvm.MethodName)) ∈ lw_all := lw_g (lw_at lw_m9 12 rfl) rfl
theorem q2035 : (Jvm.Cond.privateMethod ({ cls := "SnailPostModel", name := "findOrders", desc := "()V" } : Jvm.MethodName)) ∈ lw_tbl := lw_at lw_m9 13 rfl
theorem q2036 : (Jvm.Cond.instanceMethod ({ cls := "SnailPostModel", name := "findOrders", desc := "()V" } : Jvm.MethodName)) ∈ lw_all := lw_g (lw_at lw_m9 14 rfl) rfl
theorem q2037 : (Jvm.Cond.code ({ cls := "SnailPostModel", name := "findOrders", desc := "()V" } : Jvm.MethodName) prog_23_method_99_code (4 : Nat) (Option.none : Option Jvm.ClassFile.FieldType)) ∈ lw_all := lw_g (lw_at lw_m9 15 rfl) rfl
theorem q2038 : (Jvm.Cond.methodLink "SnailPostModel" (479 : Nat) ({ cls := "SnailPostModel", name := "canPass", desc := "(II)Z" } : Jvm.MethodName)) ∈ lw_all := lw_g (lw_at lw_m9 16 rfl) rfl
theorem q2039 : (Jvm.Cond.privateMethod ({ cls := "SnailPostModel", name := "canPass", desc := "(II)Z" } : Jvm.MethodName)) ∈ lw_tbl := lw_at lw_m9 17 rfl
theorem q2040 : (Jvm.Cond.instanceMethod ({ cls := "SnailPostModel", name := "canPass", desc := "(II)Z" } : Jvm.MethodName)) ∈ lw_all := lw_g (lw_at lw_m9 18 rfl) rfl
theorem q2041 : (Jvm.Cond.code ({ cls := "SnailPostModel", name := "canPass", desc := "(II)Z" } : Jvm.MethodName) prog_23_method_98_code (5 : Nat) (Option.some Jvm.ClassFile.FieldType.boolean)) ∈ lw_all := lw_g (lw_at lw_m9 19 rfl) rfl
theorem q2043 : (Jvm.Cond.instanceMethod ({ cls := "SnailPostModel", name := "sure", desc := "(I)I" } : Jvm.MethodName)) ∈ lw_all := lw_g (lw_at lw_m9 21 rfl) rfl
theorem q2044 : (Jvm.Cond.selects "SnailPostModel" ({ cls := "SnailPostModel", name := "sure", desc := "(I)I" } : Jvm.MethodName) ({ cls := "SnailPostModel", name := "sure", desc := "(I)I" } : Jvm.MethodName)) ∈ lw_all := lw_g (lw_at lw_m9 22 rfl) rfl
theorem q2045 : (Jvm.Cond.code ({ cls := "SnailPostModel", name := "sure", desc := "(I)I" } : Jvm.MethodName) prog_23_method_101_code (6 : Nat) (Option.some Jvm.ClassFile.FieldType.int)) ∈ lw_all := lw_g (lw_at lw_m9 23 rfl) rfl
theorem q2047 : (Jvm.Cond.instanceMethod ({ cls := "SnailPostModel", name := "ahead", desc := "(II)I" } : Jvm.MethodName)) ∈ lw_all := lw_g (lw_at lw_m9 25 rfl) rfl
theorem q2048 : (Jvm.Cond.selects "SnailPostModel" ({ cls := "SnailPostModel", name := "ahead", desc := "(II)I" } : Jvm.MethodName) ({ cls := "SnailPostModel", name := "ahead", desc := "(II)I" } : Jvm.MethodName)) ∈ lw_all := lw_g (lw_at lw_m9 26 rfl) rfl
theorem q2049 : (Jvm.Cond.code ({ cls := "SnailPostModel", name := "ahead", desc := "(II)I" } : Jvm.MethodName) prog_23_method_102_code (7 : Nat) (Option.some Jvm.ClassFile.FieldType.int)) ∈ lw_all := lw_g (lw_at lw_m9 27 rfl) rfl
theorem q2051 : (Jvm.Cond.instanceMethod ({ cls := "SnailPostModel", name := "hunt", desc := "(I)I" } : Jvm.MethodName)) ∈ lw_all := lw_g (lw_at lw_m9 29 rfl) rfl
theorem q2052 : (Jvm.Cond.selects "SnailPostModel" ({ cls := "SnailPostModel", name := "hunt", desc := "(I)I" } : Jvm.MethodName) ({ cls := "SnailPostModel", name := "hunt", desc := "(I)I" } : Jvm.MethodName)) ∈ lw_all := lw_g (lw_at lw_m9 30 rfl) rfl
theorem q2053 : (Jvm.Cond.code ({ cls := "SnailPostModel", name := "hunt", desc := "(I)I" } : Jvm.MethodName) prog_23_method_103_code (7 : Nat) (Option.some Jvm.ClassFile.FieldType.int)) ∈ lw_all := lw_g (lw_at lw_m9 31 rfl) rfl
theorem q2054 : (Jvm.Cond.constantLong "SnailPostModel" (488 : Nat) (1103 : Int64)) ∈ lw_all := lw_g (lw_at lw_m9 32 rfl) rfl
theorem q2055 : (Jvm.Cond.constantLong "SnailPostModel" (490 : Nat) (12345 : Int64)) ∈ lw_all := lw_g (lw_at lw_m9 33 rfl) rfl
theorem q2056 : (Jvm.Cond.constantLong "SnailPostModel" (492 : Nat) (1000003 : Int64)) ∈ lw_all := lw_g (lw_at lw_m9 34 rfl) rfl
theorem q2058 : (Jvm.Cond.instanceMethod ({ cls := "SnailPostModel", name := "hunted", desc := "(II)I" } : Jvm.MethodName)) ∈ lw_all := lw_g (lw_at lw_m9 36 rfl) rfl
theorem q2059 : (Jvm.Cond.selects "SnailPostModel" ({ cls := "SnailPostModel", name := "hunted", desc := "(II)I" } : Jvm.MethodName) ({ cls := "SnailPostModel", name := "hunted", desc := "(II)I" } : Jvm.MethodName)) ∈ lw_all := lw_g (lw_at lw_m9 37 rfl) rfl
theorem q2060 : (Jvm.Cond.code ({ cls := "SnailPostModel", name := "hunted", desc := "(II)I" } : Jvm.MethodName) prog_23_method_104_code (3 : Nat) (Option.some Jvm.ClassFile.FieldType.int)) ∈ lw_all := lw_g (lw_at lw_m9 38 rfl) rfl
theorem q2062 : (Jvm.Cond.instanceMethod ({ cls := "SnailPostModel", name := "count", desc := "(I)I" } : Jvm.MethodName)) ∈ lw_all := lw_g (lw_at lw_m9 40 rfl) rfl
theorem q2063 : (Jvm.Cond.selects "SnailPostModel" ({ cls := "SnailPostModel", name := "count", desc := "(I)I" } : Jvm.MethodName) ({ cls := "SnailPostModel", name := "count", desc := "(I)I" } : Jvm.MethodName)) ∈ lw_all := lw_g (lw_at lw_m9 41 rfl) rfl
theorem q2064 : (Jvm.Cond.code ({ cls := "SnailPostModel", name := "count", desc := "(I)I" } : Jvm.MethodName) prog_23_method_105_code (5 : Nat) (Option.some Jvm.ClassFile.FieldType.int)) ∈ lw_all := lw_g (lw_at lw_m9 42 rfl) rfl
theorem q2066 : (Jvm.Cond.instanceMethod ({ cls := "SnailPostModel", name := "status", desc := "()I" } : Jvm.MethodName)) ∈ lw_all := lw_g (lw_at lw_m9 44 rfl) rfl
theorem q2067 : (Jvm.Cond.selects "SnailPostModel" ({ cls := "SnailPostModel", name := "status", desc := "()I" } : Jvm.MethodName) ({ cls := "SnailPostModel", name := "status", desc := "()I" } : Jvm.MethodName)) ∈ lw_all := lw_g (lw_at lw_m9 45 rfl) rfl
theorem q2068 : (Jvm.Cond.code ({ cls := "SnailPostModel", name := "status", desc := "()I" } : Jvm.MethodName) prog_23_method_106_code (1 : Nat) (Option.some Jvm.ClassFile.FieldType.int)) ∈ lw_all := lw_g (lw_at lw_m9 46 rfl) rfl
theorem q2084 : (Jvm.Cond.castable "SnailPostModel" "java/lang/Object") ∈ lw_tbl := lw_at lw_m9 62 rfl
theorem in_X9 : ∀ w ∈ wsX90, w ∈ lw_all := lw_in wsX90 [1513, 1515, 1517, 1519, 1521, 1523, 1525, 1527, 1529, 1531, 1533, 1535, 1537, 1539, 1541, 1543, 1545, 1547, 1549, 1551, 1553, 1555, 1557, 1559, 1561, 1563, 1565, 1567, 1569, 1571, 1573, 1575, 1577, 1579, 1581, 1583, 1585, 1587, 1589, 1591, 1593, 1595, 1597, 1599, 1601, 1603, 1605, 1607, 1609, 1611, 1613, 1615, 1617, 1619, 1621, 1623, 1625, 1627, 1629, 1631] (by decide +kernel) (by decide +kernel)
