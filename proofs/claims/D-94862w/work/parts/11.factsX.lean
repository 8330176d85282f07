/-! SnailPost: the layout, what is known besides, the facts of fields and calls -/
set_option maxRecDepth 100000
abbrev csW (k : Nat) : List Nat := [k + 1 + 3, k + 2 + 3, k + 3 + 3, k + 4 + 3, 0, 3]
abbrev csL (k : Nat) : List Nat := [k + 1 + 3, k + 2 + 3, k + 3 + 3, 0, 0, 0, 0, 0, 0, 0, 0, 3]
abbrev csX0 : List Nat := [0, 4, 5, 13, 14, 0, 0, 0, 0, 15, 18, 19, 24, 0, 25, 59, 0, 0, 0, 0, 0, 93, 95, 97, 101, 106, 0, 0]
abbrev csX1 : List Nat := [6, 7, 8, 9, 10, 11, 12, 2, 0, 0, 0, 0]
abbrev csX2 : List Nat := [16, 17]
abbrev csX3 : List Nat := [2, 2, 2, 2, 2, 0]
abbrev csX6 : List Nat := [94]
abbrev csX7 : List Nat := [96, 0, 0, 0, 0, 3]
abbrev csX8 : List Nat := [98, 99, 100, 0, 0, 0, 0, 3]
abbrev csJ2 : List Nat := [0, 2, 0]
abbrev csX10 : List Nat := [2, 0, 2, 0, 0, 0, 0]
abbrev csX11 : List Nat := [2, 2, 2, 2, 2, 0, 0]
abbrev csX12 : List Nat := [0, 2, 2]
abbrev csX14 : List Nat := [0]
abbrev csX15 : List Nat := [0]
abbrev csX16 : List Nat := [0, 2, 2]
abbrev csX18 : List Nat := [0, 2, 2]
abbrev csX19 : List Nat := [2]
abbrev csX20 : List Nat := [0, 2]
abbrev csX21 : List Nat := [2]
abbrev csX9 : List Nat := [0, 0, 2, 2, 2, 2, 0, 2, 0, 0, 0, 0, 1, 0, 0, 0, 2, 0, 2, 2, 0, 2, 2, 0, 0, 2, 2, 0, 2, 2, 0, 1, 1, 2, 2, 2, 2, 2, 2, 2, 2, 2, 2, 2, 0, 0, 0, 2, 2, 2, 2, 2, 2, 2, 2, 1, 2, 2, 2, 0]
def kdXl : List sn_Kd := [.inl (0, csX0), .inr (0, 7, 0), .inl (1, csX1), .inr (0, 96, 0), .inr (0, 36, 0), .inr (0, 4, 0), .inr (0, 5, 0), .inr (0, 2, 0), .inr (0, 24, 0), .inr (1, 96, 0), .inr (5, 2, 2), .inr (2, 400, 0), .inl (2, csX2), .inl (3, csX3), .inr (3, 10, 1), .inr (0, 5, 0), .inl (4, csW 16), .inr (0, 6, 0), .inr (0, 6, 0), .inr (0, 6, 0), .inr (0, 96, 0), .inr (0, 360, 0), .inl (5, csL 22), .inr (6, 6, 29), .inr (0, 5, 0), .inr (0, 5, 0), .inl (4, csW 26), .inr (0, 6, 0), .inr (0, 6, 0), .inr (0, 6, 0), .inr (0, 96, 0), .inl (4, csW 31), .inr (0, 6, 0), .inr (0, 6, 0), .inr (0, 6, 0), .inr (0, 96, 0), .inl (4, csW 36), .inr (0, 6, 0), .inr (0, 6, 0), .inr (0, 6, 0), .inr (0, 96, 0), .inl (4, csW 41), .inr (0, 6, 0), .inr (0, 6, 0), .inr (0, 6, 0), .inr (0, 96, 0), .inl (4, csW 46), .inr (0, 6, 0), .inr (0, 6, 0), .inr (0, 6, 0), .inr (0, 96, 0), .inl (4, csW 51), .inr (0, 6, 0), .inr (0, 6, 0), .inr (0, 6, 0), .inr (0, 96, 0), .inl (5, csL 56), .inr (6, 6, 63), .inr (0, 5, 0), .inr (0, 5, 0), .inl (4, csW 60), .inr (0, 6, 0), .inr (0, 6, 0), .inr (0, 6, 0), .inr (0, 96, 0), .inl (4, csW 65), .inr (0, 6, 0), .inr (0, 6, 0), .inr (0, 6, 0), .inr (0, 96, 0), .inl (4, csW 70), .inr (0, 6, 0), .inr (0, 6, 0), .inr (0, 6, 0), .inr (0, 96, 0), .inl (4, csW 75), .inr (0, 6, 0), .inr (0, 6, 0), .inr (0, 6, 0), .inr (0, 96, 0), .inl (4, csW 80), .inr (0, 6, 0), .inr (0, 6, 0), .inr (0, 6, 0), .inr (0, 96, 0), .inl (4, csW 85), .inr (0, 6, 0), .inr (0, 6, 0), .inr (0, 6, 0), .inr (0, 96, 0), .inl (6, csX6), .inr (0, 6, 0), .inl (7, csX7), .inr (0, 6, 0), .inl (8, csX8), .inr (0, 6, 0), .inr (0, 6, 0), .inr (0, 36, 0), .inl (4, csW 98), .inr (0, 6, 0), .inr (0, 6, 0), .inr (0, 6, 0), .inr (0, 96, 0), .inr (0, 6, 0)]
def kdX (k : Nat) : sn_Kd := kdXl.getD k (.inr (0, 0, 0))
def clX : List vw_C := [(RX0, TX0, 28), (RX1, TX1, 12), (RX2, TX2, 2), (RX3, TX3, 6), (RX4, TX4, 6), (RX5, TX5, 12), (RX6, TX6, 1), (RX7, TX7, 6), (RX8, TX8, 8), (RJ2, TJ2, 3), (RX10, TX10, 7), (RX11, TX11, 7), (RX12, TX12, 3), (RX14, TX14, 1), (RX15, TX15, 1), (RX16, TX16, 3), (RX18, TX18, 3), (RX19, TX19, 1), (RX20, TX20, 2), (RX21, TX21, 1), (RX9, TX9, 60)]
def tyXl : List FieldType := [.int, .boolean, .byte, .long, .object "java/lang/Object", .object "SnailPost$State", .object "SnailPost$Walk"]
def nwF : List (String × Nat × String × String × String × String) := [("SnailPost", 136, "SnailPost$State", "damp", "[I", "SnailPost"), ("SnailPost", 119, "SnailPost$State", "facts", "[I", "SnailPost"), ("SnailPost", 164, "SnailPost$State", "spots", "[I", "SnailPost"), ("SnailPost", 170, "SnailPost$State", "plan", "[I", "SnailPost"), ("SnailPost", 173, "SnailPost$State", "terms", "[I", "SnailPost"), ("SnailPost", 334, "SnailPost$State", "crossings", "[I", "SnailPost"), ("SnailPost", 150, "SnailPost$State", "salt", "[Z", "SnailPost"), ("SnailPost", 186, "SnailPost$State", "laws", "Ljava/util/ArrayList;", "SnailPost"), ("SnailPost", 116, "SnailPost$State", "many", "I", "SnailPost"), ("SnailPost", 161, "SnailPost$State", "spotMany", "I", "SnailPost"), ("SnailPost", 331, "SnailPost$State", "crossMany", "I", "SnailPost"), ("SnailPost", 221, "SnailPost$State", "force", "I", "SnailPost"), ("SnailPost", 236, "SnailPost$Walk", "cells", "[I", "SnailPost"), ("SnailPost", 248, "SnailPost$Walk", "came", "[I", "SnailPost"), ("SnailPost", 251, "SnailPost$Walk", "stayed", "[I", "SnailPost"), ("SnailPost", 254, "SnailPost$Walk", "been", "[I", "SnailPost"), ("SnailPost", 368, "SnailPost$Walk", "eaten", "I", "SnailPost"), ("SnailPost", 281, "SnailPost$Lantern", "walks", "[LSnailPost$Walk;", "SnailPost"), ("SnailPost", 292, "SnailPost$Lantern", "row", "[I", "SnailPost"), ("SnailPost", 272, "SnailPost$Lantern", "first", "[I", "SnailPost"), ("SnailPost", 265, "SnailPost$Lantern", "most", "I", "SnailPost"), ("SnailPost", 268, "SnailPost$Lantern", "least", "I", "SnailPost"), ("SnailPost", 271, "SnailPost$Lantern", "many", "I", "SnailPost"), ("SnailPost", 330, "SnailPost$Shells", "row", "[I", "SnailPost"), ("SnailPost", 328, "SnailPost$Shells", "size", "I", "SnailPost"), ("SnailPost", 339, "SnailPost$Orders", "first", "[I", "SnailPost"), ("SnailPost", 349, "SnailPost$Orders", "ahead", "[I", "SnailPost"), ("SnailPost", 338, "SnailPost$Orders", "many", "I", "SnailPost"), ("SnailPost", 340, "SnailPost$Orders", "firsts", "I", "SnailPost"), ("SnailPost", 343, "SnailPost$Orders", "lasts", "I", "SnailPost"), ("SnailPost", 211, "SnailPost$Reader", "made", "Ljava/util/ArrayList;", "SnailPost"), ("SnailPost", 206, "SnailPost$Fault", "place", "I", "SnailPost"), ("SnailPost$Reader", 81, "SnailPost$Clause", "sum", "LSnailPost$Sum;", "SnailPost"), ("SnailPost$Reader", 90, "SnailPost$Clause", "when", "LSnailPost$Test;", "SnailPost"), ("SnailPost$Reader", 108, "SnailPost$Several", "of", "Ljava/util/ArrayList;", "SnailPost"), ("SnailPost$Value", 13, "SnailPost$Setting", "values", "[J", "SnailPost"), ("SnailPost$Two", 26, "SnailPost$Setting", "broken", "LSnailPost$Broken;", "SnailPost"), ("SnailPost$Law", 29, "SnailPost$Clause", "head", "I", "SnailPost"), ("SnailPost$Walk", 80, "SnailPost$State", "damp", "[I", "SnailPost"), ("SnailPost$Walk", 54, "SnailPost$State", "spots", "[I", "SnailPost"), ("SnailPost$Walk", 51, "SnailPost$State", "terms", "[I", "SnailPost"), ("SnailPost$Walk", 133, "SnailPost$State", "salt", "[Z", "SnailPost"), ("SnailPost$Walk", 90, "SnailPost$State", "laws", "Ljava/util/ArrayList;", "SnailPost"), ("SnailPost$Walk", 36, "SnailPost$State", "many", "I", "SnailPost"), ("SnailPost$Walk", 65, "SnailPost$State", "force", "I", "SnailPost"), ("SnailPost$Walk", 74, "SnailPost$Setting", "values", "[J", "SnailPost"), ("SnailPost$Walk", 32, "SnailPost", "state", "LSnailPost$State;", "SnailPost"), ("SnailPost$Walk", 70, "SnailPost", "setting", "LSnailPost$Setting;", "SnailPost"), ("SnailPost$Walk", 126, "SnailPost", "around", "[I", "SnailPost"), ("SnailPost$Lantern", 83, "SnailPost$State", "many", "I", "SnailPost"), ("SnailPost$Lantern", 68, "SnailPost$State", "spotMany", "I", "SnailPost"), ("SnailPost$Lantern", 103, "SnailPost$Walk", "cells", "[I", "SnailPost"), ("SnailPost$Lantern", 88, "SnailPost$Walk", "came", "[I", "SnailPost"), ("SnailPost$Lantern", 64, "SnailPost", "state", "LSnailPost$State;", "SnailPost"), ("SnailPost$Lantern", 35, "SnailPost", "version", "I", "SnailPost"), ("SnailPost$Shells", 51, "SnailPost", "span", "LSnailPost$Span;", "SnailPost"), ("SnailPost$Orders", 65, "SnailPost$State", "crossings", "[I", "SnailPost"), ("SnailPost$Orders", 49, "SnailPost$State", "many", "I", "SnailPost"), ("SnailPost$Orders", 62, "SnailPost$State", "crossMany", "I", "SnailPost"), ("SnailPost$Orders", 45, "SnailPost", "state", "LSnailPost$State;", "SnailPost"), ("SnailPost$Orders", 29, "SnailPost", "version", "I", "SnailPost")]
def nwM : List (String × Nat × MethodName × String) := [("SnailPost", 15, ⟨"SnailPost$State", "<init>", "()V"⟩, "SnailPost"), ("SnailPost", 34, ⟨"SnailPost$Setting", "<init>", "()V"⟩, "SnailPost"), ("SnailPost", 44, ⟨"SnailPost$Walk", "<init>", "(LSnailPost;)V"⟩, "SnailPost"), ("SnailPost", 59, ⟨"SnailPost$Lantern", "<init>", "(LSnailPost;)V"⟩, "SnailPost"), ("SnailPost", 72, ⟨"SnailPost$Span", "<init>", "()V"⟩, "SnailPost"), ("SnailPost", 79, ⟨"SnailPost$Shells", "<init>", "(LSnailPost;)V"⟩, "SnailPost"), ("SnailPost", 86, ⟨"SnailPost$Orders", "<init>", "(LSnailPost;)V"⟩, "SnailPost"), ("SnailPost$Number", 1, ⟨"SnailPost$Sum", "<init>", "()V"⟩, "SnailPost"), ("SnailPost$Value", 1, ⟨"SnailPost$Sum", "<init>", "()V"⟩, "SnailPost"), ("SnailPost$Two", 3, ⟨"SnailPost$Sum", "<init>", "()V"⟩, "SnailPost"), ("SnailPost$Compare", 1, ⟨"SnailPost$Test", "<init>", "()V"⟩, "SnailPost"), ("SnailPost$Not", 1, ⟨"SnailPost$Test", "<init>", "()V"⟩, "SnailPost"), ("SnailPost$Several", 1, ⟨"SnailPost$Test", "<init>", "()V"⟩, "SnailPost"), ("SnailPost$Walk", 41, ⟨"SnailPost", "of0", "(II)I"⟩, "SnailPost"), ("SnailPost$Walk", 118, ⟨"SnailPost", "isOf", "(II)Z"⟩, "SnailPost"), ("SnailPost$Walk", 57, ⟨"SnailPost", "apart", "(II)I"⟩, "SnailPost"), ("SnailPost$Walk", 86, ⟨"SnailPost", "ones", "(I)I"⟩, "SnailPost"), ("SnailPost$Lantern", 17, ⟨"SnailPost$Walk", "<init>", "(LSnailPost;)V"⟩, "SnailPost"), ("SnailPost$Lantern", 84, ⟨"SnailPost", "isOf", "(II)Z"⟩, "SnailPost"), ("SnailPost$Lantern", 106, ⟨"SnailPost", "of0", "(II)I"⟩, "SnailPost"), ("SnailPost$Lantern", 110, ⟨"SnailPost", "apart", "(II)I"⟩, "SnailPost"), ("SnailPost$Span", 15, ⟨"SnailPost", "isOf", "(II)Z"⟩, "SnailPost"), ("SnailPost$Shells", 41, ⟨"SnailPost", "ones", "(I)I"⟩, "SnailPost"), ("SnailPost$Shells", 60, ⟨"SnailPost", "isOf", "(II)Z"⟩, "SnailPost"), ("SnailPost$Orders", 55, ⟨"SnailPost", "isOf", "(II)Z"⟩, "SnailPost")]
def nwC : List (String × String) := [("java/util/ArrayList", "java/util/Collection"), ("java/util/ArrayList", "java/lang/Object"), ("java/lang/Throwable", "java/lang/Object"), ("java/lang/String", "java/lang/Object"), ("SnailPost", "java/lang/Object"), ("SnailPost$State", "java/lang/Object"), ("SnailPost$Reader", "java/lang/Object"), ("SnailPost$Fault", "SnailPost$Fault"), ("SnailPost$Fault", "java/lang/Object"), ("SnailPost$Clause", "java/lang/Object"), ("SnailPost$Number", "java/lang/Object"), ("SnailPost$Value", "java/lang/Object"), ("SnailPost$Two", "java/lang/Object"), ("SnailPost$Compare", "SnailPost$Test"), ("SnailPost$Compare", "java/lang/Object"), ("SnailPost$Not", "SnailPost$Test"), ("SnailPost$Not", "java/lang/Object"), ("SnailPost$Setting", "java/lang/Object"), ("SnailPost$Several", "SnailPost$Test"), ("SnailPost$Several", "java/lang/Object"), ("SnailPost$Law", "java/lang/Object"), ("SnailPost$Broken", "SnailPost$Broken"), ("SnailPost$Broken", "java/lang/Object"), ("SnailPost$Walk", "java/lang/Object"), ("SnailPost$Lantern", "java/lang/Object"), ("SnailPost$Span", "java/lang/Object"), ("SnailPost$Shells", "java/lang/Object"), ("SnailPost$Orders", "java/lang/Object"), ("SnailPostModel", "java/lang/Object"), ("[B", "java/lang/Object"), ("[I", "java/lang/Object"), ("[J", "java/lang/Object"), ("[LSnailPost$State;", "java/lang/Object"), ("[LSnailPost$Walk;", "java/lang/Object"), ("[Ljava/lang/Object;", "java/lang/Object"), ("[Z", "java/lang/Object")]
def nwD : List MethodName := [⟨"java/lang/Object", "getClass", "()Ljava/lang/Class;"⟩, ⟨"java/lang/Throwable", "<init>", "()V"⟩, ⟨"java/lang/Throwable", "<init>", "(Ljava/lang/String;)V"⟩, ⟨"java/lang/Exception", "<init>", "()V"⟩, ⟨"java/lang/Exception", "<init>", "(Ljava/lang/String;)V"⟩, ⟨"SnailPost$Sum", "of", "(LSnailPost$Setting;)J"⟩, ⟨"SnailPost$Test", "is", "(LSnailPost$Setting;)Z"⟩, ⟨"java/util/Collection", "toArray", "()[Ljava/lang/Object;"⟩]
def skI : List Nat := [64, 66, 68, 70, 84, 101, 114, 119, 129, 134, 140, 142, 144, 154, 156, 164, 166, 171, 173, 175, 177, 179, 181, 183, 185, 187, 189, 191, 193]
def skT : List String := [";", "lures", "eats", "halts", "if", "or", "and", "not", "(", ")", "<", ">", "=", "+", "-", "*", "/", "snail", "kind", "damp", "light", "trail", "own", "here", "hour", "x", "y", "[", "]"]
def skL : List Nat := [1, 5, 4, 5, 2, 2, 3, 3, 1, 1, 1, 1, 1, 1, 1, 1, 1, 5, 4, 4, 5, 5, 3, 4, 4, 1, 1, 1, 1]
def skB : List (List Int32) := [[59], [108, 117, 114, 101, 115], [101, 97, 116, 115], [104, 97, 108, 116, 115], [105, 102], [111, 114], [97, 110, 100], [110, 111, 116], [40], [41], [60], [62], [61], [43], [45], [42], [47], [115, 110, 97, 105, 108], [107, 105, 110, 100], [100, 97, 109, 112], [108, 105, 103, 104, 116], [116, 114, 97, 105, 108], [111, 119, 110], [104, 101, 114, 101], [104, 111, 117, 114], [120], [121], [91], [93]]
/-- the String constants: objects of the class, their coders, their bytes -/
def sk_S (adK adV : Nat → Nat) (A : Nat → Prop) (U : State) (H : Heap) : Prop := ∀ i : Nat, i < 29 → va_O "java/lang/String" (adK i) A U H ∧ va_OF "java/lang/String" "coder" "B" (.int 0) (adK i) A U H ∧ va_OF "java/lang/String" "value" "[B" (.ref (adV i)) (adK i) A U H ∧ va_T .byte (adV i) (skL.getD i 0) (fun j => .int ((skB.getD i []).getD j 0)) A U H
theorem sk_S.moved {adK adV : Nat → Nat} {A : Nat → Prop} {u U : State} {H : Heap} (hvm : u.vm.Alike U.vm) (h : sk_S adK adV A u H) : sk_S adK adV A U H := fun i hi => ⟨va_O.moved hvm (h i hi).1, va_OF.moved hvm (h i hi).2.1, va_OF.moved hvm (h i hi).2.2.1, va_T.moved hvm (h i hi).2.2.2⟩
theorem sk_S.kept {adK adV : Nat → Nat} {A : Nat → Prop} {U : State} {H H1 : Heap} (h : sk_S adK adV A U H) (hq : ∀ a : Nat, a < H.size → ¬ A a → H1[a]? = H[a]?) : sk_S adK adV A U H1 := fun i hi => ⟨(h i hi).1.kept hq, (h i hi).2.1.kept hq, (h i hi).2.2.1.kept hq, (h i hi).2.2.2.kept hq⟩
theorem sk_S.narrow {adK adV : Nat → Nat} {A B : Nat → Prop} {U : State} {H : Heap} (h : sk_S adK adV A U H) (hAB : ∀ q, B q → A q) : sk_S adK adV B U H := fun i hi => ⟨(h i hi).1.narrow hAB, (h i hi).2.1.narrow hAB, (h i hi).2.2.1.narrow hAB, (h i hi).2.2.2.narrow hAB⟩
def XX (w : sn_W) (A : Nat → Prop) (U : State) (H : Heap) : Prop :=
  (∀ x ∈ nwF, va_Nw (.fieldLinkNest x.1 x.2.1 x.2.2.1 x.2.2.2.1 x.2.2.2.2.1 x.2.2.2.2.2) U) ∧ (∀ x ∈ nwM, va_Nw (.methodLinkNest x.1 x.2.1 x.2.2.1 x.2.2.2) U) ∧ (∀ x ∈ nwC, va_Nw (.castable x.1 x.2) U) ∧ (∀ x ∈ nwD, va_Nw (.declares x) U) ∧ (va_AO "java/lang/Object" U ∧ va_AO "SnailPost$State" U ∧ va_AO "SnailPost$Walk" U) ∧ va_Mi "[Ljava/lang/Object;" w.2.2.2.2.2.2 U ∧ (∀ i, i < 29 → vk_R "SnailPost$Reader" (skI.getD i 0) (skT.getD i "") (w.2.2.2.2.1 i) U) ∧ sk_S w.2.2.2.2.1 w.2.2.2.2.2.1 A U H ∧ va_Z "java/lang/String" "COMPACT_STRINGS" "Z" (.int 1) A U H ∧ va_Zq "jdk/internal/util/Preconditions" "SIOOBE_FORMATTER" "Ljava/util/function/BiFunction;" A U H ∧ va_Zq "java/lang/Throwable" "UNASSIGNED_STACK" "[Ljava/lang/StackTraceElement;" A U H ∧ va_Zq "java/lang/Throwable" "SUPPRESSED_SENTINEL" "Ljava/util/List;" A U H ∧ va_Fw "java/util/ArrayList" ⟨"java/util/Collection", "toArray", "()[Ljava/lang/Object;"⟩ ⟨"java/util/ArrayList", "toArray", "()[Ljava/lang/Object;"⟩ U
theorem XX_O (w : sn_W) : sn_XO (XX w) := by
  refine ⟨?_, ?_, ?_⟩
  · rintro A s U H hW ⟨h1, h2, h3, h4, ⟨h5, h6, h7⟩, h8, h9, h10, h11, h12, h13, h14, h15⟩
    exact ⟨fun x hx => (h1 x hx).warmF hW, fun x hx => (h2 x hx).warmM hW, fun x hx => (h3 x hx).warmC hW, fun x hx => (h4 x hx).warmD hW, ⟨h5.moved hW.alike, h6.moved hW.alike, h7.moved hW.alike⟩, h8.moved hW.alike, fun i hi => (h9 i hi).warm hW, h10.moved hW.alike, h11.moved hW.alike, h12.moved hW.alike, h13.moved hW.alike, h14.moved hW.alike, h15.moved ⟨by decide, by decide⟩ hW.alike⟩
  · rintro A U H H1 hq ⟨h1, h2, h3, h4, h5, h8, h9, h10, h11, h12, h13, h14, h15⟩
    exact ⟨h1, h2, h3, h4, h5, h8, h9, h10.kept hq, h11.kept hq, h12.kept hq, h13.kept hq, h14.kept hq, h15⟩
  · rintro A B U H hAB ⟨h1, h2, h3, h4, h5, h8, h9, h10, h11, h12, h13, h14, h15⟩
    exact ⟨h1, h2, h3, h4, h5, h8, h9, h10.narrow hAB, h11.narrow hAB, h12.narrow hAB, h13.narrow hAB, h14.narrow hAB, h15⟩
def LoN (n : Nat) : sn_Lo := (n, kdX, clX, tyXl, XX)
abbrev LoX : sn_Lo := LoN 104
theorem LoX_X (w : sn_W) : sn_XO (LoX.2.2.2.2 w) := XX_O w
def isWl : List Nat := [16, 26, 31, 36, 41, 46, 51, 60, 65, 70, 75, 80, 85, 98]
def isW (k : Nat) : Bool := isWl.contains k
def isL (k : Nat) : Bool := k == 22 || k == 56
theorem isW_all {P : Nat → Prop} (h : ∀ k ∈ isWl, P k) {k : Nat} (hk : isW k = true) : P k := h k (by simpa [isW] using hk)
theorem isL_all {P : Nat → Prop} (h1 : P 22) (h2 : P 56) {k : Nat} (hk : isL k = true) : P k := by
  simp only [isL, Bool.or_eq_true, beq_iff_eq] at hk
  rcases hk with rfl | rfl
  · exact h1
  · exact h2
theorem atW0 {k : Nat} (hk : isW k = true) : sn_At LoX k (.inl (4, csW k)) := isW_all (P := fun k => sn_At LoX k (.inl (4, csW k))) (List.forall_mem_cons.mpr ⟨⟨by decide, rfl⟩, List.forall_mem_cons.mpr ⟨⟨by decide, rfl⟩, List.forall_mem_cons.mpr ⟨⟨by decide, rfl⟩, List.forall_mem_cons.mpr ⟨⟨by decide, rfl⟩, List.forall_mem_cons.mpr ⟨⟨by decide, rfl⟩, List.forall_mem_cons.mpr ⟨⟨by decide, rfl⟩, List.forall_mem_cons.mpr ⟨⟨by decide, rfl⟩, List.forall_mem_cons.mpr ⟨⟨by decide, rfl⟩, List.forall_mem_cons.mpr ⟨⟨by decide, rfl⟩, List.forall_mem_cons.mpr ⟨⟨by decide, rfl⟩, List.forall_mem_cons.mpr ⟨⟨by decide, rfl⟩, List.forall_mem_cons.mpr ⟨⟨by decide, rfl⟩, List.forall_mem_cons.mpr ⟨⟨by decide, rfl⟩, List.forall_mem_cons.mpr ⟨⟨by decide, rfl⟩, fun _ h => absurd h List.not_mem_nil⟩⟩⟩⟩⟩⟩⟩⟩⟩⟩⟩⟩⟩⟩) hk
theorem atW1 {k : Nat} (hk : isW k = true) : sn_At LoX (k + 1) (.inr (0, 6, 0)) := isW_all (P := fun k => sn_At LoX (k + 1) (.inr (0, 6, 0))) (List.forall_mem_cons.mpr ⟨⟨by decide, rfl⟩, List.forall_mem_cons.mpr ⟨⟨by decide, rfl⟩, List.forall_mem_cons.mpr ⟨⟨by decide, rfl⟩, List.forall_mem_cons.mpr ⟨⟨by decide, rfl⟩, List.forall_mem_cons.mpr ⟨⟨by decide, rfl⟩, List.forall_mem_cons.mpr ⟨⟨by decide, rfl⟩, List.forall_mem_cons.mpr ⟨⟨by decide, rfl⟩, List.forall_mem_cons.mpr ⟨⟨by decide, rfl⟩, List.forall_mem_cons.mpr ⟨⟨by decide, rfl⟩, List.forall_mem_cons.mpr ⟨⟨by decide, rfl⟩, List.forall_mem_cons.mpr ⟨⟨by decide, rfl⟩, List.forall_mem_cons.mpr ⟨⟨by decide, rfl⟩, List.forall_mem_cons.mpr ⟨⟨by decide, rfl⟩, List.forall_mem_cons.mpr ⟨⟨by decide, rfl⟩, fun _ h => absurd h List.not_mem_nil⟩⟩⟩⟩⟩⟩⟩⟩⟩⟩⟩⟩⟩⟩) hk
theorem atW2 {k : Nat} (hk : isW k = true) : sn_At LoX (k + 2) (.inr (0, 6, 0)) := isW_all (P := fun k => sn_At LoX (k + 2) (.inr (0, 6, 0))) (List.forall_mem_cons.mpr ⟨⟨by decide, rfl⟩, List.forall_mem_cons.mpr ⟨⟨by decide, rfl⟩, List.forall_mem_cons.mpr ⟨⟨by decide, rfl⟩, List.forall_mem_cons.mpr ⟨⟨by decide, rfl⟩, List.forall_mem_cons.mpr ⟨⟨by decide, rfl⟩, List.forall_mem_cons.mpr ⟨⟨by decide, rfl⟩, List.forall_mem_cons.mpr ⟨⟨by decide, rfl⟩, List.forall_mem_cons.mpr ⟨⟨by decide, rfl⟩, List.forall_mem_cons.mpr ⟨⟨by decide, rfl⟩, List.forall_mem_cons.mpr ⟨⟨by decide, rfl⟩, List.forall_mem_cons.mpr ⟨⟨by decide, rfl⟩, List.forall_mem_cons.mpr ⟨⟨by decide, rfl⟩, List.forall_mem_cons.mpr ⟨⟨by decide, rfl⟩, List.forall_mem_cons.mpr ⟨⟨by decide, rfl⟩, fun _ h => absurd h List.not_mem_nil⟩⟩⟩⟩⟩⟩⟩⟩⟩⟩⟩⟩⟩⟩) hk
theorem atW3 {k : Nat} (hk : isW k = true) : sn_At LoX (k + 3) (.inr (0, 6, 0)) := isW_all (P := fun k => sn_At LoX (k + 3) (.inr (0, 6, 0))) (List.forall_mem_cons.mpr ⟨⟨by decide, rfl⟩, List.forall_mem_cons.mpr ⟨⟨by decide, rfl⟩, List.forall_mem_cons.mpr ⟨⟨by decide, rfl⟩, List.forall_mem_cons.mpr ⟨⟨by decide, rfl⟩, List.forall_mem_cons.mpr ⟨⟨by decide, rfl⟩, List.forall_mem_cons.mpr ⟨⟨by decide, rfl⟩, List.forall_mem_cons.mpr ⟨⟨by decide, rfl⟩, List.forall_mem_cons.mpr ⟨⟨by decide, rfl⟩, List.forall_mem_cons.mpr ⟨⟨by decide, rfl⟩, List.forall_mem_cons.mpr ⟨⟨by decide, rfl⟩, List.forall_mem_cons.mpr ⟨⟨by decide, rfl⟩, List.forall_mem_cons.mpr ⟨⟨by decide, rfl⟩, List.forall_mem_cons.mpr ⟨⟨by decide, rfl⟩, List.forall_mem_cons.mpr ⟨⟨by decide, rfl⟩, fun _ h => absurd h List.not_mem_nil⟩⟩⟩⟩⟩⟩⟩⟩⟩⟩⟩⟩⟩⟩) hk
theorem atW4 {k : Nat} (hk : isW k = true) : sn_At LoX (k + 4) (.inr (0, 96, 0)) := isW_all (P := fun k => sn_At LoX (k + 4) (.inr (0, 96, 0))) (List.forall_mem_cons.mpr ⟨⟨by decide, rfl⟩, List.forall_mem_cons.mpr ⟨⟨by decide, rfl⟩, List.forall_mem_cons.mpr ⟨⟨by decide, rfl⟩, List.forall_mem_cons.mpr ⟨⟨by decide, rfl⟩, List.forall_mem_cons.mpr ⟨⟨by decide, rfl⟩, List.forall_mem_cons.mpr ⟨⟨by decide, rfl⟩, List.forall_mem_cons.mpr ⟨⟨by decide, rfl⟩, List.forall_mem_cons.mpr ⟨⟨by decide, rfl⟩, List.forall_mem_cons.mpr ⟨⟨by decide, rfl⟩, List.forall_mem_cons.mpr ⟨⟨by decide, rfl⟩, List.forall_mem_cons.mpr ⟨⟨by decide, rfl⟩, List.forall_mem_cons.mpr ⟨⟨by decide, rfl⟩, List.forall_mem_cons.mpr ⟨⟨by decide, rfl⟩, List.forall_mem_cons.mpr ⟨⟨by decide, rfl⟩, fun _ h => absurd h List.not_mem_nil⟩⟩⟩⟩⟩⟩⟩⟩⟩⟩⟩⟩⟩⟩) hk
theorem atL0 {k : Nat} (hk : isL k = true) : sn_At LoX k (.inl (5, csL k)) := isL_all (P := fun k => sn_At LoX k (.inl (5, csL k))) ⟨by decide, rfl⟩ ⟨by decide, rfl⟩ hk
theorem atL1 {k : Nat} (hk : isL k = true) : sn_At LoX (k + 1) (.inr (6, 6, k + 4 + 3)) := isL_all (P := fun k => sn_At LoX (k + 1) (.inr (6, 6, k + 4 + 3))) ⟨by decide, rfl⟩ ⟨by decide, rfl⟩ hk
theorem atL2 {k : Nat} (hk : isL k = true) : sn_At LoX (k + 2) (.inr (0, 5, 0)) := isL_all (P := fun k => sn_At LoX (k + 2) (.inr (0, 5, 0))) ⟨by decide, rfl⟩ ⟨by decide, rfl⟩ hk
theorem atL3 {k : Nat} (hk : isL k = true) : sn_At LoX (k + 3) (.inr (0, 5, 0)) := isL_all (P := fun k => sn_At LoX (k + 3) (.inr (0, 5, 0))) ⟨by decide, rfl⟩ ⟨by decide, rfl⟩ hk
theorem atX_0 : sn_At LoX 0 (.inl (0, csX0)) := ⟨by decide, rfl⟩
theorem atX_1 : sn_At LoX 1 (.inr (0, 7, 0)) := ⟨by decide, rfl⟩
theorem atX_2 : sn_At LoX 2 (.inl (1, csX1)) := ⟨by decide, rfl⟩
theorem atX_3 : sn_At LoX 3 (.inr (0, 96, 0)) := ⟨by decide, rfl⟩
theorem atX_4 : sn_At LoX 4 (.inr (0, 36, 0)) := ⟨by decide, rfl⟩
theorem atX_5 : sn_At LoX 5 (.inr (0, 4, 0)) := ⟨by decide, rfl⟩
theorem atX_6 : sn_At LoX 6 (.inr (0, 5, 0)) := ⟨by decide, rfl⟩
theorem atX_7 : sn_At LoX 7 (.inr (0, 2, 0)) := ⟨by decide, rfl⟩
theorem atX_8 : sn_At LoX 8 (.inr (0, 24, 0)) := ⟨by decide, rfl⟩
theorem atX_9 : sn_At LoX 9 (.inr (1, 96, 0)) := ⟨by decide, rfl⟩
theorem atX_10 : sn_At LoX 10 (.inr (5, 2, 2)) := ⟨by decide, rfl⟩
theorem atX_11 : sn_At LoX 11 (.inr (2, 400, 0)) := ⟨by decide, rfl⟩
theorem atX_12 : sn_At LoX 12 (.inl (2, csX2)) := ⟨by decide, rfl⟩
theorem atX_13 : sn_At LoX 13 (.inl (3, csX3)) := ⟨by decide, rfl⟩
theorem atX_14 : sn_At LoX 14 (.inr (3, 10, 1)) := ⟨by decide, rfl⟩
theorem atX_15 : sn_At LoX 15 (.inr (0, 5, 0)) := ⟨by decide, rfl⟩
theorem atX_21 : sn_At LoX 21 (.inr (0, 360, 0)) := ⟨by decide, rfl⟩
theorem atX_90 : sn_At LoX 90 (.inl (6, csX6)) := ⟨by decide, rfl⟩
theorem atX_91 : sn_At LoX 91 (.inr (0, 6, 0)) := ⟨by decide, rfl⟩
theorem atX_92 : sn_At LoX 92 (.inl (7, csX7)) := ⟨by decide, rfl⟩
theorem atX_93 : sn_At LoX 93 (.inr (0, 6, 0)) := ⟨by decide, rfl⟩
theorem atX_94 : sn_At LoX 94 (.inl (8, csX8)) := ⟨by decide, rfl⟩
theorem atX_95 : sn_At LoX 95 (.inr (0, 6, 0)) := ⟨by decide, rfl⟩
theorem atX_96 : sn_At LoX 96 (.inr (0, 6, 0)) := ⟨by decide, rfl⟩
theorem atX_97 : sn_At LoX 97 (.inr (0, 36, 0)) := ⟨by decide, rfl⟩
theorem atX_103 : sn_At LoX 103 (.inr (0, 6, 0)) := ⟨by decide, rfl⟩
def isT (S : sn_S) (a : Nat) : Prop := (∃ fs, sn_oO S a 16 fs) ∨ (∃ fs, sn_oO S a 17 fs) ∨ ∃ fs, sn_oO S a 18 fs
theorem isT_R {w : sn_W} {S : sn_S} {a : Nat} (h : isT S a) : ∃ (ci : Nat) (r : vw_C), sn_Rv LoX w S a ci ∧ LoX.2.2.1[ci]? = some r ∧ (∀ (w : sn_W) (A : Nat → Prop) (U : State) (H : Heap), LoX.2.2.2.2 w A U H → va_Nw (.castable r.1 "SnailPost$Test") U) := by
  rcases h with ⟨fs, h⟩ | ⟨fs, h⟩ | ⟨fs, h⟩
  · exact ⟨16, _, sn_Rv_P h, rfl, fun w A U H h => h.2.2.1 ("SnailPost$Compare", "SnailPost$Test") (List.mem_of_getElem? (i := 13) rfl)⟩
  · exact ⟨17, _, sn_Rv_P h, rfl, fun w A U H h => h.2.2.1 ("SnailPost$Not", "SnailPost$Test") (List.mem_of_getElem? (i := 15) rfl)⟩
  · exact ⟨18, _, sn_Rv_P h, rfl, fun w A U H h => h.2.2.1 ("SnailPost$Several", "SnailPost$Test") (List.mem_of_getElem? (i := 18) rfl)⟩
theorem skX_0 {n : Nat} : ∀ (w : sn_W) (A : Nat → Prop) (U : State) (H : Heap), (LoN n).2.2.2.2 w A U H → vk_R "SnailPost$Reader" 64 ";" (w.2.2.2.2.1 0) U := fun w A U H h => h.2.2.2.2.2.2.1 0 (Nat.le_of_ble_eq_true rfl)
theorem skX_1 {n : Nat} : ∀ (w : sn_W) (A : Nat → Prop) (U : State) (H : Heap), (LoN n).2.2.2.2 w A U H → vk_R "SnailPost$Reader" 66 "lures" (w.2.2.2.2.1 1) U := fun w A U H h => h.2.2.2.2.2.2.1 1 (Nat.le_of_ble_eq_true rfl)
theorem skX_2 {n : Nat} : ∀ (w : sn_W) (A : Nat → Prop) (U : State) (H : Heap), (LoN n).2.2.2.2 w A U H → vk_R "SnailPost$Reader" 68 "eats" (w.2.2.2.2.1 2) U := fun w A U H h => h.2.2.2.2.2.2.1 2 (Nat.le_of_ble_eq_true rfl)
theorem skX_3 {n : Nat} : ∀ (w : sn_W) (A : Nat → Prop) (U : State) (H : Heap), (LoN n).2.2.2.2 w A U H → vk_R "SnailPost$Reader" 70 "halts" (w.2.2.2.2.1 3) U := fun w A U H h => h.2.2.2.2.2.2.1 3 (Nat.le_of_ble_eq_true rfl)
theorem skX_4 {n : Nat} : ∀ (w : sn_W) (A : Nat → Prop) (U : State) (H : Heap), (LoN n).2.2.2.2 w A U H → vk_R "SnailPost$Reader" 84 "if" (w.2.2.2.2.1 4) U := fun w A U H h => h.2.2.2.2.2.2.1 4 (Nat.le_of_ble_eq_true rfl)
theorem skX_5 {n : Nat} : ∀ (w : sn_W) (A : Nat → Prop) (U : State) (H : Heap), (LoN n).2.2.2.2 w A U H → vk_R "SnailPost$Reader" 101 "or" (w.2.2.2.2.1 5) U := fun w A U H h => h.2.2.2.2.2.2.1 5 (Nat.le_of_ble_eq_true rfl)
theorem skX_6 {n : Nat} : ∀ (w : sn_W) (A : Nat → Prop) (U : State) (H : Heap), (LoN n).2.2.2.2 w A U H → vk_R "SnailPost$Reader" 114 "and" (w.2.2.2.2.1 6) U := fun w A U H h => h.2.2.2.2.2.2.1 6 (Nat.le_of_ble_eq_true rfl)
theorem skX_7 {n : Nat} : ∀ (w : sn_W) (A : Nat → Prop) (U : State) (H : Heap), (LoN n).2.2.2.2 w A U H → vk_R "SnailPost$Reader" 119 "not" (w.2.2.2.2.1 7) U := fun w A U H h => h.2.2.2.2.2.2.1 7 (Nat.le_of_ble_eq_true rfl)
theorem skX_8 {n : Nat} : ∀ (w : sn_W) (A : Nat → Prop) (U : State) (H : Heap), (LoN n).2.2.2.2 w A U H → vk_R "SnailPost$Reader" 129 "(" (w.2.2.2.2.1 8) U := fun w A U H h => h.2.2.2.2.2.2.1 8 (Nat.le_of_ble_eq_true rfl)
theorem skX_9 {n : Nat} : ∀ (w : sn_W) (A : Nat → Prop) (U : State) (H : Heap), (LoN n).2.2.2.2 w A U H → vk_R "SnailPost$Reader" 134 ")" (w.2.2.2.2.1 9) U := fun w A U H h => h.2.2.2.2.2.2.1 9 (Nat.le_of_ble_eq_true rfl)
theorem skX_10 {n : Nat} : ∀ (w : sn_W) (A : Nat → Prop) (U : State) (H : Heap), (LoN n).2.2.2.2 w A U H → vk_R "SnailPost$Reader" 140 "<" (w.2.2.2.2.1 10) U := fun w A U H h => h.2.2.2.2.2.2.1 10 (Nat.le_of_ble_eq_true rfl)
theorem skX_11 {n : Nat} : ∀ (w : sn_W) (A : Nat → Prop) (U : State) (H : Heap), (LoN n).2.2.2.2 w A U H → vk_R "SnailPost$Reader" 142 ">" (w.2.2.2.2.1 11) U := fun w A U H h => h.2.2.2.2.2.2.1 11 (Nat.le_of_ble_eq_true rfl)
theorem skX_12 {n : Nat} : ∀ (w : sn_W) (A : Nat → Prop) (U : State) (H : Heap), (LoN n).2.2.2.2 w A U H → vk_R "SnailPost$Reader" 144 "=" (w.2.2.2.2.1 12) U := fun w A U H h => h.2.2.2.2.2.2.1 12 (Nat.le_of_ble_eq_true rfl)
theorem skX_13 {n : Nat} : ∀ (w : sn_W) (A : Nat → Prop) (U : State) (H : Heap), (LoN n).2.2.2.2 w A U H → vk_R "SnailPost$Reader" 154 "+" (w.2.2.2.2.1 13) U := fun w A U H h => h.2.2.2.2.2.2.1 13 (Nat.le_of_ble_eq_true rfl)
theorem skX_14 {n : Nat} : ∀ (w : sn_W) (A : Nat → Prop) (U : State) (H : Heap), (LoN n).2.2.2.2 w A U H → vk_R "SnailPost$Reader" 156 "-" (w.2.2.2.2.1 14) U := fun w A U H h => h.2.2.2.2.2.2.1 14 (Nat.le_of_ble_eq_true rfl)
theorem skX_15 {n : Nat} : ∀ (w : sn_W) (A : Nat → Prop) (U : State) (H : Heap), (LoN n).2.2.2.2 w A U H → vk_R "SnailPost$Reader" 164 "*" (w.2.2.2.2.1 15) U := fun w A U H h => h.2.2.2.2.2.2.1 15 (Nat.le_of_ble_eq_true rfl)
theorem skX_16 {n : Nat} : ∀ (w : sn_W) (A : Nat → Prop) (U : State) (H : Heap), (LoN n).2.2.2.2 w A U H → vk_R "SnailPost$Reader" 166 "/" (w.2.2.2.2.1 16) U := fun w A U H h => h.2.2.2.2.2.2.1 16 (Nat.le_of_ble_eq_true rfl)
theorem skX_17 {n : Nat} : ∀ (w : sn_W) (A : Nat → Prop) (U : State) (H : Heap), (LoN n).2.2.2.2 w A U H → vk_R "SnailPost$Reader" 171 "snail" (w.2.2.2.2.1 17) U := fun w A U H h => h.2.2.2.2.2.2.1 17 (Nat.le_of_ble_eq_true rfl)
theorem skX_18 {n : Nat} : ∀ (w : sn_W) (A : Nat → Prop) (U : State) (H : Heap), (LoN n).2.2.2.2 w A U H → vk_R "SnailPost$Reader" 173 "kind" (w.2.2.2.2.1 18) U := fun w A U H h => h.2.2.2.2.2.2.1 18 (Nat.le_of_ble_eq_true rfl)
theorem skX_19 {n : Nat} : ∀ (w : sn_W) (A : Nat → Prop) (U : State) (H : Heap), (LoN n).2.2.2.2 w A U H → vk_R "SnailPost$Reader" 175 "damp" (w.2.2.2.2.1 19) U := fun w A U H h => h.2.2.2.2.2.2.1 19 (Nat.le_of_ble_eq_true rfl)
theorem skX_20 {n : Nat} : ∀ (w : sn_W) (A : Nat → Prop) (U : State) (H : Heap), (LoN n).2.2.2.2 w A U H → vk_R "SnailPost$Reader" 177 "light" (w.2.2.2.2.1 20) U := fun w A U H h => h.2.2.2.2.2.2.1 20 (Nat.le_of_ble_eq_true rfl)
theorem skX_21 {n : Nat} : ∀ (w : sn_W) (A : Nat → Prop) (U : State) (H : Heap), (LoN n).2.2.2.2 w A U H → vk_R "SnailPost$Reader" 179 "trail" (w.2.2.2.2.1 21) U := fun w A U H h => h.2.2.2.2.2.2.1 21 (Nat.le_of_ble_eq_true rfl)
theorem skX_22 {n : Nat} : ∀ (w : sn_W) (A : Nat → Prop) (U : State) (H : Heap), (LoN n).2.2.2.2 w A U H → vk_R "SnailPost$Reader" 181 "own" (w.2.2.2.2.1 22) U := fun w A U H h => h.2.2.2.2.2.2.1 22 (Nat.le_of_ble_eq_true rfl)
theorem skX_23 {n : Nat} : ∀ (w : sn_W) (A : Nat → Prop) (U : State) (H : Heap), (LoN n).2.2.2.2 w A U H → vk_R "SnailPost$Reader" 183 "here" (w.2.2.2.2.1 23) U := fun w A U H h => h.2.2.2.2.2.2.1 23 (Nat.le_of_ble_eq_true rfl)
theorem skX_24 {n : Nat} : ∀ (w : sn_W) (A : Nat → Prop) (U : State) (H : Heap), (LoN n).2.2.2.2 w A U H → vk_R "SnailPost$Reader" 185 "hour" (w.2.2.2.2.1 24) U := fun w A U H h => h.2.2.2.2.2.2.1 24 (Nat.le_of_ble_eq_true rfl)
theorem skX_25 {n : Nat} : ∀ (w : sn_W) (A : Nat → Prop) (U : State) (H : Heap), (LoN n).2.2.2.2 w A U H → vk_R "SnailPost$Reader" 187 "x" (w.2.2.2.2.1 25) U := fun w A U H h => h.2.2.2.2.2.2.1 25 (Nat.le_of_ble_eq_true rfl)
theorem skX_26 {n : Nat} : ∀ (w : sn_W) (A : Nat → Prop) (U : State) (H : Heap), (LoN n).2.2.2.2 w A U H → vk_R "SnailPost$Reader" 189 "y" (w.2.2.2.2.1 26) U := fun w A U H h => h.2.2.2.2.2.2.1 26 (Nat.le_of_ble_eq_true rfl)
theorem skX_27 {n : Nat} : ∀ (w : sn_W) (A : Nat → Prop) (U : State) (H : Heap), (LoN n).2.2.2.2 w A U H → vk_R "SnailPost$Reader" 191 "[" (w.2.2.2.2.1 27) U := fun w A U H h => h.2.2.2.2.2.2.1 27 (Nat.le_of_ble_eq_true rfl)
theorem skX_28 {n : Nat} : ∀ (w : sn_W) (A : Nat → Prop) (U : State) (H : Heap), (LoN n).2.2.2.2 w A U H → vk_R "SnailPost$Reader" 193 "]" (w.2.2.2.2.1 28) U := fun w A U H h => h.2.2.2.2.2.2.1 28 (Nat.le_of_ble_eq_true rfl)
theorem toX {n i : Nat} (hi : i < 29) : ∀ (w : sn_W) (A : Nat → Prop) (U : State) (H : Heap), (LoN n).2.2.2.2 w A U H → va_O "java/lang/String" (w.2.2.2.2.1 i) A U H := fun w A U H h => (h.2.2.2.2.2.2.2.1 i hi).1
theorem tcX {n i : Nat} (hi : i < 29) : ∀ (w : sn_W) (A : Nat → Prop) (U : State) (H : Heap), (LoN n).2.2.2.2 w A U H → va_OF "java/lang/String" "coder" "B" (.int 0) (w.2.2.2.2.1 i) A U H := fun w A U H h => (h.2.2.2.2.2.2.2.1 i hi).2.1
theorem tvX {n i : Nat} (hi : i < 29) : ∀ (w : sn_W) (A : Nat → Prop) (U : State) (H : Heap), (LoN n).2.2.2.2 w A U H → va_OF "java/lang/String" "value" "[B" (.ref (w.2.2.2.2.2.1 i)) (w.2.2.2.2.1 i) A U H := fun w A U H h => (h.2.2.2.2.2.2.2.1 i hi).2.2.1
theorem tbX {n i : Nat} (hi : i < 29) : ∀ (w : sn_W) (A : Nat → Prop) (U : State) (H : Heap), (LoN n).2.2.2.2 w A U H → va_T .byte (w.2.2.2.2.2.1 i) (skL.getD i 0) (fun j => .int ((skB.getD i []).getD j 0)) A U H := fun w A U H h => (h.2.2.2.2.2.2.2.1 i hi).2.2.2
theorem miX {n : Nat} : ∀ (w : sn_W) (A : Nat → Prop) (U : State) (H : Heap), (LoN n).2.2.2.2 w A U H → va_Mi "[Ljava/lang/Object;" w.2.2.2.2.2.2 U := fun w A U H h => h.2.2.2.2.2.1
theorem csX {n : Nat} : ∀ (w : sn_W) (A : Nat → Prop) (U : State) (H : Heap), (LoN n).2.2.2.2 w A U H → va_Z "java/lang/String" "COMPACT_STRINGS" "Z" (.int 1) A U H := fun w A U H h => h.2.2.2.2.2.2.2.2.1
theorem zqX_1 {n : Nat} : ∀ (w : sn_W) (A : Nat → Prop) (U : State) (H : Heap), (LoN n).2.2.2.2 w A U H → va_Zq "jdk/internal/util/Preconditions" "SIOOBE_FORMATTER" "Ljava/util/function/BiFunction;" A U H := fun w A U H h => h.2.2.2.2.2.2.2.2.2.1
theorem zqX_2 {n : Nat} : ∀ (w : sn_W) (A : Nat → Prop) (U : State) (H : Heap), (LoN n).2.2.2.2 w A U H → va_Zq "java/lang/Throwable" "UNASSIGNED_STACK" "[Ljava/lang/StackTraceElement;" A U H := fun w A U H h => h.2.2.2.2.2.2.2.2.2.2.1
theorem zqX_3 {n : Nat} : ∀ (w : sn_W) (A : Nat → Prop) (U : State) (H : Heap), (LoN n).2.2.2.2 w A U H → va_Zq "java/lang/Throwable" "SUPPRESSED_SENTINEL" "Ljava/util/List;" A U H := fun w A U H h => h.2.2.2.2.2.2.2.2.2.2.2.1
theorem aoX_4 {n : Nat} : ∀ (w : sn_W) (A : Nat → Prop) (U : State) (H : Heap), (LoN n).2.2.2.2 w A U H → va_AO "java/lang/Object" U := fun w A U H h => h.2.2.2.2.1.1
theorem aoX_5 {n : Nat} : ∀ (w : sn_W) (A : Nat → Prop) (U : State) (H : Heap), (LoN n).2.2.2.2 w A U H → va_AO "SnailPost$State" U := fun w A U H h => h.2.2.2.2.1.2.1
theorem aoX_6 {n : Nat} : ∀ (w : sn_W) (A : Nat → Prop) (U : State) (H : Heap), (LoN n).2.2.2.2 w A U H → va_AO "SnailPost$Walk" U := fun w A U H h => h.2.2.2.2.1.2.2
theorem dgX {n : Nat} : ∀ (w : sn_W) (A : Nat → Prop) (U : State) (H : Heap), (LoN n).2.2.2.2 w A U H → va_Nw (.declares ⟨"java/lang/Object", "getClass", "()Ljava/lang/Class;"⟩) U := fun w A U H h => h.2.2.2.1 ⟨"java/lang/Object", "getClass", "()Ljava/lang/Class;"⟩ (List.mem_of_getElem? (i := 0) rfl)
theorem anyX {n : Nat} : sn_Any (LoN n) "java/lang/Object" := by
  intro w A U H h ci r hr
  have hlt : ci < 21 := (List.getElem?_eq_some_iff.mp hr).1
  match ci, hlt, hr with
  | 0, _, hr => cases hr; exact h.2.2.1 ("SnailPost", "java/lang/Object") (List.mem_of_getElem? (i := 4) rfl)
  | 1, _, hr => cases hr; exact h.2.2.1 ("SnailPost$State", "java/lang/Object") (List.mem_of_getElem? (i := 5) rfl)
  | 2, _, hr => cases hr; exact h.2.2.1 ("SnailPost$Setting", "java/lang/Object") (List.mem_of_getElem? (i := 17) rfl)
  | 3, _, hr => cases hr; exact h.2.2.1 ("SnailPost$Broken", "java/lang/Object") (List.mem_of_getElem? (i := 22) rfl)
  | 4, _, hr => cases hr; exact h.2.2.1 ("SnailPost$Walk", "java/lang/Object") (List.mem_of_getElem? (i := 23) rfl)
  | 5, _, hr => cases hr; exact h.2.2.1 ("SnailPost$Lantern", "java/lang/Object") (List.mem_of_getElem? (i := 24) rfl)
  | 6, _, hr => cases hr; exact h.2.2.1 ("SnailPost$Span", "java/lang/Object") (List.mem_of_getElem? (i := 25) rfl)
  | 7, _, hr => cases hr; exact h.2.2.1 ("SnailPost$Shells", "java/lang/Object") (List.mem_of_getElem? (i := 26) rfl)
  | 8, _, hr => cases hr; exact h.2.2.1 ("SnailPost$Orders", "java/lang/Object") (List.mem_of_getElem? (i := 27) rfl)
  | 9, _, hr => cases hr; exact h.2.2.1 ("java/util/ArrayList", "java/lang/Object") (List.mem_of_getElem? (i := 1) rfl)
  | 10, _, hr => cases hr; exact h.2.2.1 ("SnailPost$Reader", "java/lang/Object") (List.mem_of_getElem? (i := 6) rfl)
  | 11, _, hr => cases hr; exact h.2.2.1 ("SnailPost$Fault", "java/lang/Object") (List.mem_of_getElem? (i := 8) rfl)
  | 12, _, hr => cases hr; exact h.2.2.1 ("SnailPost$Clause", "java/lang/Object") (List.mem_of_getElem? (i := 9) rfl)
  | 13, _, hr => cases hr; exact h.2.2.1 ("SnailPost$Number", "java/lang/Object") (List.mem_of_getElem? (i := 10) rfl)
  | 14, _, hr => cases hr; exact h.2.2.1 ("SnailPost$Value", "java/lang/Object") (List.mem_of_getElem? (i := 11) rfl)
  | 15, _, hr => cases hr; exact h.2.2.1 ("SnailPost$Two", "java/lang/Object") (List.mem_of_getElem? (i := 12) rfl)
  | 16, _, hr => cases hr; exact h.2.2.1 ("SnailPost$Compare", "java/lang/Object") (List.mem_of_getElem? (i := 14) rfl)
  | 17, _, hr => cases hr; exact h.2.2.1 ("SnailPost$Not", "java/lang/Object") (List.mem_of_getElem? (i := 16) rfl)
  | 18, _, hr => cases hr; exact h.2.2.1 ("SnailPost$Several", "java/lang/Object") (List.mem_of_getElem? (i := 19) rfl)
  | 19, _, hr => cases hr; exact h.2.2.1 ("SnailPost$Law", "java/lang/Object") (List.mem_of_getElem? (i := 20) rfl)
  | 20, _, hr => cases hr; exact h.2.2.1 ("SnailPostModel", "java/lang/Object") (List.mem_of_getElem? (i := 28) rfl)
theorem nfX_0 : ∀ j, j < 28 → defaultValue (tyX0 j) = vp_V [.int 0, .null, .null, .null, .null, .int 0, .int 0, .int 0, .int 0, .null, .null, .null, .null, .int 0, .null, .null, .int 0, .int 0, .int 0, .int 0, .int 0, .null, .null, .null, .null, .null, .int 0, .int 0] j := fun j h => by
  match j, h with
  | 0, _ => rfl
  | 1, _ => rfl
  | 2, _ => rfl
  | 3, _ => rfl
  | 4, _ => rfl
  | 5, _ => rfl
  | 6, _ => rfl
  | 7, _ => rfl
  | 8, _ => rfl
  | 9, _ => rfl
  | 10, _ => rfl
  | 11, _ => rfl
  | 12, _ => rfl
  | 13, _ => rfl
  | 14, _ => rfl
  | 15, _ => rfl
  | 16, _ => rfl
  | 17, _ => rfl
  | 18, _ => rfl
  | 19, _ => rfl
  | 20, _ => rfl
  | 21, _ => rfl
  | 22, _ => rfl
  | 23, _ => rfl
  | 24, _ => rfl
  | 25, _ => rfl
  | 26, _ => rfl
  | 27, _ => rfl
  | j + 28, h => exact absurd h (by omega)
theorem nfX_1 : ∀ j, j < 12 → defaultValue (tyX1 j) = vp_V [.null, .null, .null, .null, .null, .null, .null, .null, .int 0, .int 0, .int 0, .int 0] j := fun j h => by
  match j, h with
  | 0, _ => rfl
  | 1, _ => rfl
  | 2, _ => rfl
  | 3, _ => rfl
  | 4, _ => rfl
  | 5, _ => rfl
  | 6, _ => rfl
  | 7, _ => rfl
  | 8, _ => rfl
  | 9, _ => rfl
  | 10, _ => rfl
  | 11, _ => rfl
  | j + 12, h => exact absurd h (by omega)
theorem nfX_2 : ∀ j, j < 2 → defaultValue (tyX2 j) = vp_V [.null, .null] j := fun j h => by
  match j, h with
  | 0, _ => rfl
  | 1, _ => rfl
  | j + 2, h => exact absurd h (by omega)
theorem nfX_3 : ∀ j, j < 6 → defaultValue (tyX3 j) = vp_V [.null, .null, .null, .null, .null, .int 0] j := fun j h => by
  match j, h with
  | 0, _ => rfl
  | 1, _ => rfl
  | 2, _ => rfl
  | 3, _ => rfl
  | 4, _ => rfl
  | 5, _ => rfl
  | j + 6, h => exact absurd h (by omega)
theorem nfX_4 : ∀ j, j < 6 → defaultValue (tyX4 j) = vp_V [.null, .null, .null, .null, .int 0, .null] j := fun j h => by
  match j, h with
  | 0, _ => rfl
  | 1, _ => rfl
  | 2, _ => rfl
  | 3, _ => rfl
  | 4, _ => rfl
  | 5, _ => rfl
  | j + 6, h => exact absurd h (by omega)
theorem nfX_5 : ∀ j, j < 12 → defaultValue (tyX5 j) = vp_V [.null, .null, .null, .int 0, .int 0, .int 0, .int 0, .int 0, .int 0, .int 0, .int 0, .null] j := fun j h => by
  match j, h with
  | 0, _ => rfl
  | 1, _ => rfl
  | 2, _ => rfl
  | 3, _ => rfl
  | 4, _ => rfl
  | 5, _ => rfl
  | 6, _ => rfl
  | 7, _ => rfl
  | 8, _ => rfl
  | 9, _ => rfl
  | 10, _ => rfl
  | 11, _ => rfl
  | j + 12, h => exact absurd h (by omega)
theorem nfX_6 : ∀ j, j < 1 → defaultValue (tyX6 j) = vp_V [.null] j := fun j h => by
  match j, h with
  | 0, _ => rfl
  | j + 1, h => exact absurd h (by omega)
theorem nfX_7 : ∀ j, j < 6 → defaultValue (tyX7 j) = vp_V [.null, .int 0, .int 0, .int 0, .int 0, .null] j := fun j h => by
  match j, h with
  | 0, _ => rfl
  | 1, _ => rfl
  | 2, _ => rfl
  | 3, _ => rfl
  | 4, _ => rfl
  | 5, _ => rfl
  | j + 6, h => exact absurd h (by omega)
theorem nfX_8 : ∀ j, j < 8 → defaultValue (tyX8 j) = vp_V [.null, .null, .null, .int 0, .int 0, .int 0, .int 0, .null] j := fun j h => by
  match j, h with
  | 0, _ => rfl
  | 1, _ => rfl
  | 2, _ => rfl
  | 3, _ => rfl
  | 4, _ => rfl
  | 5, _ => rfl
  | 6, _ => rfl
  | 7, _ => rfl
  | j + 8, h => exact absurd h (by omega)
theorem nfX_9 : ∀ j, j < 3 → defaultValue (tyJ2 j) = vp_V [.int 0, .null, .int 0] j := fun j h => by
  match j, h with
  | 0, _ => rfl
  | 1, _ => rfl
  | 2, _ => rfl
  | j + 3, h => exact absurd h (by omega)
theorem nfX_10 : ∀ j, j < 7 → defaultValue (tyX10 j) = vp_V [.null, .int 0, .null, .int 0, .int 0, .int 0, .int 0] j := fun j h => by
  match j, h with
  | 0, _ => rfl
  | 1, _ => rfl
  | 2, _ => rfl
  | 3, _ => rfl
  | 4, _ => rfl
  | 5, _ => rfl
  | 6, _ => rfl
  | j + 7, h => exact absurd h (by omega)
theorem nfX_11 : ∀ j, j < 7 → defaultValue (tyX11 j) = vp_V [.null, .null, .null, .null, .null, .int 0, .int 0] j := fun j h => by
  match j, h with
  | 0, _ => rfl
  | 1, _ => rfl
  | 2, _ => rfl
  | 3, _ => rfl
  | 4, _ => rfl
  | 5, _ => rfl
  | 6, _ => rfl
  | j + 7, h => exact absurd h (by omega)
theorem nfX_12 : ∀ j, j < 3 → defaultValue (tyX12 j) = vp_V [.int 0, .null, .null] j := fun j h => by
  match j, h with
  | 0, _ => rfl
  | 1, _ => rfl
  | 2, _ => rfl
  | j + 3, h => exact absurd h (by omega)
theorem nfX_13 : ∀ j, j < 1 → defaultValue (tyX14 j) = vp_V [.int 0] j := fun j h => by
  match j, h with
  | 0, _ => rfl
  | j + 1, h => exact absurd h (by omega)
theorem nfX_14 : ∀ j, j < 1 → defaultValue (tyX15 j) = vp_V [.int 0] j := fun j h => by
  match j, h with
  | 0, _ => rfl
  | j + 1, h => exact absurd h (by omega)
theorem nfX_15 : ∀ j, j < 3 → defaultValue (tyX16 j) = vp_V [.int 0, .null, .null] j := fun j h => by
  match j, h with
  | 0, _ => rfl
  | 1, _ => rfl
  | 2, _ => rfl
  | j + 3, h => exact absurd h (by omega)
theorem nfX_16 : ∀ j, j < 3 → defaultValue (tyX18 j) = vp_V [.int 0, .null, .null] j := fun j h => by
  match j, h with
  | 0, _ => rfl
  | 1, _ => rfl
  | 2, _ => rfl
  | j + 3, h => exact absurd h (by omega)
theorem nfX_17 : ∀ j, j < 1 → defaultValue (tyX19 j) = vp_V [.null] j := fun j h => by
  match j, h with
  | 0, _ => rfl
  | j + 1, h => exact absurd h (by omega)
theorem nfX_18 : ∀ j, j < 2 → defaultValue (tyX20 j) = vp_V [.int 0, .null] j := fun j h => by
  match j, h with
  | 0, _ => rfl
  | 1, _ => rfl
  | j + 2, h => exact absurd h (by omega)
theorem nfX_19 : ∀ j, j < 1 → defaultValue (tyX21 j) = vp_V [.null] j := fun j h => by
  match j, h with
  | 0, _ => rfl
  | j + 1, h => exact absurd h (by omega)
theorem nfX_20 : ∀ j, j < 60 → defaultValue (tyX9 j) = vp_V [.int 0, .int 0, .null, .null, .null, .null, .int 0, .null, .int 0, .int 0, .int 0, .int 0, .long 0, .int 0, .int 0, .int 0, .null, .int 0, .null, .null, .int 0, .null, .null, .int 0, .int 0, .null, .null, .int 0, .null, .null, .int 0, .long 0, .long 0, .null, .null, .null, .null, .null, .null, .null, .null, .null, .null, .null, .int 0, .int 0, .int 0, .null, .null, .null, .null, .null, .null, .null, .null, .long 0, .null, .null, .null, .int 0] j := fun j h => by
  match j, h with
  | 0, _ => rfl
  | 1, _ => rfl
  | 2, _ => rfl
  | 3, _ => rfl
  | 4, _ => rfl
  | 5, _ => rfl
  | 6, _ => rfl
  | 7, _ => rfl
  | 8, _ => rfl
  | 9, _ => rfl
  | 10, _ => rfl
  | 11, _ => rfl
  | 12, _ => rfl
  | 13, _ => rfl
  | 14, _ => rfl
  | 15, _ => rfl
  | 16, _ => rfl
  | 17, _ => rfl
  | 18, _ => rfl
  | 19, _ => rfl
  | 20, _ => rfl
  | 21, _ => rfl
  | 22, _ => rfl
  | 23, _ => rfl
  | 24, _ => rfl
  | 25, _ => rfl
  | 26, _ => rfl
  | 27, _ => rfl
  | 28, _ => rfl
  | 29, _ => rfl
  | 30, _ => rfl
  | 31, _ => rfl
  | 32, _ => rfl
  | 33, _ => rfl
  | 34, _ => rfl
  | 35, _ => rfl
  | 36, _ => rfl
  | 37, _ => rfl
  | 38, _ => rfl
  | 39, _ => rfl
  | 40, _ => rfl
  | 41, _ => rfl
  | 42, _ => rfl
  | 43, _ => rfl
  | 44, _ => rfl
  | 45, _ => rfl
  | 46, _ => rfl
  | 47, _ => rfl
  | 48, _ => rfl
  | 49, _ => rfl
  | 50, _ => rfl
  | 51, _ => rfl
  | 52, _ => rfl
  | 53, _ => rfl
  | 54, _ => rfl
  | 55, _ => rfl
  | 56, _ => rfl
  | 57, _ => rfl
  | 58, _ => rfl
  | 59, _ => rfl
  | j + 60, h => exact absurd h (by omega)
theorem nwc_7 {n : Nat} : ∀ (w : sn_W) (A : Nat → Prop) (U : State) (H : Heap), (LoN n).2.2.2.2 w A U H → va_Nw (.castable "SnailPost$Fault" "SnailPost$Fault") U := fun w A U H h => h.2.2.1 ("SnailPost$Fault", "SnailPost$Fault") (List.mem_of_getElem? (i := 7) rfl)
theorem nwc_21 {n : Nat} : ∀ (w : sn_W) (A : Nat → Prop) (U : State) (H : Heap), (LoN n).2.2.2.2 w A U H → va_Nw (.castable "SnailPost$Broken" "SnailPost$Broken") U := fun w A U H h => h.2.2.1 ("SnailPost$Broken", "SnailPost$Broken") (List.mem_of_getElem? (i := 21) rfl)
/-- java/util/ArrayList.modCount -/
theorem fJ1_7 {n : Nat} : sn_Fc (LoN n) RJ1 7 9 csJ2 0 (0) false (tyJ2 0) := ⟨RJ2, TJ2, 3, tyJ2, in_J2, tyJ2_ok, nmJ2, rfl, by decide, rfl, q172, rfl, tyJ2_ok 0 (by decide)⟩
/-- java/util/ArrayList.elementData -/
theorem fJ2_9 {n : Nat} : sn_Fc (LoN n) RJ2 9 9 csJ2 1 (2) false (tyJ2 1) := ⟨RJ2, TJ2, 3, tyJ2, in_J2, tyJ2_ok, nmJ2, rfl, by decide, rfl, q170, rfl, tyJ2_ok 1 (by decide)⟩
/-- java/util/ArrayList.size -/
theorem fJ2_48 {n : Nat} : sn_Fc (LoN n) RJ2 48 9 csJ2 2 (0) false (tyJ2 2) := ⟨RJ2, TJ2, 3, tyJ2, in_J2, tyJ2_ok, nmJ2, rfl, by decide, rfl, q171, rfl, tyJ2_ok 2 (by decide)⟩
theorem fJ2_63 {n : Nat} : sn_FcS (LoN n) RJ2 63 9 0 false (tyJ2 0) := ⟨RJ2, "java/util/ArrayList", TJ2, 3, tyJ2, in_J2, tyJ2_ok, nmJ2, rfl, by decide, q173, q174, rfl, tyJ2_ok 0 (by decide)⟩
/-- SnailPost$Fault.cause -/
theorem fJ3_7_11 {n : Nat} : sn_Fc (LoN n) RJ3 7 11 csX11 0 (2) false (tyX11 0) := ⟨RX11, TX11, 7, tyX11, in_X11, tyX11_ok, nmX11, rfl, by decide, rfl, q301, rfl, tyX11_ok 0 (by decide)⟩
/-- SnailPost$Broken.cause -/
theorem fJ3_7_3 {n : Nat} : sn_Fc (LoN n) RJ3 7 3 csX3 0 (2) false (tyX3 0) := ⟨RX3, TX3, 6, tyX3, in_X3, tyX3_ok, nmX3, rfl, by decide, rfl, q301, rfl, tyX3_ok 0 (by decide)⟩
/-- SnailPost$Fault.stackTrace -/
theorem fJ3_17_11 {n : Nat} : sn_Fc (LoN n) RJ3 17 11 csX11 1 (2) false (tyX11 1) := ⟨RX11, TX11, 7, tyX11, in_X11, tyX11_ok, nmX11, rfl, by decide, rfl, q302, rfl, tyX11_ok 1 (by decide)⟩
/-- SnailPost$Broken.stackTrace -/
theorem fJ3_17_3 {n : Nat} : sn_Fc (LoN n) RJ3 17 3 csX3 1 (2) false (tyX3 1) := ⟨RX3, TX3, 6, tyX3, in_X3, tyX3_ok, nmX3, rfl, by decide, rfl, q302, rfl, tyX3_ok 1 (by decide)⟩
/-- SnailPost$Fault.suppressedExceptions -/
theorem fJ3_24_11 {n : Nat} : sn_Fc (LoN n) RJ3 24 11 csX11 2 (2) false (tyX11 2) := ⟨RX11, TX11, 7, tyX11, in_X11, tyX11_ok, nmX11, rfl, by decide, rfl, q303, rfl, tyX11_ok 2 (by decide)⟩
/-- SnailPost$Broken.suppressedExceptions -/
theorem fJ3_24_3 {n : Nat} : sn_Fc (LoN n) RJ3 24 3 csX3 2 (2) false (tyX3 2) := ⟨RX3, TX3, 6, tyX3, in_X3, tyX3_ok, nmX3, rfl, by decide, rfl, q303, rfl, tyX3_ok 2 (by decide)⟩
/-- SnailPost$Fault.detailMessage -/
theorem fJ3_31_11 {n : Nat} : sn_Fc (LoN n) RJ3 31 11 csX11 3 (2) false (tyX11 3) := ⟨RX11, TX11, 7, tyX11, in_X11, tyX11_ok, nmX11, rfl, by decide, rfl, q300, rfl, tyX11_ok 3 (by decide)⟩
/-- SnailPost$Broken.detailMessage -/
theorem fJ3_31_3 {n : Nat} : sn_Fc (LoN n) RJ3 31 3 csX3 3 (2) false (tyX3 3) := ⟨RX3, TX3, 6, tyX3, in_X3, tyX3_ok, nmX3, rfl, by decide, rfl, q300, rfl, tyX3_ok 3 (by decide)⟩
/-- SnailPost.refused -/
theorem fX0_7 {n : Nat} : sn_Fc (LoN n) RX0 7 0 csX0 1 (4) true (tyX0 1) := ⟨RX0, TX0, 28, tyX0, in_X0, tyX0_ok, nmX0, rfl, by decide, rfl, q482, rfl, tyX0_ok 1 (by decide)⟩
/-- SnailPost.state -/
theorem fX0_16 {n : Nat} : sn_Fc (LoN n) RX0 16 0 csX0 2 (5) true (tyX0 2) := ⟨RX0, TX0, 28, tyX0, in_X0, tyX0_ok, nmX0, rfl, by decide, rfl, q483, rfl, tyX0_ok 2 (by decide)⟩
/-- SnailPost.images -/
theorem fX0_20 {n : Nat} : sn_Fc (LoN n) RX0 20 0 csX0 3 (13) true (tyX0 3) := ⟨RX0, TX0, 28, tyX0, in_X0, tyX0_ok, nmX0, rfl, by decide, rfl, q487, rfl, tyX0_ok 3 (by decide)⟩
/-- SnailPost.tape -/
theorem fX0_24 {n : Nat} : sn_Fc (LoN n) RX0 24 0 csX0 4 (14) true (tyX0 4) := ⟨RX0, TX0, 28, tyX0, in_X0, tyX0_ok, nmX0, rfl, by decide, rfl, q488, rfl, tyX0_ok 4 (by decide)⟩
/-- SnailPost.fault -/
theorem fX0_28 {n : Nat} : sn_Fc (LoN n) RX0 28 0 csX0 6 (0) false (tyX0 6) := ⟨RX0, TX0, 28, tyX0, in_X0, tyX0_ok, nmX0, rfl, by decide, rfl, q490, rfl, tyX0_ok 6 (by decide)⟩
/-- SnailPost.setting -/
theorem fX0_35 {n : Nat} : sn_Fc (LoN n) RX0 35 0 csX0 9 (15) true (tyX0 9) := ⟨RX0, TX0, 28, tyX0, in_X0, tyX0_ok, nmX0, rfl, by decide, rfl, q495, rfl, tyX0_ok 9 (by decide)⟩
/-- SnailPost.around -/
theorem fX0_39 {n : Nat} : sn_Fc (LoN n) RX0 39 0 csX0 10 (18) true (tyX0 10) := ⟨RX0, TX0, 28, tyX0, in_X0, tyX0_ok, nmX0, rfl, by decide, rfl, q497, rfl, tyX0_ok 10 (by decide)⟩
/-- SnailPost.today -/
theorem fX0_47 {n : Nat} : sn_Fc (LoN n) RX0 47 0 csX0 11 (19) true (tyX0 11) := ⟨RX0, TX0, 28, tyX0, in_X0, tyX0_ok, nmX0, rfl, by decide, rfl, q499, rfl, tyX0_ok 11 (by decide)⟩
/-- SnailPost.log -/
theorem fX0_51 {n : Nat} : sn_Fc (LoN n) RX0 51 0 csX0 12 (24) true (tyX0 12) := ⟨RX0, TX0, 28, tyX0, in_X0, tyX0_ok, nmX0, rfl, by decide, rfl, q500, rfl, tyX0_ok 12 (by decide)⟩
/-- SnailPost.dayMade -/
theorem fX0_54 {n : Nat} : sn_Fc (LoN n) RX0 54 0 csX0 13 (0) false (tyX0 13) := ⟨RX0, TX0, 28, tyX0, in_X0, tyX0_ok, nmX0, rfl, by decide, rfl, q501, rfl, tyX0_ok 13 (by decide)⟩
/-- SnailPost.lantern -/
theorem fX0_60 {n : Nat} : sn_Fc (LoN n) RX0 60 0 csX0 14 (25) true (tyX0 14) := ⟨RX0, TX0, 28, tyX0, in_X0, tyX0_ok, nmX0, rfl, by decide, rfl, q502, rfl, tyX0_ok 14 (by decide)⟩
/-- SnailPost.dueling -/
theorem fX0_64 {n : Nat} : sn_Fc (LoN n) RX0 64 0 csX0 15 (59) true (tyX0 15) := ⟨RX0, TX0, 28, tyX0, in_X0, tyX0_ok, nmX0, rfl, by decide, rfl, q503, rfl, tyX0_ok 15 (by decide)⟩
/-- SnailPost.duelMade -/
theorem fX0_67 {n : Nat} : sn_Fc (LoN n) RX0 67 0 csX0 16 (0) false (tyX0 16) := ⟨RX0, TX0, 28, tyX0, in_X0, tyX0_ok, nmX0, rfl, by decide, rfl, q504, rfl, tyX0_ok 16 (by decide)⟩
/-- SnailPost.span -/
theorem fX0_73 {n : Nat} : sn_Fc (LoN n) RX0 73 0 csX0 21 (93) true (tyX0 21) := ⟨RX0, TX0, 28, tyX0, in_X0, tyX0_ok, nmX0, rfl, by decide, rfl, q509, rfl, tyX0_ok 21 (by decide)⟩
/-- SnailPost.shells -/
theorem fX0_80 {n : Nat} : sn_Fc (LoN n) RX0 80 0 csX0 22 (95) true (tyX0 22) := ⟨RX0, TX0, 28, tyX0, in_X0, tyX0_ok, nmX0, rfl, by decide, rfl, q511, rfl, tyX0_ok 22 (by decide)⟩
/-- SnailPost.orders -/
theorem fX0_87 {n : Nat} : sn_Fc (LoN n) RX0 87 0 csX0 23 (97) true (tyX0 23) := ⟨RX0, TX0, 28, tyX0, in_X0, tyX0_ok, nmX0, rfl, by decide, rfl, q512, rfl, tyX0_ok 23 (by decide)⟩
/-- SnailPost.hunted -/
theorem fX0_91 {n : Nat} : sn_Fc (LoN n) RX0 91 0 csX0 24 (101) true (tyX0 24) := ⟨RX0, TX0, 28, tyX0, in_X0, tyX0_ok, nmX0, rfl, by decide, rfl, q513, rfl, tyX0_ok 24 (by decide)⟩
/-- SnailPost.eatenIn -/
theorem fX0_94 {n : Nat} : sn_Fc (LoN n) RX0 94 0 csX0 25 (106) true (tyX0 25) := ⟨RX0, TX0, 28, tyX0, in_X0, tyX0_ok, nmX0, rfl, by decide, rfl, q514, rfl, tyX0_ok 25 (by decide)⟩
/-- SnailPost.status -/
theorem fX0_97 {n : Nat} : sn_Fc (LoN n) RX0 97 0 csX0 0 (0) false (tyX0 0) := ⟨RX0, TX0, 28, tyX0, in_X0, tyX0_ok, nmX0, rfl, by decide, rfl, q481, rfl, tyX0_ok 0 (by decide)⟩
/-- SnailPost.version -/
theorem fX0_106 {n : Nat} : sn_Fc (LoN n) RX0 106 0 csX0 8 (0) false (tyX0 8) := ⟨RX0, TX0, 28, tyX0, in_X0, tyX0_ok, nmX0, rfl, by decide, rfl, q494, rfl, tyX0_ok 8 (by decide)⟩
/-- SnailPost$State.many -/
theorem fX0_116 {n : Nat} : sn_FcN (LoN n) RX0 116 1 csX1 8 (0) false (tyX1 8) := ⟨RX1, "SnailPost", TX1, 12, tyX1, in_X1, tyX1_ok, nmX1, rfl, by decide, rfl, fun w A U H h => h.1 ("SnailPost", 116, "SnailPost$State", "many", "I", "SnailPost") (List.mem_of_getElem? (i := 8) rfl), rfl, tyX1_ok 8 (by decide)⟩
/-- SnailPost$State.facts -/
theorem fX0_119 {n : Nat} : sn_FcN (LoN n) RX0 119 1 csX1 1 (7) true (tyX1 1) := ⟨RX1, "SnailPost", TX1, 12, tyX1, in_X1, tyX1_ok, nmX1, rfl, by decide, rfl, fun w A U H h => h.1 ("SnailPost", 119, "SnailPost$State", "facts", "[I", "SnailPost") (List.mem_of_getElem? (i := 1) rfl), rfl, tyX1_ok 1 (by decide)⟩
/-- SnailPost$State.damp -/
theorem fX0_136 {n : Nat} : sn_FcN (LoN n) RX0 136 1 csX1 0 (6) true (tyX1 0) := ⟨RX1, "SnailPost", TX1, 12, tyX1, in_X1, tyX1_ok, nmX1, rfl, by decide, rfl, fun w A U H h => h.1 ("SnailPost", 136, "SnailPost$State", "damp", "[I", "SnailPost") (List.mem_of_getElem? (i := 0) rfl), rfl, tyX1_ok 0 (by decide)⟩
/-- SnailPost$State.salt -/
theorem fX0_150 {n : Nat} : sn_FcN (LoN n) RX0 150 1 csX1 6 (12) true (tyX1 6) := ⟨RX1, "SnailPost", TX1, 12, tyX1, in_X1, tyX1_ok, nmX1, rfl, by decide, rfl, fun w A U H h => h.1 ("SnailPost", 150, "SnailPost$State", "salt", "[Z", "SnailPost") (List.mem_of_getElem? (i := 6) rfl), rfl, tyX1_ok 6 (by decide)⟩
/-- SnailPost$State.spotMany -/
theorem fX0_161 {n : Nat} : sn_FcN (LoN n) RX0 161 1 csX1 9 (0) false (tyX1 9) := ⟨RX1, "SnailPost", TX1, 12, tyX1, in_X1, tyX1_ok, nmX1, rfl, by decide, rfl, fun w A U H h => h.1 ("SnailPost", 161, "SnailPost$State", "spotMany", "I", "SnailPost") (List.mem_of_getElem? (i := 9) rfl), rfl, tyX1_ok 9 (by decide)⟩
/-- SnailPost$State.spots -/
theorem fX0_164 {n : Nat} : sn_FcN (LoN n) RX0 164 1 csX1 2 (8) true (tyX1 2) := ⟨RX1, "SnailPost", TX1, 12, tyX1, in_X1, tyX1_ok, nmX1, rfl, by decide, rfl, fun w A U H h => h.1 ("SnailPost", 164, "SnailPost$State", "spots", "[I", "SnailPost") (List.mem_of_getElem? (i := 2) rfl), rfl, tyX1_ok 2 (by decide)⟩
/-- SnailPost$State.plan -/
theorem fX0_170 {n : Nat} : sn_FcN (LoN n) RX0 170 1 csX1 3 (9) true (tyX1 3) := ⟨RX1, "SnailPost", TX1, 12, tyX1, in_X1, tyX1_ok, nmX1, rfl, by decide, rfl, fun w A U H h => h.1 ("SnailPost", 170, "SnailPost$State", "plan", "[I", "SnailPost") (List.mem_of_getElem? (i := 3) rfl), rfl, tyX1_ok 3 (by decide)⟩
/-- SnailPost$State.terms -/
theorem fX0_173 {n : Nat} : sn_FcN (LoN n) RX0 173 1 csX1 4 (10) true (tyX1 4) := ⟨RX1, "SnailPost", TX1, 12, tyX1, in_X1, tyX1_ok, nmX1, rfl, by decide, rfl, fun w A U H h => h.1 ("SnailPost", 173, "SnailPost$State", "terms", "[I", "SnailPost") (List.mem_of_getElem? (i := 4) rfl), rfl, tyX1_ok 4 (by decide)⟩
/-- SnailPost.taped -/
theorem fX0_176 {n : Nat} : sn_Fc (LoN n) RX0 176 0 csX0 5 (0) false (tyX0 5) := ⟨RX0, TX0, 28, tyX0, in_X0, tyX0_ok, nmX0, rfl, by decide, rfl, q489, rfl, tyX0_ok 5 (by decide)⟩
/-- SnailPost.spilt -/
theorem fX0_183 {n : Nat} : sn_Fc (LoN n) RX0 183 0 csX0 7 (0) false (tyX0 7) := ⟨RX0, TX0, 28, tyX0, in_X0, tyX0_ok, nmX0, rfl, by decide, rfl, q491, rfl, tyX0_ok 7 (by decide)⟩
/-- SnailPost$State.laws -/
theorem fX0_186 {n : Nat} : sn_FcN (LoN n) RX0 186 1 csX1 7 (2) true (tyX1 7) := ⟨RX1, "SnailPost", TX1, 12, tyX1, in_X1, tyX1_ok, nmX1, rfl, by decide, rfl, fun w A U H h => h.1 ("SnailPost", 186, "SnailPost$State", "laws", "Ljava/util/ArrayList;", "SnailPost") (List.mem_of_getElem? (i := 7) rfl), rfl, tyX1_ok 7 (by decide)⟩
/-- SnailPost$Fault.place -/
theorem fX0_206 {n : Nat} : sn_FcN (LoN n) RX0 206 11 csX11 6 (0) true (tyX11 6) := ⟨RX11, "SnailPost", TX11, 7, tyX11, in_X11, tyX11_ok, nmX11, rfl, by decide, rfl, fun w A U H h => h.1 ("SnailPost", 206, "SnailPost$Fault", "place", "I", "SnailPost") (List.mem_of_getElem? (i := 31) rfl), rfl, tyX11_ok 6 (by decide)⟩
/-- SnailPost$Reader.made -/
theorem fX0_211 {n : Nat} : sn_FcN (LoN n) RX0 211 10 csX10 2 (2) true (tyX10 2) := ⟨RX10, "SnailPost", TX10, 7, tyX10, in_X10, tyX10_ok, nmX10, rfl, by decide, rfl, fun w A U H h => h.1 ("SnailPost", 211, "SnailPost$Reader", "made", "Ljava/util/ArrayList;", "SnailPost") (List.mem_of_getElem? (i := 30) rfl), rfl, tyX10_ok 2 (by decide)⟩
/-- SnailPost$State.force -/
theorem fX0_221 {n : Nat} : sn_FcN (LoN n) RX0 221 1 csX1 11 (0) false (tyX1 11) := ⟨RX1, "SnailPost", TX1, 12, tyX1, in_X1, tyX1_ok, nmX1, rfl, by decide, rfl, fun w A U H h => h.1 ("SnailPost", 221, "SnailPost$State", "force", "I", "SnailPost") (List.mem_of_getElem? (i := 11) rfl), rfl, tyX1_ok 11 (by decide)⟩
/-- SnailPost$Walk.cells -/
theorem fX0_236 {n : Nat} (k : Nat) : sn_FcN (LoN n) RX0 236 4 (csW k) 0 (k + 1 + 3) true (tyX4 0) := ⟨RX4, "SnailPost", TX4, 6, tyX4, in_X4, tyX4_ok, nmX4, rfl, by decide, rfl, fun w A U H h => h.1 ("SnailPost", 236, "SnailPost$Walk", "cells", "[I", "SnailPost") (List.mem_of_getElem? (i := 12) rfl), rfl, tyX4_ok 0 (by decide)⟩
/-- SnailPost$Walk.came -/
theorem fX0_248 {n : Nat} (k : Nat) : sn_FcN (LoN n) RX0 248 4 (csW k) 1 (k + 2 + 3) true (tyX4 1) := ⟨RX4, "SnailPost", TX4, 6, tyX4, in_X4, tyX4_ok, nmX4, rfl, by decide, rfl, fun w A U H h => h.1 ("SnailPost", 248, "SnailPost$Walk", "came", "[I", "SnailPost") (List.mem_of_getElem? (i := 13) rfl), rfl, tyX4_ok 1 (by decide)⟩
/-- SnailPost$Walk.stayed -/
theorem fX0_251 {n : Nat} (k : Nat) : sn_FcN (LoN n) RX0 251 4 (csW k) 2 (k + 3 + 3) true (tyX4 2) := ⟨RX4, "SnailPost", TX4, 6, tyX4, in_X4, tyX4_ok, nmX4, rfl, by decide, rfl, fun w A U H h => h.1 ("SnailPost", 251, "SnailPost$Walk", "stayed", "[I", "SnailPost") (List.mem_of_getElem? (i := 14) rfl), rfl, tyX4_ok 2 (by decide)⟩
/-- SnailPost$Walk.been -/
theorem fX0_254 {n : Nat} (k : Nat) : sn_FcN (LoN n) RX0 254 4 (csW k) 3 (k + 4 + 3) true (tyX4 3) := ⟨RX4, "SnailPost", TX4, 6, tyX4, in_X4, tyX4_ok, nmX4, rfl, by decide, rfl, fun w A U H h => h.1 ("SnailPost", 254, "SnailPost$Walk", "been", "[I", "SnailPost") (List.mem_of_getElem? (i := 15) rfl), rfl, tyX4_ok 3 (by decide)⟩
/-- SnailPost$Lantern.most -/
theorem fX0_265 {n : Nat} (k : Nat) : sn_FcN (LoN n) RX0 265 5 (csL k) 8 (0) false (tyX5 8) := ⟨RX5, "SnailPost", TX5, 12, tyX5, in_X5, tyX5_ok, nmX5, rfl, by decide, rfl, fun w A U H h => h.1 ("SnailPost", 265, "SnailPost$Lantern", "most", "I", "SnailPost") (List.mem_of_getElem? (i := 20) rfl), rfl, tyX5_ok 8 (by decide)⟩
/-- SnailPost$Lantern.least -/
theorem fX0_268 {n : Nat} (k : Nat) : sn_FcN (LoN n) RX0 268 5 (csL k) 9 (0) false (tyX5 9) := ⟨RX5, "SnailPost", TX5, 12, tyX5, in_X5, tyX5_ok, nmX5, rfl, by decide, rfl, fun w A U H h => h.1 ("SnailPost", 268, "SnailPost$Lantern", "least", "I", "SnailPost") (List.mem_of_getElem? (i := 21) rfl), rfl, tyX5_ok 9 (by decide)⟩
/-- SnailPost$Lantern.many -/
theorem fX0_271 {n : Nat} (k : Nat) : sn_FcN (LoN n) RX0 271 5 (csL k) 10 (0) false (tyX5 10) := ⟨RX5, "SnailPost", TX5, 12, tyX5, in_X5, tyX5_ok, nmX5, rfl, by decide, rfl, fun w A U H h => h.1 ("SnailPost", 271, "SnailPost$Lantern", "many", "I", "SnailPost") (List.mem_of_getElem? (i := 22) rfl), rfl, tyX5_ok 10 (by decide)⟩
/-- SnailPost$Lantern.first -/
theorem fX0_272 {n : Nat} (k : Nat) : sn_FcN (LoN n) RX0 272 5 (csL k) 2 (k + 3 + 3) true (tyX5 2) := ⟨RX5, "SnailPost", TX5, 12, tyX5, in_X5, tyX5_ok, nmX5, rfl, by decide, rfl, fun w A U H h => h.1 ("SnailPost", 272, "SnailPost$Lantern", "first", "[I", "SnailPost") (List.mem_of_getElem? (i := 19) rfl), rfl, tyX5_ok 2 (by decide)⟩
/-- SnailPost.duelHours -/
theorem fX0_275 {n : Nat} : sn_Fc (LoN n) RX0 275 0 csX0 17 (0) false (tyX0 17) := ⟨RX0, TX0, 28, tyX0, in_X0, tyX0_ok, nmX0, rfl, by decide, rfl, q505, rfl, tyX0_ok 17 (by decide)⟩
/-- SnailPost.duelSnail -/
theorem fX0_278 {n : Nat} : sn_Fc (LoN n) RX0 278 0 csX0 18 (0) false (tyX0 18) := ⟨RX0, TX0, 28, tyX0, in_X0, tyX0_ok, nmX0, rfl, by decide, rfl, q506, rfl, tyX0_ok 18 (by decide)⟩
/-- SnailPost$Lantern.walks -/
theorem fX0_281 {n : Nat} (k : Nat) : sn_FcN (LoN n) RX0 281 5 (csL k) 0 (k + 1 + 3) true (tyX5 0) := ⟨RX5, "SnailPost", TX5, 12, tyX5, in_X5, tyX5_ok, nmX5, rfl, by decide, rfl, fun w A U H h => h.1 ("SnailPost", 281, "SnailPost$Lantern", "walks", "[LSnailPost$Walk;", "SnailPost") (List.mem_of_getElem? (i := 17) rfl), rfl, tyX5_ok 0 (by decide)⟩
/-- SnailPost.duelEnd -/
theorem fX0_289 {n : Nat} : sn_Fc (LoN n) RX0 289 0 csX0 19 (0) false (tyX0 19) := ⟨RX0, TX0, 28, tyX0, in_X0, tyX0_ok, nmX0, rfl, by decide, rfl, q507, rfl, tyX0_ok 19 (by decide)⟩
/-- SnailPost$Lantern.row -/
theorem fX0_292 {n : Nat} (k : Nat) : sn_FcN (LoN n) RX0 292 5 (csL k) 1 (k + 2 + 3) true (tyX5 1) := ⟨RX5, "SnailPost", TX5, 12, tyX5, in_X5, tyX5_ok, nmX5, rfl, by decide, rfl, fun w A U H h => h.1 ("SnailPost", 292, "SnailPost$Lantern", "row", "[I", "SnailPost") (List.mem_of_getElem? (i := 18) rfl), rfl, tyX5_ok 1 (by decide)⟩
/-- SnailPost.duelFirst -/
theorem fX0_295 {n : Nat} : sn_Fc (LoN n) RX0 295 0 csX0 20 (0) false (tyX0 20) := ⟨RX0, TX0, 28, tyX0, in_X0, tyX0_ok, nmX0, rfl, by decide, rfl, q508, rfl, tyX0_ok 20 (by decide)⟩
/-- SnailPost$Shells.size -/
theorem fX0_328 {n : Nat} : sn_FcN (LoN n) RX0 328 7 csX7 3 (0) false (tyX7 3) := ⟨RX7, "SnailPost", TX7, 6, tyX7, in_X7, tyX7_ok, nmX7, rfl, by decide, rfl, fun w A U H h => h.1 ("SnailPost", 328, "SnailPost$Shells", "size", "I", "SnailPost") (List.mem_of_getElem? (i := 24) rfl), rfl, tyX7_ok 3 (by decide)⟩
/-- SnailPost$Shells.row -/
theorem fX0_330 {n : Nat} : sn_FcN (LoN n) RX0 330 7 csX7 0 (96) true (tyX7 0) := ⟨RX7, "SnailPost", TX7, 6, tyX7, in_X7, tyX7_ok, nmX7, rfl, by decide, rfl, fun w A U H h => h.1 ("SnailPost", 330, "SnailPost$Shells", "row", "[I", "SnailPost") (List.mem_of_getElem? (i := 23) rfl), rfl, tyX7_ok 0 (by decide)⟩
/-- SnailPost$State.crossMany -/
theorem fX0_331 {n : Nat} : sn_FcN (LoN n) RX0 331 1 csX1 10 (0) false (tyX1 10) := ⟨RX1, "SnailPost", TX1, 12, tyX1, in_X1, tyX1_ok, nmX1, rfl, by decide, rfl, fun w A U H h => h.1 ("SnailPost", 331, "SnailPost$State", "crossMany", "I", "SnailPost") (List.mem_of_getElem? (i := 10) rfl), rfl, tyX1_ok 10 (by decide)⟩
/-- SnailPost$State.crossings -/
theorem fX0_334 {n : Nat} : sn_FcN (LoN n) RX0 334 1 csX1 5 (11) true (tyX1 5) := ⟨RX1, "SnailPost", TX1, 12, tyX1, in_X1, tyX1_ok, nmX1, rfl, by decide, rfl, fun w A U H h => h.1 ("SnailPost", 334, "SnailPost$State", "crossings", "[I", "SnailPost") (List.mem_of_getElem? (i := 5) rfl), rfl, tyX1_ok 5 (by decide)⟩
/-- SnailPost$Orders.many -/
theorem fX0_338 {n : Nat} : sn_FcN (LoN n) RX0 338 8 csX8 4 (0) false (tyX8 4) := ⟨RX8, "SnailPost", TX8, 8, tyX8, in_X8, tyX8_ok, nmX8, rfl, by decide, rfl, fun w A U H h => h.1 ("SnailPost", 338, "SnailPost$Orders", "many", "I", "SnailPost") (List.mem_of_getElem? (i := 27) rfl), rfl, tyX8_ok 4 (by decide)⟩
/-- SnailPost$Orders.first -/
theorem fX0_339 {n : Nat} : sn_FcN (LoN n) RX0 339 8 csX8 1 (99) true (tyX8 1) := ⟨RX8, "SnailPost", TX8, 8, tyX8, in_X8, tyX8_ok, nmX8, rfl, by decide, rfl, fun w A U H h => h.1 ("SnailPost", 339, "SnailPost$Orders", "first", "[I", "SnailPost") (List.mem_of_getElem? (i := 25) rfl), rfl, tyX8_ok 1 (by decide)⟩
/-- SnailPost$Orders.firsts -/
theorem fX0_340 {n : Nat} : sn_FcN (LoN n) RX0 340 8 csX8 5 (0) false (tyX8 5) := ⟨RX8, "SnailPost", TX8, 8, tyX8, in_X8, tyX8_ok, nmX8, rfl, by decide, rfl, fun w A U H h => h.1 ("SnailPost", 340, "SnailPost$Orders", "firsts", "I", "SnailPost") (List.mem_of_getElem? (i := 28) rfl), rfl, tyX8_ok 5 (by decide)⟩
/-- SnailPost$Orders.lasts -/
theorem fX0_343 {n : Nat} : sn_FcN (LoN n) RX0 343 8 csX8 6 (0) false (tyX8 6) := ⟨RX8, "SnailPost", TX8, 8, tyX8, in_X8, tyX8_ok, nmX8, rfl, by decide, rfl, fun w A U H h => h.1 ("SnailPost", 343, "SnailPost$Orders", "lasts", "I", "SnailPost") (List.mem_of_getElem? (i := 29) rfl), rfl, tyX8_ok 6 (by decide)⟩
/-- SnailPost$Orders.ahead -/
theorem fX0_349 {n : Nat} : sn_FcN (LoN n) RX0 349 8 csX8 2 (100) true (tyX8 2) := ⟨RX8, "SnailPost", TX8, 8, tyX8, in_X8, tyX8_ok, nmX8, rfl, by decide, rfl, fun w A U H h => h.1 ("SnailPost", 349, "SnailPost$Orders", "ahead", "[I", "SnailPost") (List.mem_of_getElem? (i := 26) rfl), rfl, tyX8_ok 2 (by decide)⟩
/-- SnailPost.drawn -/
theorem fX0_352 {n : Nat} : sn_Fc (LoN n) RX0 352 0 csX0 27 (0) false (tyX0 27) := ⟨RX0, TX0, 28, tyX0, in_X0, tyX0_ok, nmX0, rfl, by decide, rfl, q516, rfl, tyX0_ok 27 (by decide)⟩
/-- SnailPost.huntedMany -/
theorem fX0_362 {n : Nat} : sn_Fc (LoN n) RX0 362 0 csX0 26 (0) false (tyX0 26) := ⟨RX0, TX0, 28, tyX0, in_X0, tyX0_ok, nmX0, rfl, by decide, rfl, q515, rfl, tyX0_ok 26 (by decide)⟩
/-- SnailPost$Walk.eaten -/
theorem fX0_368 {n : Nat} (k : Nat) : sn_FcN (LoN n) RX0 368 4 (csW k) 4 (0) false (tyX4 4) := ⟨RX4, "SnailPost", TX4, 6, tyX4, in_X4, tyX4_ok, nmX4, rfl, by decide, rfl, fun w A U H h => h.1 ("SnailPost", 368, "SnailPost$Walk", "eaten", "I", "SnailPost") (List.mem_of_getElem? (i := 16) rfl), rfl, tyX4_ok 4 (by decide)⟩
/-- SnailPost$State.damp -/
theorem fX1_9 {n : Nat} : sn_Fc (LoN n) RX1 9 1 csX1 0 (6) true (tyX1 0) := ⟨RX1, TX1, 12, tyX1, in_X1, tyX1_ok, nmX1, rfl, by decide, rfl, q184, rfl, tyX1_ok 0 (by decide)⟩
/-- SnailPost$State.facts -/
theorem fX1_15 {n : Nat} : sn_Fc (LoN n) RX1 15 1 csX1 1 (7) true (tyX1 1) := ⟨RX1, TX1, 12, tyX1, in_X1, tyX1_ok, nmX1, rfl, by decide, rfl, q187, rfl, tyX1_ok 1 (by decide)⟩
/-- SnailPost$State.spots -/
theorem fX1_18 {n : Nat} : sn_Fc (LoN n) RX1 18 1 csX1 2 (8) true (tyX1 2) := ⟨RX1, TX1, 12, tyX1, in_X1, tyX1_ok, nmX1, rfl, by decide, rfl, q189, rfl, tyX1_ok 2 (by decide)⟩
/-- SnailPost$State.plan -/
theorem fX1_21 {n : Nat} : sn_Fc (LoN n) RX1 21 1 csX1 3 (9) true (tyX1 3) := ⟨RX1, TX1, 12, tyX1, in_X1, tyX1_ok, nmX1, rfl, by decide, rfl, q192, rfl, tyX1_ok 3 (by decide)⟩
/-- SnailPost$State.terms -/
theorem fX1_24 {n : Nat} : sn_Fc (LoN n) RX1 24 1 csX1 4 (10) true (tyX1 4) := ⟨RX1, TX1, 12, tyX1, in_X1, tyX1_ok, nmX1, rfl, by decide, rfl, q194, rfl, tyX1_ok 4 (by decide)⟩
/-- SnailPost$State.crossings -/
theorem fX1_27 {n : Nat} : sn_Fc (LoN n) RX1 27 1 csX1 5 (11) true (tyX1 5) := ⟨RX1, TX1, 12, tyX1, in_X1, tyX1_ok, nmX1, rfl, by decide, rfl, q197, rfl, tyX1_ok 5 (by decide)⟩
/-- SnailPost$State.salt -/
theorem fX1_30 {n : Nat} : sn_Fc (LoN n) RX1 30 1 csX1 6 (12) true (tyX1 6) := ⟨RX1, TX1, 12, tyX1, in_X1, tyX1_ok, nmX1, rfl, by decide, rfl, q200, rfl, tyX1_ok 6 (by decide)⟩
/-- SnailPost$State.laws -/
theorem fX1_39 {n : Nat} : sn_Fc (LoN n) RX1 39 1 csX1 7 (2) true (tyX1 7) := ⟨RX1, TX1, 12, tyX1, in_X1, tyX1_ok, nmX1, rfl, by decide, rfl, q203, rfl, tyX1_ok 7 (by decide)⟩
/-- SnailPost$State.force -/
theorem fX1_43 {n : Nat} : sn_Fc (LoN n) RX1 43 1 csX1 11 (0) false (tyX1 11) := ⟨RX1, TX1, 12, tyX1, in_X1, tyX1_ok, nmX1, rfl, by decide, rfl, q217, rfl, tyX1_ok 11 (by decide)⟩
/-- SnailPost$State.many -/
theorem fX1_64 {n : Nat} : sn_Fc (LoN n) RX1 64 1 csX1 8 (0) false (tyX1 8) := ⟨RX1, TX1, 12, tyX1, in_X1, tyX1_ok, nmX1, rfl, by decide, rfl, q208, rfl, tyX1_ok 8 (by decide)⟩
/-- SnailPost$State.spotMany -/
theorem fX1_67 {n : Nat} : sn_Fc (LoN n) RX1 67 1 csX1 9 (0) false (tyX1 9) := ⟨RX1, TX1, 12, tyX1, in_X1, tyX1_ok, nmX1, rfl, by decide, rfl, q212, rfl, tyX1_ok 9 (by decide)⟩
/-- SnailPost$State.crossMany -/
theorem fX1_70 {n : Nat} : sn_Fc (LoN n) RX1 70 1 csX1 10 (0) false (tyX1 10) := ⟨RX1, TX1, 12, tyX1, in_X1, tyX1_ok, nmX1, rfl, by decide, rfl, q214, rfl, tyX1_ok 10 (by decide)⟩
/-- SnailPost$Reader.made -/
theorem fX10_14 {n : Nat} : sn_Fc (LoN n) RX10 14 10 csX10 2 (2) true (tyX10 2) := ⟨RX10, TX10, 7, tyX10, in_X10, tyX10_ok, nmX10, rfl, by decide, rfl, q780, rfl, tyX10_ok 2 (by decide)⟩
/-- SnailPost$Reader.tape -/
theorem fX10_20 {n : Nat} : sn_Fc (LoN n) RX10 20 10 csX10 0 (2) true (tyX10 0) := ⟨RX10, TX10, 7, tyX10, in_X10, tyX10_ok, nmX10, rfl, by decide, rfl, q778, rfl, tyX10_ok 0 (by decide)⟩
/-- SnailPost$Reader.size -/
theorem fX10_24 {n : Nat} : sn_Fc (LoN n) RX10 24 10 csX10 1 (0) true (tyX10 1) := ⟨RX10, TX10, 7, tyX10, in_X10, tyX10_ok, nmX10, rfl, by decide, rfl, q779, rfl, tyX10_ok 1 (by decide)⟩
/-- SnailPost$Reader.to -/
theorem fX10_28 {n : Nat} : sn_Fc (LoN n) RX10 28 10 csX10 4 (0) false (tyX10 4) := ⟨RX10, TX10, 7, tyX10, in_X10, tyX10_ok, nmX10, rfl, by decide, rfl, q783, rfl, tyX10_ok 4 (by decide)⟩
/-- SnailPost$Reader.from -/
theorem fX10_31 {n : Nat} : sn_Fc (LoN n) RX10 31 10 csX10 3 (0) false (tyX10 3) := ⟨RX10, TX10, 7, tyX10, in_X10, tyX10_ok, nmX10, rfl, by decide, rfl, q782, rfl, tyX10_ok 3 (by decide)⟩
/-- SnailPost$Clause.sum -/
theorem fX10_81 {n : Nat} : sn_FcN (LoN n) RX10 81 12 csX12 1 (2) false (tyX12 1) := ⟨RX12, "SnailPost", TX12, 3, tyX12, in_X12, tyX12_ok, nmX12, rfl, by decide, rfl, fun w A U H h => h.1 ("SnailPost$Reader", 81, "SnailPost$Clause", "sum", "LSnailPost$Sum;", "SnailPost") (List.mem_of_getElem? (i := 32) rfl), rfl, tyX12_ok 1 (by decide)⟩
/-- SnailPost$Clause.when -/
theorem fX10_90 {n : Nat} : sn_FcN (LoN n) RX10 90 12 csX12 2 (2) false (tyX12 2) := ⟨RX12, "SnailPost", TX12, 3, tyX12, in_X12, tyX12_ok, nmX12, rfl, by decide, rfl, fun w A U H h => h.1 ("SnailPost$Reader", 90, "SnailPost$Clause", "when", "LSnailPost$Test;", "SnailPost") (List.mem_of_getElem? (i := 33) rfl), rfl, tyX12_ok 2 (by decide)⟩
/-- SnailPost$Several.of -/
theorem fX10_108 {n : Nat} : sn_FcN (LoN n) RX10 108 18 csX20 1 (2) true (tyX20 1) := ⟨RX20, "SnailPost", TX20, 2, tyX20, in_X20, tyX20_ok, nmX20, rfl, by decide, rfl, fun w A U H h => h.1 ("SnailPost$Reader", 108, "SnailPost$Several", "of", "Ljava/util/ArrayList;", "SnailPost") (List.mem_of_getElem? (i := 34) rfl), rfl, tyX20_ok 1 (by decide)⟩
/-- SnailPost$Reader.deep -/
theorem fX10_116 {n : Nat} : sn_Fc (LoN n) RX10 116 10 csX10 6 (0) false (tyX10 6) := ⟨RX10, TX10, 7, tyX10, in_X10, tyX10_ok, nmX10, rfl, by decide, rfl, q785, rfl, tyX10_ok 6 (by decide)⟩
/-- SnailPost$Reader.leaves -/
theorem fX10_168 {n : Nat} : sn_Fc (LoN n) RX10 168 10 csX10 5 (0) false (tyX10 5) := ⟨RX10, TX10, 7, tyX10, in_X10, tyX10_ok, nmX10, rfl, by decide, rfl, q784, rfl, tyX10_ok 5 (by decide)⟩
/-- SnailPost$Fault.place -/
theorem fX11_7 {n : Nat} : sn_Fc (LoN n) RX11 7 11 csX11 6 (0) true (tyX11 6) := ⟨RX11, TX11, 7, tyX11, in_X11, tyX11_ok, nmX11, rfl, by decide, rfl, q886, rfl, tyX11_ok 6 (by decide)⟩
/-- SnailPost$Clause.head -/
theorem fX12_9 {n : Nat} : sn_Fc (LoN n) RX12 9 12 csX12 0 (0) true (tyX12 0) := ⟨RX12, TX12, 3, tyX12, in_X12, tyX12_ok, nmX12, rfl, by decide, rfl, q898, rfl, tyX12_ok 0 (by decide)⟩
/-- SnailPost$Clause.when -/
theorem fX12_15 {n : Nat} : sn_Fc (LoN n) RX12 15 12 csX12 2 (2) false (tyX12 2) := ⟨RX12, TX12, 3, tyX12, in_X12, tyX12_ok, nmX12, rfl, by decide, rfl, q902, rfl, tyX12_ok 2 (by decide)⟩
/-- SnailPost$Clause.sum -/
theorem fX12_27 {n : Nat} : sn_Fc (LoN n) RX12 27 12 csX12 1 (2) false (tyX12 1) := ⟨RX12, TX12, 3, tyX12, in_X12, tyX12_ok, nmX12, rfl, by decide, rfl, q900, rfl, tyX12_ok 1 (by decide)⟩
/-- SnailPost$Number.number -/
theorem fX14_7 {n : Nat} : sn_Fc (LoN n) RX14 7 13 csX14 0 (0) true (tyX14 0) := ⟨RX14, TX14, 1, tyX14, in_X14, tyX14_ok, nmX14, rfl, by decide, rfl, q954, rfl, tyX14_ok 0 (by decide)⟩
/-- SnailPost$Value.which -/
theorem fX15_7 {n : Nat} : sn_Fc (LoN n) RX15 7 14 csX15 0 (0) true (tyX15 0) := ⟨RX15, TX15, 1, tyX15, in_X15, tyX15_ok, nmX15, rfl, by decide, rfl, q978, rfl, tyX15_ok 0 (by decide)⟩
/-- SnailPost$Setting.values -/
theorem fX15_13 {n : Nat} : sn_FcN (LoN n) RX15 13 2 csX2 1 (17) true (tyX2 1) := ⟨RX2, "SnailPost", TX2, 2, tyX2, in_X2, tyX2_ok, nmX2, rfl, by decide, rfl, fun w A U H h => h.1 ("SnailPost$Value", 13, "SnailPost$Setting", "values", "[J", "SnailPost") (List.mem_of_getElem? (i := 35) rfl), rfl, tyX2_ok 1 (by decide)⟩
/-- SnailPost$Two.sign -/
theorem fX16_9 {n : Nat} : sn_Fc (LoN n) RX16 9 15 csX16 0 (0) true (tyX16 0) := ⟨RX16, TX16, 3, tyX16, in_X16, tyX16_ok, nmX16, rfl, by decide, rfl, q990, rfl, tyX16_ok 0 (by decide)⟩
/-- SnailPost$Two.left -/
theorem fX16_15 {n : Nat} : sn_Fc (LoN n) RX16 15 15 csX16 1 (2) true (tyX16 1) := ⟨RX16, TX16, 3, tyX16, in_X16, tyX16_ok, nmX16, rfl, by decide, rfl, q991, rfl, tyX16_ok 1 (by decide)⟩
/-- SnailPost$Two.right -/
theorem fX16_19 {n : Nat} : sn_Fc (LoN n) RX16 19 15 csX16 2 (2) true (tyX16 2) := ⟨RX16, TX16, 3, tyX16, in_X16, tyX16_ok, nmX16, rfl, by decide, rfl, q992, rfl, tyX16_ok 2 (by decide)⟩
/-- SnailPost$Setting.broken -/
theorem fX16_26 {n : Nat} : sn_FcN (LoN n) RX16 26 2 csX2 0 (16) true (tyX2 0) := ⟨RX2, "SnailPost", TX2, 2, tyX2, in_X2, tyX2_ok, nmX2, rfl, by decide, rfl, fun w A U H h => h.1 ("SnailPost$Two", 26, "SnailPost$Setting", "broken", "LSnailPost$Broken;", "SnailPost") (List.mem_of_getElem? (i := 36) rfl), rfl, tyX2_ok 0 (by decide)⟩
/-- SnailPost$Compare.sign -/
theorem fX18_7 {n : Nat} : sn_Fc (LoN n) RX18 7 16 csX18 0 (0) true (tyX18 0) := ⟨RX18, TX18, 3, tyX18, in_X18, tyX18_ok, nmX18, rfl, by decide, rfl, q1034, rfl, tyX18_ok 0 (by decide)⟩
/-- SnailPost$Compare.left -/
theorem fX18_13 {n : Nat} : sn_Fc (LoN n) RX18 13 16 csX18 1 (2) true (tyX18 1) := ⟨RX18, TX18, 3, tyX18, in_X18, tyX18_ok, nmX18, rfl, by decide, rfl, q1035, rfl, tyX18_ok 1 (by decide)⟩
/-- SnailPost$Compare.right -/
theorem fX18_17 {n : Nat} : sn_Fc (LoN n) RX18 17 16 csX18 2 (2) true (tyX18 2) := ⟨RX18, TX18, 3, tyX18, in_X18, tyX18_ok, nmX18, rfl, by decide, rfl, q1036, rfl, tyX18_ok 2 (by decide)⟩
/-- SnailPost$Not.of -/
theorem fX19_7 {n : Nat} : sn_Fc (LoN n) RX19 7 17 csX19 0 (2) true (tyX19 0) := ⟨RX19, TX19, 1, tyX19, in_X19, tyX19_ok, nmX19, rfl, by decide, rfl, q1050, rfl, tyX19_ok 0 (by decide)⟩
/-- SnailPost$Setting.broken -/
theorem fX2_12 {n : Nat} : sn_Fc (LoN n) RX2 12 2 csX2 0 (16) true (tyX2 0) := ⟨RX2, TX2, 2, tyX2, in_X2, tyX2_ok, nmX2, rfl, by decide, rfl, q313, rfl, tyX2_ok 0 (by decide)⟩
/-- SnailPost$Setting.values -/
theorem fX2_18 {n : Nat} : sn_Fc (LoN n) RX2 18 2 csX2 1 (17) true (tyX2 1) := ⟨RX2, TX2, 2, tyX2, in_X2, tyX2_ok, nmX2, rfl, by decide, rfl, q315, rfl, tyX2_ok 1 (by decide)⟩
/-- SnailPost$Several.of -/
theorem fX20_12 {n : Nat} : sn_Fc (LoN n) RX20 12 18 csX20 1 (2) true (tyX20 1) := ⟨RX20, TX20, 2, tyX20, in_X20, tyX20_ok, nmX20, rfl, by decide, rfl, q1064, rfl, tyX20_ok 1 (by decide)⟩
/-- SnailPost$Several.all -/
theorem fX20_18 {n : Nat} : sn_Fc (LoN n) RX20 18 18 csX20 0 (0) true (tyX20 0) := ⟨RX20, TX20, 2, tyX20, in_X20, tyX20_ok, nmX20, rfl, by decide, rfl, q1063, rfl, tyX20_ok 0 (by decide)⟩
/-- SnailPost$Law.clauses -/
theorem fX21_9 {n : Nat} : sn_Fc (LoN n) RX21 9 19 csX21 0 (2) true (tyX21 0) := ⟨RX21, TX21, 1, tyX21, in_X21, tyX21_ok, nmX21, rfl, by decide, rfl, q1091, rfl, tyX21_ok 0 (by decide)⟩
/-- SnailPost$Clause.head -/
theorem fX21_29 {n : Nat} : sn_FcN (LoN n) RX21 29 12 csX12 0 (0) true (tyX12 0) := ⟨RX12, "SnailPost", TX12, 3, tyX12, in_X12, tyX12_ok, nmX12, rfl, by decide, rfl, fun w A U H h => h.1 ("SnailPost$Law", 29, "SnailPost$Clause", "head", "I", "SnailPost") (List.mem_of_getElem? (i := 37) rfl), rfl, tyX12_ok 0 (by decide)⟩
/-- SnailPost$Walk.this$0 -/
theorem fX4_3 {n : Nat} (k : Nat) : sn_Fc (LoN n) RX4 3 4 (csW k) 5 (3) true (tyX4 5) := ⟨RX4, TX4, 6, tyX4, in_X4, tyX4_ok, nmX4, rfl, by decide, rfl, q342, rfl, tyX4_ok 5 (by decide)⟩
/-- SnailPost$Walk.cells -/
theorem fX4_15 {n : Nat} (k : Nat) : sn_Fc (LoN n) RX4 15 4 (csW k) 0 (k + 1 + 3) true (tyX4 0) := ⟨RX4, TX4, 6, tyX4, in_X4, tyX4_ok, nmX4, rfl, by decide, rfl, q330, rfl, tyX4_ok 0 (by decide)⟩
/-- SnailPost$Walk.came -/
theorem fX4_19 {n : Nat} (k : Nat) : sn_Fc (LoN n) RX4 19 4 (csW k) 1 (k + 2 + 3) true (tyX4 1) := ⟨RX4, TX4, 6, tyX4, in_X4, tyX4_ok, nmX4, rfl, by decide, rfl, q333, rfl, tyX4_ok 1 (by decide)⟩
/-- SnailPost$Walk.stayed -/
theorem fX4_22 {n : Nat} (k : Nat) : sn_Fc (LoN n) RX4 22 4 (csW k) 2 (k + 3 + 3) true (tyX4 2) := ⟨RX4, TX4, 6, tyX4, in_X4, tyX4_ok, nmX4, rfl, by decide, rfl, q336, rfl, tyX4_ok 2 (by decide)⟩
/-- SnailPost$Walk.been -/
theorem fX4_25 {n : Nat} (k : Nat) : sn_Fc (LoN n) RX4 25 4 (csW k) 3 (k + 4 + 3) true (tyX4 3) := ⟨RX4, TX4, 6, tyX4, in_X4, tyX4_ok, nmX4, rfl, by decide, rfl, q338, rfl, tyX4_ok 3 (by decide)⟩
/-- SnailPost$Walk.eaten -/
theorem fX4_28 {n : Nat} (k : Nat) : sn_Fc (LoN n) RX4 28 4 (csW k) 4 (0) false (tyX4 4) := ⟨RX4, TX4, 6, tyX4, in_X4, tyX4_ok, nmX4, rfl, by decide, rfl, q340, rfl, tyX4_ok 4 (by decide)⟩
/-- SnailPost.state -/
theorem fX4_32 {n : Nat} : sn_FcN (LoN n) RX4 32 0 csX0 2 (5) true (tyX0 2) := ⟨RX0, "SnailPost", TX0, 28, tyX0, in_X0, tyX0_ok, nmX0, rfl, by decide, rfl, fun w A U H h => h.1 ("SnailPost$Walk", 32, "SnailPost", "state", "LSnailPost$State;", "SnailPost") (List.mem_of_getElem? (i := 46) rfl), rfl, tyX0_ok 2 (by decide)⟩
/-- SnailPost$State.many -/
theorem fX4_36 {n : Nat} : sn_FcN (LoN n) RX4 36 1 csX1 8 (0) false (tyX1 8) := ⟨RX1, "SnailPost", TX1, 12, tyX1, in_X1, tyX1_ok, nmX1, rfl, by decide, rfl, fun w A U H h => h.1 ("SnailPost$Walk", 36, "SnailPost$State", "many", "I", "SnailPost") (List.mem_of_getElem? (i := 43) rfl), rfl, tyX1_ok 8 (by decide)⟩
/-- SnailPost$State.terms -/
theorem fX4_51 {n : Nat} : sn_FcN (LoN n) RX4 51 1 csX1 4 (10) true (tyX1 4) := ⟨RX1, "SnailPost", TX1, 12, tyX1, in_X1, tyX1_ok, nmX1, rfl, by decide, rfl, fun w A U H h => h.1 ("SnailPost$Walk", 51, "SnailPost$State", "terms", "[I", "SnailPost") (List.mem_of_getElem? (i := 40) rfl), rfl, tyX1_ok 4 (by decide)⟩
/-- SnailPost$State.spots -/
theorem fX4_54 {n : Nat} : sn_FcN (LoN n) RX4 54 1 csX1 2 (8) true (tyX1 2) := ⟨RX1, "SnailPost", TX1, 12, tyX1, in_X1, tyX1_ok, nmX1, rfl, by decide, rfl, fun w A U H h => h.1 ("SnailPost$Walk", 54, "SnailPost$State", "spots", "[I", "SnailPost") (List.mem_of_getElem? (i := 39) rfl), rfl, tyX1_ok 2 (by decide)⟩
/-- SnailPost$State.force -/
theorem fX4_65 {n : Nat} : sn_FcN (LoN n) RX4 65 1 csX1 11 (0) false (tyX1 11) := ⟨RX1, "SnailPost", TX1, 12, tyX1, in_X1, tyX1_ok, nmX1, rfl, by decide, rfl, fun w A U H h => h.1 ("SnailPost$Walk", 65, "SnailPost$State", "force", "I", "SnailPost") (List.mem_of_getElem? (i := 44) rfl), rfl, tyX1_ok 11 (by decide)⟩
/-- SnailPost.setting -/
theorem fX4_70 {n : Nat} : sn_FcN (LoN n) RX4 70 0 csX0 9 (15) true (tyX0 9) := ⟨RX0, "SnailPost", TX0, 28, tyX0, in_X0, tyX0_ok, nmX0, rfl, by decide, rfl, fun w A U H h => h.1 ("SnailPost$Walk", 70, "SnailPost", "setting", "LSnailPost$Setting;", "SnailPost") (List.mem_of_getElem? (i := 47) rfl), rfl, tyX0_ok 9 (by decide)⟩
/-- SnailPost$Setting.values -/
theorem fX4_74 {n : Nat} : sn_FcN (LoN n) RX4 74 2 csX2 1 (17) true (tyX2 1) := ⟨RX2, "SnailPost", TX2, 2, tyX2, in_X2, tyX2_ok, nmX2, rfl, by decide, rfl, fun w A U H h => h.1 ("SnailPost$Walk", 74, "SnailPost$Setting", "values", "[J", "SnailPost") (List.mem_of_getElem? (i := 45) rfl), rfl, tyX2_ok 1 (by decide)⟩
/-- SnailPost$State.damp -/
theorem fX4_80 {n : Nat} : sn_FcN (LoN n) RX4 80 1 csX1 0 (6) true (tyX1 0) := ⟨RX1, "SnailPost", TX1, 12, tyX1, in_X1, tyX1_ok, nmX1, rfl, by decide, rfl, fun w A U H h => h.1 ("SnailPost$Walk", 80, "SnailPost$State", "damp", "[I", "SnailPost") (List.mem_of_getElem? (i := 38) rfl), rfl, tyX1_ok 0 (by decide)⟩
/-- SnailPost$State.laws -/
theorem fX4_90 {n : Nat} : sn_FcN (LoN n) RX4 90 1 csX1 7 (2) true (tyX1 7) := ⟨RX1, "SnailPost", TX1, 12, tyX1, in_X1, tyX1_ok, nmX1, rfl, by decide, rfl, fun w A U H h => h.1 ("SnailPost$Walk", 90, "SnailPost$State", "laws", "Ljava/util/ArrayList;", "SnailPost") (List.mem_of_getElem? (i := 42) rfl), rfl, tyX1_ok 7 (by decide)⟩
/-- SnailPost.around -/
theorem fX4_126 {n : Nat} : sn_FcN (LoN n) RX4 126 0 csX0 10 (18) true (tyX0 10) := ⟨RX0, "SnailPost", TX0, 28, tyX0, in_X0, tyX0_ok, nmX0, rfl, by decide, rfl, fun w A U H h => h.1 ("SnailPost$Walk", 126, "SnailPost", "around", "[I", "SnailPost") (List.mem_of_getElem? (i := 48) rfl), rfl, tyX0_ok 10 (by decide)⟩
/-- SnailPost$State.salt -/
theorem fX4_133 {n : Nat} : sn_FcN (LoN n) RX4 133 1 csX1 6 (12) true (tyX1 6) := ⟨RX1, "SnailPost", TX1, 12, tyX1, in_X1, tyX1_ok, nmX1, rfl, by decide, rfl, fun w A U H h => h.1 ("SnailPost$Walk", 133, "SnailPost$State", "salt", "[Z", "SnailPost") (List.mem_of_getElem? (i := 41) rfl), rfl, tyX1_ok 6 (by decide)⟩
/-- SnailPost$Lantern.this$0 -/
theorem fX5_3 {n : Nat} (k : Nat) : sn_Fc (LoN n) RX5 3 5 (csL k) 11 (3) true (tyX5 11) := ⟨RX5, TX5, 12, tyX5, in_X5, tyX5_ok, nmX5, rfl, by decide, rfl, q382, rfl, tyX5_ok 11 (by decide)⟩
/-- SnailPost$Lantern.walks -/
theorem fX5_20 {n : Nat} (k : Nat) : sn_Fc (LoN n) RX5 20 5 (csL k) 0 (k + 1 + 3) true (tyX5 0) := ⟨RX5, TX5, 12, tyX5, in_X5, tyX5_ok, nmX5, rfl, by decide, rfl, q365, rfl, tyX5_ok 0 (by decide)⟩
/-- SnailPost$Lantern.row -/
theorem fX5_24 {n : Nat} (k : Nat) : sn_Fc (LoN n) RX5 24 5 (csL k) 1 (k + 2 + 3) true (tyX5 1) := ⟨RX5, TX5, 12, tyX5, in_X5, tyX5_ok, nmX5, rfl, by decide, rfl, q367, rfl, tyX5_ok 1 (by decide)⟩
/-- SnailPost$Lantern.first -/
theorem fX5_28 {n : Nat} (k : Nat) : sn_Fc (LoN n) RX5 28 5 (csL k) 2 (k + 3 + 3) true (tyX5 2) := ⟨RX5, TX5, 12, tyX5, in_X5, tyX5_ok, nmX5, rfl, by decide, rfl, q369, rfl, tyX5_ok 2 (by decide)⟩
/-- SnailPost$Lantern.made -/
theorem fX5_31 {n : Nat} (k : Nat) : sn_Fc (LoN n) RX5 31 5 (csL k) 3 (0) false (tyX5 3) := ⟨RX5, TX5, 12, tyX5, in_X5, tyX5_ok, nmX5, rfl, by decide, rfl, q371, rfl, tyX5_ok 3 (by decide)⟩
/-- SnailPost.version -/
theorem fX5_35 {n : Nat} : sn_FcN (LoN n) RX5 35 0 csX0 8 (0) false (tyX0 8) := ⟨RX0, "SnailPost", TX0, 28, tyX0, in_X0, tyX0_ok, nmX0, rfl, by decide, rfl, fun w A U H h => h.1 ("SnailPost$Lantern", 35, "SnailPost", "version", "I", "SnailPost") (List.mem_of_getElem? (i := 54) rfl), rfl, tyX0_ok 8 (by decide)⟩
/-- SnailPost$Lantern.madeHours -/
theorem fX5_38 {n : Nat} (k : Nat) : sn_Fc (LoN n) RX5 38 5 (csL k) 4 (0) false (tyX5 4) := ⟨RX5, TX5, 12, tyX5, in_X5, tyX5_ok, nmX5, rfl, by decide, rfl, q372, rfl, tyX5_ok 4 (by decide)⟩
/-- SnailPost$Lantern.madeSnails -/
theorem fX5_41 {n : Nat} (k : Nat) : sn_Fc (LoN n) RX5 41 5 (csL k) 5 (0) false (tyX5 5) := ⟨RX5, TX5, 12, tyX5, in_X5, tyX5_ok, nmX5, rfl, by decide, rfl, q373, rfl, tyX5_ok 5 (by decide)⟩
/-- SnailPost$Lantern.hours -/
theorem fX5_44 {n : Nat} (k : Nat) : sn_Fc (LoN n) RX5 44 5 (csL k) 6 (0) false (tyX5 6) := ⟨RX5, TX5, 12, tyX5, in_X5, tyX5_ok, nmX5, rfl, by decide, rfl, q374, rfl, tyX5_ok 6 (by decide)⟩
/-- SnailPost$Lantern.snails -/
theorem fX5_47 {n : Nat} (k : Nat) : sn_Fc (LoN n) RX5 47 5 (csL k) 7 (0) false (tyX5 7) := ⟨RX5, TX5, 12, tyX5, in_X5, tyX5_ok, nmX5, rfl, by decide, rfl, q375, rfl, tyX5_ok 7 (by decide)⟩
/-- SnailPost$Lantern.many -/
theorem fX5_50 {n : Nat} (k : Nat) : sn_Fc (LoN n) RX5 50 5 (csL k) 10 (0) false (tyX5 10) := ⟨RX5, TX5, 12, tyX5, in_X5, tyX5_ok, nmX5, rfl, by decide, rfl, q380, rfl, tyX5_ok 10 (by decide)⟩
/-- SnailPost.state -/
theorem fX5_64 {n : Nat} : sn_FcN (LoN n) RX5 64 0 csX0 2 (5) true (tyX0 2) := ⟨RX0, "SnailPost", TX0, 28, tyX0, in_X0, tyX0_ok, nmX0, rfl, by decide, rfl, fun w A U H h => h.1 ("SnailPost$Lantern", 64, "SnailPost", "state", "LSnailPost$State;", "SnailPost") (List.mem_of_getElem? (i := 53) rfl), rfl, tyX0_ok 2 (by decide)⟩
/-- SnailPost$State.spotMany -/
theorem fX5_68 {n : Nat} : sn_FcN (LoN n) RX5 68 1 csX1 9 (0) false (tyX1 9) := ⟨RX1, "SnailPost", TX1, 12, tyX1, in_X1, tyX1_ok, nmX1, rfl, by decide, rfl, fun w A U H h => h.1 ("SnailPost$Lantern", 68, "SnailPost$State", "spotMany", "I", "SnailPost") (List.mem_of_getElem? (i := 50) rfl), rfl, tyX1_ok 9 (by decide)⟩
/-- SnailPost$State.many -/
theorem fX5_83 {n : Nat} : sn_FcN (LoN n) RX5 83 1 csX1 8 (0) false (tyX1 8) := ⟨RX1, "SnailPost", TX1, 12, tyX1, in_X1, tyX1_ok, nmX1, rfl, by decide, rfl, fun w A U H h => h.1 ("SnailPost$Lantern", 83, "SnailPost$State", "many", "I", "SnailPost") (List.mem_of_getElem? (i := 49) rfl), rfl, tyX1_ok 8 (by decide)⟩
/-- SnailPost$Walk.came -/
theorem fX5_88 {n : Nat} (k : Nat) : sn_FcN (LoN n) RX5 88 4 (csW k) 1 (k + 2 + 3) true (tyX4 1) := ⟨RX4, "SnailPost", TX4, 6, tyX4, in_X4, tyX4_ok, nmX4, rfl, by decide, rfl, fun w A U H h => h.1 ("SnailPost$Lantern", 88, "SnailPost$Walk", "came", "[I", "SnailPost") (List.mem_of_getElem? (i := 52) rfl), rfl, tyX4_ok 1 (by decide)⟩
/-- SnailPost$Lantern.most -/
theorem fX5_91 {n : Nat} (k : Nat) : sn_Fc (LoN n) RX5 91 5 (csL k) 8 (0) false (tyX5 8) := ⟨RX5, TX5, 12, tyX5, in_X5, tyX5_ok, nmX5, rfl, by decide, rfl, q376, rfl, tyX5_ok 8 (by decide)⟩
/-- SnailPost$Lantern.least -/
theorem fX5_94 {n : Nat} (k : Nat) : sn_Fc (LoN n) RX5 94 5 (csL k) 9 (0) false (tyX5 9) := ⟨RX5, TX5, 12, tyX5, in_X5, tyX5_ok, nmX5, rfl, by decide, rfl, q378, rfl, tyX5_ok 9 (by decide)⟩
/-- SnailPost$Walk.cells -/
theorem fX5_103 {n : Nat} (k : Nat) : sn_FcN (LoN n) RX5 103 4 (csW k) 0 (k + 1 + 3) true (tyX4 0) := ⟨RX4, "SnailPost", TX4, 6, tyX4, in_X4, tyX4_ok, nmX4, rfl, by decide, rfl, fun w A U H h => h.1 ("SnailPost$Lantern", 103, "SnailPost$Walk", "cells", "[I", "SnailPost") (List.mem_of_getElem? (i := 51) rfl), rfl, tyX4_ok 0 (by decide)⟩
/-- SnailPost$Span.kept -/
theorem fX6_9 {n : Nat} : sn_Fc (LoN n) RX6 9 6 csX6 0 (94) true (tyX6 0) := ⟨RX6, TX6, 1, tyX6, in_X6, tyX6_ok, nmX6, rfl, by decide, rfl, q414, rfl, tyX6_ok 0 (by decide)⟩
/-- SnailPost$Shells.this$0 -/
theorem fX7_3 {n : Nat} : sn_Fc (LoN n) RX7 3 7 csX7 5 (3) true (tyX7 5) := ⟨RX7, TX7, 6, tyX7, in_X7, tyX7_ok, nmX7, rfl, by decide, rfl, q431, rfl, tyX7_ok 5 (by decide)⟩
/-- SnailPost$Shells.row -/
theorem fX7_15 {n : Nat} : sn_Fc (LoN n) RX7 15 7 csX7 0 (96) true (tyX7 0) := ⟨RX7, TX7, 6, tyX7, in_X7, tyX7_ok, nmX7, rfl, by decide, rfl, q424, rfl, tyX7_ok 0 (by decide)⟩
/-- SnailPost$Shells.words -/
theorem fX7_19 {n : Nat} : sn_Fc (LoN n) RX7 19 7 csX7 1 (0) false (tyX7 1) := ⟨RX7, TX7, 6, tyX7, in_X7, tyX7_ok, nmX7, rfl, by decide, rfl, q426, rfl, tyX7_ok 1 (by decide)⟩
/-- SnailPost$Shells.losses -/
theorem fX7_23 {n : Nat} : sn_Fc (LoN n) RX7 23 7 csX7 2 (0) false (tyX7 2) := ⟨RX7, TX7, 6, tyX7, in_X7, tyX7_ok, nmX7, rfl, by decide, rfl, q427, rfl, tyX7_ok 2 (by decide)⟩
/-- SnailPost$Shells.isFound -/
theorem fX7_26 {n : Nat} : sn_Fc (LoN n) RX7 26 7 csX7 4 (0) false (tyX7 4) := ⟨RX7, TX7, 6, tyX7, in_X7, tyX7_ok, nmX7, rfl, by decide, rfl, q430, rfl, tyX7_ok 4 (by decide)⟩
/-- SnailPost$Shells.size -/
theorem fX7_30 {n : Nat} : sn_Fc (LoN n) RX7 30 7 csX7 3 (0) false (tyX7 3) := ⟨RX7, TX7, 6, tyX7, in_X7, tyX7_ok, nmX7, rfl, by decide, rfl, q428, rfl, tyX7_ok 3 (by decide)⟩
/-- SnailPost.span -/
theorem fX7_51 {n : Nat} : sn_FcN (LoN n) RX7 51 0 csX0 21 (93) true (tyX0 21) := ⟨RX0, "SnailPost", TX0, 28, tyX0, in_X0, tyX0_ok, nmX0, rfl, by decide, rfl, fun w A U H h => h.1 ("SnailPost$Shells", 51, "SnailPost", "span", "LSnailPost$Span;", "SnailPost") (List.mem_of_getElem? (i := 55) rfl), rfl, tyX0_ok 21 (by decide)⟩
/-- SnailPost$Orders.this$0 -/
theorem fX8_3 {n : Nat} : sn_Fc (LoN n) RX8 3 8 csX8 7 (3) true (tyX8 7) := ⟨RX8, TX8, 8, tyX8, in_X8, tyX8_ok, nmX8, rfl, by decide, rfl, q463, rfl, tyX8_ok 7 (by decide)⟩
/-- SnailPost$Orders.row -/
theorem fX8_15 {n : Nat} : sn_Fc (LoN n) RX8 15 8 csX8 0 (98) true (tyX8 0) := ⟨RX8, TX8, 8, tyX8, in_X8, tyX8_ok, nmX8, rfl, by decide, rfl, q451, rfl, tyX8_ok 0 (by decide)⟩
/-- SnailPost$Orders.first -/
theorem fX8_19 {n : Nat} : sn_Fc (LoN n) RX8 19 8 csX8 1 (99) true (tyX8 1) := ⟨RX8, TX8, 8, tyX8, in_X8, tyX8_ok, nmX8, rfl, by decide, rfl, q452, rfl, tyX8_ok 1 (by decide)⟩
/-- SnailPost$Orders.ahead -/
theorem fX8_22 {n : Nat} : sn_Fc (LoN n) RX8 22 8 csX8 2 (100) true (tyX8 2) := ⟨RX8, TX8, 8, tyX8, in_X8, tyX8_ok, nmX8, rfl, by decide, rfl, q454, rfl, tyX8_ok 2 (by decide)⟩
/-- SnailPost$Orders.made -/
theorem fX8_25 {n : Nat} : sn_Fc (LoN n) RX8 25 8 csX8 3 (0) false (tyX8 3) := ⟨RX8, TX8, 8, tyX8, in_X8, tyX8_ok, nmX8, rfl, by decide, rfl, q456, rfl, tyX8_ok 3 (by decide)⟩
/-- SnailPost.version -/
theorem fX8_29 {n : Nat} : sn_FcN (LoN n) RX8 29 0 csX0 8 (0) false (tyX0 8) := ⟨RX0, "SnailPost", TX0, 28, tyX0, in_X0, tyX0_ok, nmX0, rfl, by decide, rfl, fun w A U H h => h.1 ("SnailPost$Orders", 29, "SnailPost", "version", "I", "SnailPost") (List.mem_of_getElem? (i := 60) rfl), rfl, tyX0_ok 8 (by decide)⟩
/-- SnailPost$Orders.many -/
theorem fX8_32 {n : Nat} : sn_Fc (LoN n) RX8 32 8 csX8 4 (0) false (tyX8 4) := ⟨RX8, TX8, 8, tyX8, in_X8, tyX8_ok, nmX8, rfl, by decide, rfl, q457, rfl, tyX8_ok 4 (by decide)⟩
/-- SnailPost$Orders.firsts -/
theorem fX8_35 {n : Nat} : sn_Fc (LoN n) RX8 35 8 csX8 5 (0) false (tyX8 5) := ⟨RX8, TX8, 8, tyX8, in_X8, tyX8_ok, nmX8, rfl, by decide, rfl, q459, rfl, tyX8_ok 5 (by decide)⟩
/-- SnailPost$Orders.lasts -/
theorem fX8_38 {n : Nat} : sn_Fc (LoN n) RX8 38 8 csX8 6 (0) false (tyX8 6) := ⟨RX8, TX8, 8, tyX8, in_X8, tyX8_ok, nmX8, rfl, by decide, rfl, q461, rfl, tyX8_ok 6 (by decide)⟩
/-- SnailPost.state -/
theorem fX8_45 {n : Nat} : sn_FcN (LoN n) RX8 45 0 csX0 2 (5) true (tyX0 2) := ⟨RX0, "SnailPost", TX0, 28, tyX0, in_X0, tyX0_ok, nmX0, rfl, by decide, rfl, fun w A U H h => h.1 ("SnailPost$Orders", 45, "SnailPost", "state", "LSnailPost$State;", "SnailPost") (List.mem_of_getElem? (i := 59) rfl), rfl, tyX0_ok 2 (by decide)⟩
/-- SnailPost$State.many -/
theorem fX8_49 {n : Nat} : sn_FcN (LoN n) RX8 49 1 csX1 8 (0) false (tyX1 8) := ⟨RX1, "SnailPost", TX1, 12, tyX1, in_X1, tyX1_ok, nmX1, rfl, by decide, rfl, fun w A U H h => h.1 ("SnailPost$Orders", 49, "SnailPost$State", "many", "I", "SnailPost") (List.mem_of_getElem? (i := 57) rfl), rfl, tyX1_ok 8 (by decide)⟩
/-- SnailPost$State.crossMany -/
theorem fX8_62 {n : Nat} : sn_FcN (LoN n) RX8 62 1 csX1 10 (0) false (tyX1 10) := ⟨RX1, "SnailPost", TX1, 12, tyX1, in_X1, tyX1_ok, nmX1, rfl, by decide, rfl, fun w A U H h => h.1 ("SnailPost$Orders", 62, "SnailPost$State", "crossMany", "I", "SnailPost") (List.mem_of_getElem? (i := 58) rfl), rfl, tyX1_ok 10 (by decide)⟩
/-- SnailPost$State.crossings -/
theorem fX8_65 {n : Nat} : sn_FcN (LoN n) RX8 65 1 csX1 5 (11) true (tyX1 5) := ⟨RX1, "SnailPost", TX1, 12, tyX1, in_X1, tyX1_ok, nmX1, rfl, by decide, rfl, fun w A U H h => h.1 ("SnailPost$Orders", 65, "SnailPost$State", "crossings", "[I", "SnailPost") (List.mem_of_getElem? (i := 56) rfl), rfl, tyX1_ok 5 (by decide)⟩
/-- SnailPostModel.refusals -/
theorem fX9_7 {n : Nat} : sn_Fc (LoN n) RX9 7 20 csX9 2 (2) true (tyX9 2) := ⟨RX9, TX9, 60, tyX9, in_X9, tyX9_ok, nmX9, rfl, by decide, rfl, q1455, rfl, tyX9_ok 2 (by decide)⟩
/-- SnailPostModel.row -/
theorem fX9_13 {n : Nat} : sn_Fc (LoN n) RX9 13 20 csX9 3 (2) true (tyX9 3) := ⟨RX9, TX9, 60, tyX9, in_X9, tyX9_ok, nmX9, rfl, by decide, rfl, q1456, rfl, tyX9_ok 3 (by decide)⟩
/-- SnailPostModel.images -/
theorem fX9_16 {n : Nat} : sn_Fc (LoN n) RX9 16 20 csX9 4 (2) true (tyX9 4) := ⟨RX9, TX9, 60, tyX9, in_X9, tyX9_ok, nmX9, rfl, by decide, rfl, q1457, rfl, tyX9_ok 4 (by decide)⟩
/-- SnailPostModel.isKept -/
theorem fX9_19 {n : Nat} : sn_Fc (LoN n) RX9 19 20 csX9 5 (2) true (tyX9 5) := ⟨RX9, TX9, 60, tyX9, in_X9, tyX9_ok, nmX9, rfl, by decide, rfl, q1458, rfl, tyX9_ok 5 (by decide)⟩
/-- SnailPostModel.tape -/
theorem fX9_23 {n : Nat} : sn_Fc (LoN n) RX9 23 20 csX9 7 (2) true (tyX9 7) := ⟨RX9, TX9, 60, tyX9, in_X9, tyX9_ok, nmX9, rfl, by decide, rfl, q1460, rfl, tyX9_ok 7 (by decide)⟩
/-- SnailPostModel.fault -/
theorem fX9_26 {n : Nat} : sn_Fc (LoN n) RX9 26 20 csX9 13 (0) false (tyX9 13) := ⟨RX9, TX9, 60, tyX9, in_X9, tyX9_ok, nmX9, rfl, by decide, rfl, q1466, rfl, tyX9_ok 13 (by decide)⟩
/-- SnailPostModel.nClause -/
theorem fX9_30 {n : Nat} : sn_Fc (LoN n) RX9 30 20 csX9 16 (2) true (tyX9 16) := ⟨RX9, TX9, 60, tyX9, in_X9, tyX9_ok, nmX9, rfl, by decide, rfl, q1469, rfl, tyX9_ok 16 (by decide)⟩
/-- SnailPostModel.nOp -/
theorem fX9_33 {n : Nat} : sn_Fc (LoN n) RX9 33 20 csX9 18 (2) true (tyX9 18) := ⟨RX9, TX9, 60, tyX9, in_X9, tyX9_ok, nmX9, rfl, by decide, rfl, q1471, rfl, tyX9_ok 18 (by decide)⟩
/-- SnailPostModel.nArg -/
theorem fX9_36 {n : Nat} : sn_Fc (LoN n) RX9 36 20 csX9 19 (2) true (tyX9 19) := ⟨RX9, TX9, 60, tyX9, in_X9, tyX9_ok, nmX9, rfl, by decide, rfl, q1472, rfl, tyX9_ok 19 (by decide)⟩
/-- SnailPostModel.pile -/
theorem fX9_39 {n : Nat} : sn_Fc (LoN n) RX9 39 20 csX9 21 (2) true (tyX9 21) := ⟨RX9, TX9, 60, tyX9, in_X9, tyX9_ok, nmX9, rfl, by decide, rfl, q1474, rfl, tyX9_ok 21 (by decide)⟩
/-- SnailPostModel.pileAt -/
theorem fX9_42 {n : Nat} : sn_Fc (LoN n) RX9 42 20 csX9 22 (2) true (tyX9 22) := ⟨RX9, TX9, 60, tyX9, in_X9, tyX9_ok, nmX9, rfl, by decide, rfl, q1475, rfl, tyX9_ok 22 (by decide)⟩
/-- SnailPostModel.words -/
theorem fX9_65 {n : Nat} : sn_Fc (LoN n) RX9 65 20 csX9 25 (2) true (tyX9 25) := ⟨RX9, TX9, 60, tyX9, in_X9, tyX9_ok, nmX9, rfl, by decide, rfl, q1478, rfl, tyX9_ok 25 (by decide)⟩
/-- SnailPostModel.headWords -/
theorem fX9_75 {n : Nat} : sn_Fc (LoN n) RX9 75 20 csX9 26 (2) true (tyX9 26) := ⟨RX9, TX9, 60, tyX9, in_X9, tyX9_ok, nmX9, rfl, by decide, rfl, q1479, rfl, tyX9_ok 26 (by decide)⟩
/-- SnailPostModel.set -/
theorem fX9_78 {n : Nat} : sn_Fc (LoN n) RX9 78 20 csX9 28 (2) true (tyX9 28) := ⟨RX9, TX9, 60, tyX9, in_X9, tyX9_ok, nmX9, rfl, by decide, rfl, q1481, rfl, tyX9_ok 28 (by decide)⟩
/-- SnailPostModel.rest -/
theorem fX9_81 {n : Nat} : sn_Fc (LoN n) RX9 81 20 csX9 29 (2) true (tyX9 29) := ⟨RX9, TX9, 60, tyX9, in_X9, tyX9_ok, nmX9, rfl, by decide, rfl, q1482, rfl, tyX9_ok 29 (by decide)⟩
/-- SnailPostModel.at -/
theorem fX9_84 {n : Nat} : sn_Fc (LoN n) RX9 84 20 csX9 33 (2) true (tyX9 33) := ⟨RX9, TX9, 60, tyX9, in_X9, tyX9_ok, nmX9, rfl, by decide, rfl, q1486, rfl, tyX9_ok 33 (by decide)⟩
/-- SnailPostModel.came -/
theorem fX9_87 {n : Nat} : sn_Fc (LoN n) RX9 87 20 csX9 34 (2) true (tyX9 34) := ⟨RX9, TX9, 60, tyX9, in_X9, tyX9_ok, nmX9, rfl, by decide, rfl, q1487, rfl, tyX9_ok 34 (by decide)⟩
/-- SnailPostModel.eaten -/
theorem fX9_90 {n : Nat} : sn_Fc (LoN n) RX9 90 20 csX9 35 (2) true (tyX9 35) := ⟨RX9, TX9, 60, tyX9, in_X9, tyX9_ok, nmX9, rfl, by decide, rfl, q1488, rfl, tyX9_ok 35 (by decide)⟩
/-- SnailPostModel.been -/
theorem fX9_93 {n : Nat} : sn_Fc (LoN n) RX9 93 20 csX9 36 (2) true (tyX9 36) := ⟨RX9, TX9, 60, tyX9, in_X9, tyX9_ok, nmX9, rfl, by decide, rfl, q1489, rfl, tyX9_ok 36 (by decide)⟩
/-- SnailPostModel.stayed -/
theorem fX9_96 {n : Nat} : sn_Fc (LoN n) RX9 96 20 csX9 37 (2) true (tyX9 37) := ⟨RX9, TX9, 60, tyX9, in_X9, tyX9_ok, nmX9, rfl, by decide, rfl, q1490, rfl, tyX9_ok 37 (by decide)⟩
/-- SnailPostModel.places -/
theorem fX9_99 {n : Nat} : sn_Fc (LoN n) RX9 99 20 csX9 38 (2) true (tyX9 38) := ⟨RX9, TX9, 60, tyX9, in_X9, tyX9_ok, nmX9, rfl, by decide, rfl, q1491, rfl, tyX9_ok 38 (by decide)⟩
/-- SnailPostModel.keptAt -/
theorem fX9_102 {n : Nat} : sn_Fc (LoN n) RX9 102 20 csX9 39 (2) true (tyX9 39) := ⟨RX9, TX9, 60, tyX9, in_X9, tyX9_ok, nmX9, rfl, by decide, rfl, q1492, rfl, tyX9_ok 39 (by decide)⟩
/-- SnailPostModel.keptCame -/
theorem fX9_105 {n : Nat} : sn_Fc (LoN n) RX9 105 20 csX9 40 (2) true (tyX9 40) := ⟨RX9, TX9, 60, tyX9, in_X9, tyX9_ok, nmX9, rfl, by decide, rfl, q1493, rfl, tyX9_ok 40 (by decide)⟩
/-- SnailPostModel.keptBeen -/
theorem fX9_108 {n : Nat} : sn_Fc (LoN n) RX9 108 20 csX9 41 (2) true (tyX9 41) := ⟨RX9, TX9, 60, tyX9, in_X9, tyX9_ok, nmX9, rfl, by decide, rfl, q1494, rfl, tyX9_ok 41 (by decide)⟩
/-- SnailPostModel.tried -/
theorem fX9_111 {n : Nat} : sn_Fc (LoN n) RX9 111 20 csX9 42 (2) true (tyX9 42) := ⟨RX9, TX9, 60, tyX9, in_X9, tyX9_ok, nmX9, rfl, by decide, rfl, q1495, rfl, tyX9_ok 42 (by decide)⟩
/-- SnailPostModel.chosen -/
theorem fX9_114 {n : Nat} : sn_Fc (LoN n) RX9 114 20 csX9 43 (2) true (tyX9 43) := ⟨RX9, TX9, 60, tyX9, in_X9, tyX9_ok, nmX9, rfl, by decide, rfl, q1496, rfl, tyX9_ok 43 (by decide)⟩
/-- SnailPostModel.bests -/
theorem fX9_117 {n : Nat} : sn_Fc (LoN n) RX9 117 20 csX9 47 (2) true (tyX9 47) := ⟨RX9, TX9, 60, tyX9, in_X9, tyX9_ok, nmX9, rfl, by decide, rfl, q1500, rfl, tyX9_ok 47 (by decide)⟩
/-- SnailPostModel.firsts -/
theorem fX9_120 {n : Nat} : sn_Fc (LoN n) RX9 120 20 csX9 48 (2) true (tyX9 48) := ⟨RX9, TX9, 60, tyX9, in_X9, tyX9_ok, nmX9, rfl, by decide, rfl, q1501, rfl, tyX9_ok 48 (by decide)⟩
/-- SnailPostModel.trying -/
theorem fX9_123 {n : Nat} : sn_Fc (LoN n) RX9 123 20 csX9 49 (2) true (tyX9 49) := ⟨RX9, TX9, 60, tyX9, in_X9, tyX9_ok, nmX9, rfl, by decide, rfl, q1502, rfl, tyX9_ok 49 (by decide)⟩
/-- SnailPostModel.steps -/
theorem fX9_126 {n : Nat} : sn_Fc (LoN n) RX9 126 20 csX9 50 (2) true (tyX9 50) := ⟨RX9, TX9, 60, tyX9, in_X9, tyX9_ok, nmX9, rfl, by decide, rfl, q1503, rfl, tyX9_ok 50 (by decide)⟩
/-- SnailPostModel.shells -/
theorem fX9_129 {n : Nat} : sn_Fc (LoN n) RX9 129 20 csX9 51 (2) true (tyX9 51) := ⟨RX9, TX9, 60, tyX9, in_X9, tyX9_ok, nmX9, rfl, by decide, rfl, q1504, rfl, tyX9_ok 51 (by decide)⟩
/-- SnailPostModel.waysTo -/
theorem fX9_132 {n : Nat} : sn_Fc (LoN n) RX9 132 20 csX9 52 (2) true (tyX9 52) := ⟨RX9, TX9, 60, tyX9, in_X9, tyX9_ok, nmX9, rfl, by decide, rfl, q1505, rfl, tyX9_ok 52 (by decide)⟩
/-- SnailPostModel.waysOn -/
theorem fX9_135 {n : Nat} : sn_Fc (LoN n) RX9 135 20 csX9 53 (2) true (tyX9 53) := ⟨RX9, TX9, 60, tyX9, in_X9, tyX9_ok, nmX9, rfl, by decide, rfl, q1506, rfl, tyX9_ok 53 (by decide)⟩
/-- SnailPostModel.waysAhead -/
theorem fX9_138 {n : Nat} : sn_Fc (LoN n) RX9 138 20 csX9 54 (2) true (tyX9 54) := ⟨RX9, TX9, 60, tyX9, in_X9, tyX9_ok, nmX9, rfl, by decide, rfl, q1507, rfl, tyX9_ok 54 (by decide)⟩
/-- SnailPostModel.eatenBehind -/
theorem fX9_141 {n : Nat} : sn_Fc (LoN n) RX9 141 20 csX9 56 (2) true (tyX9 56) := ⟨RX9, TX9, 60, tyX9, in_X9, tyX9_ok, nmX9, rfl, by decide, rfl, q1509, rfl, tyX9_ok 56 (by decide)⟩
/-- SnailPostModel.endCame -/
theorem fX9_144 {n : Nat} : sn_Fc (LoN n) RX9 144 20 csX9 57 (2) true (tyX9 57) := ⟨RX9, TX9, 60, tyX9, in_X9, tyX9_ok, nmX9, rfl, by decide, rfl, q1510, rfl, tyX9_ok 57 (by decide)⟩
/-- SnailPostModel.endAt -/
theorem fX9_147 {n : Nat} : sn_Fc (LoN n) RX9 147 20 csX9 58 (2) true (tyX9 58) := ⟨RX9, TX9, 60, tyX9, in_X9, tyX9_ok, nmX9, rfl, by decide, rfl, q1511, rfl, tyX9_ok 58 (by decide)⟩
theorem kc_m1 : Int32.ofInt (-1) = (-1) := by decide
theorem kc_0 : Int32.ofInt 0 = 0 := by decide
theorem kc_1 : Int32.ofInt 1 = 1 := by decide
theorem kc_2 : Int32.ofInt 2 = 2 := by decide
theorem kc_3 : Int32.ofInt 3 = 3 := by decide
theorem kc_4 : Int32.ofInt 4 = 4 := by decide
theorem kc_5 : Int32.ofInt 5 = 5 := by decide
theorem kb_m6 : (Int8.ofInt (-6)).toInt32 = (-6) := by decide
theorem kb_m5 : (Int8.ofInt (-5)).toInt32 = (-5) := by decide
theorem kb_m3 : (Int8.ofInt (-3)).toInt32 = (-3) := by decide
theorem kb_m2 : (Int8.ofInt (-2)).toInt32 = (-2) := by decide
theorem kb_6 : (Int8.ofInt 6).toInt32 = 6 := by decide
theorem kb_7 : (Int8.ofInt 7).toInt32 = 7 := by decide
theorem kb_8 : (Int8.ofInt 8).toInt32 = 8 := by decide
theorem kb_9 : (Int8.ofInt 9).toInt32 = 9 := by decide
theorem kb_10 : (Int8.ofInt 10).toInt32 = 10 := by decide
theorem kb_11 : (Int8.ofInt 11).toInt32 = 11 := by decide
theorem kb_12 : (Int8.ofInt 12).toInt32 = 12 := by decide
theorem kb_13 : (Int8.ofInt 13).toInt32 = 13 := by decide
theorem kb_16 : (Int8.ofInt 16).toInt32 = 16 := by decide
theorem kb_20 : (Int8.ofInt 20).toInt32 = 20 := by decide
theorem kb_24 : (Int8.ofInt 24).toInt32 = 24 := by decide
theorem kb_31 : (Int8.ofInt 31).toInt32 = 31 := by decide
theorem kb_32 : (Int8.ofInt 32).toInt32 = 32 := by decide
theorem kb_36 : (Int8.ofInt 36).toInt32 = 36 := by decide
theorem kb_42 : (Int8.ofInt 42).toInt32 = 42 := by decide
theorem kb_43 : (Int8.ofInt 43).toInt32 = 43 := by decide
theorem kb_45 : (Int8.ofInt 45).toInt32 = 45 := by decide
theorem kb_47 : (Int8.ofInt 47).toInt32 = 47 := by decide
theorem kb_48 : (Int8.ofInt 48).toInt32 = 48 := by decide
theorem kb_50 : (Int8.ofInt 50).toInt32 = 50 := by decide
theorem kb_57 : (Int8.ofInt 57).toInt32 = 57 := by decide
theorem kb_59 : (Int8.ofInt 59).toInt32 = 59 := by decide
theorem kb_60 : (Int8.ofInt 60).toInt32 = 60 := by decide
theorem kb_62 : (Int8.ofInt 62).toInt32 = 62 := by decide
theorem kb_63 : (Int8.ofInt 63).toInt32 = 63 := by decide
theorem kb_64 : (Int8.ofInt 64).toInt32 = 64 := by decide
theorem kb_84 : (Int8.ofInt 84).toInt32 = 84 := by decide
theorem kb_95 : (Int8.ofInt 95).toInt32 = 95 := by decide
theorem kb_96 : (Int8.ofInt 96).toInt32 = 96 := by decide
theorem kb_97 : (Int8.ofInt 97).toInt32 = 97 := by decide
theorem kb_100 : (Int8.ofInt 100).toInt32 = 100 := by decide
theorem kb_122 : (Int8.ofInt 122).toInt32 = 122 := by decide
theorem ki_m16 : Int32.ofInt (-16) = (-16) := by decide
theorem ki_m8 : Int32.ofInt (-8) = (-8) := by decide
theorem ki_m4 : Int32.ofInt (-4) = (-4) := by decide
theorem ki_m2 : Int32.ofInt (-2) = (-2) := by decide
theorem ki_m1 : Int32.ofInt (-1) = (-1) := by decide
theorem ki_1 : Int32.ofInt 1 = 1 := by decide
theorem ki_2 : Int32.ofInt 2 = 2 := by decide
theorem ki_4 : Int32.ofInt 4 = 4 := by decide
theorem ki_8 : Int32.ofInt 8 = 8 := by decide
theorem ki_16 : Int32.ofInt 16 = 16 := by decide
theorem ks_200 : (Int16.ofInt 200).toInt32 = 200 := by decide
theorem ks_255 : (Int16.ofInt 255).toInt32 = 255 := by decide
theorem ks_256 : (Int16.ofInt 256).toInt32 = 256 := by decide
theorem ks_360 : (Int16.ofInt 360).toInt32 = 360 := by decide
theorem ks_400 : (Int16.ofInt 400).toInt32 = 400 := by decide
theorem ks_576 : (Int16.ofInt 576).toInt32 = 576 := by decide
theorem ks_1000 : (Int16.ofInt 1000).toInt32 = 1000 := by decide
theorem ks_5680 : (Int16.ofInt 5680).toInt32 = 5680 := by decide
theorem ks_11360 : (Int16.ofInt 11360).toInt32 = 11360 := by decide
theorem ciJ1_1 : sn_Ci RJ1 1 yJ0_init cJ0_init 1 0 := ⟨lw_meth q164, q105, q162, q163, rfl, by decide +kernel⟩
theorem csJ11_300 : sn_Cs RJ11 300 yJ11_copyOf_2 cJ11_copyOf_2 4 (some (.array (.object "java/lang/Object"))) 3 := ⟨lw_S q641 q642 q135 q643, by decide +kernel⟩
theorem csJ13_105 : sn_Cs RJ13 105 yJ7_checkIndex cJ7_checkIndex 3 (some .int) 3 := ⟨lw_S q1156 q849 q121 q850, by decide +kernel⟩
theorem ciJ2_1 : sn_Ci RJ2 1 yJ1_init cJ1_init 1 0 := ⟨lw_meth q161, q106, q159, q160, rfl, by decide +kernel⟩
theorem cfJ2_42 {n : Nat} : sn_CvF (LoN n) RJ2 42 ⟨"java/util/Collection", "toArray", "()[Ljava/lang/Object;"⟩ yJ2_toArray cJ2_toArray 1 (some (.array (.object "java/lang/Object"))) 0 9 := ⟨RJ2, TJ2, 3, lw_app (fun v hv => by simp only [List.mem_cons, List.not_mem_nil, or_false] at hv; rcases hv with rfl | rfl | rfl | rfl; exact q604; exact q608; exact q610; exact q107) (lw_meth q612), fun w A U H h => h.2.2.2.2.2.2.2.2.2.2.2.2, rfl, by decide +kernel⟩
theorem csJ2_66 : sn_Cs RJ2 66 yJ11_copyOf cJ11_copyOf 2 (some (.array (.object "java/lang/Object"))) 2 := ⟨lw_S q613 q614 q135 q615, by decide +kernel⟩
theorem cvJ2_69 {n : Nat} : sn_Cv (LoN n) RJ2 69 yJ2_grow cJ2_grow 4 (some (.array (.object "java/lang/Object"))) 1 9 := ⟨RJ2, TJ2, 3, lw_V q650 q652 qs2 q107 q653, rfl, by decide +kernel⟩
theorem csJ2_73 : sn_Cs RJ2 73 yJ9_newLength cJ9_newLength 4 (some .int) 3 := ⟨lw_S q656 q657 q133 q658, by decide +kernel⟩
theorem csJ2_118 : sn_Cs RJ2 118 yJ13_checkIndex cJ13_checkIndex 2 (some .int) 2 := ⟨lw_S q1153 q1154 q139 q1155, by decide +kernel⟩
theorem cvJ2_123 {n : Nat} : sn_Cv (LoN n) RJ2 123 yJ2_elementData cJ2_elementData 2 (some (.object "java/lang/Object")) 1 9 := ⟨RJ2, TJ2, 3, lw_V q1157 q1158 q1159 q107 q1160, rfl, by decide +kernel⟩
theorem cvJ2_129 {n : Nat} : sn_Cv (LoN n) RJ2 129 yJ2_grow_2 cJ2_grow_2 1 (some (.array (.object "java/lang/Object"))) 0 9 := ⟨RJ2, TJ2, 3, lw_V q1079 q1081 qs28 q107 q1082, rfl, by decide +kernel⟩
theorem cvJ2_131 {n : Nat} : sn_Cv (LoN n) RJ2 131 yJ2_add_2 cJ2_add_2 4 none 3 9 := ⟨RJ2, TJ2, 3, lw_V q1075 q1077 qs27 q107 q1078, rfl, by decide +kernel⟩
theorem ciJ4_16 : sn_Ci RJ4 16 yJ3_init_2 cJ3_init_2 5 4 := ⟨lw_meth q298, q109, q296, q297, rfl, by decide +kernel⟩
theorem ctJ5_335 : sn_CvT RJ5 335 yJ5_coder cJ5_coder 1 (some .byte) 0 := ⟨lw_V q826 q827 q828 q119 q829, by decide +kernel⟩
theorem ctJ5_492 : sn_CvT RJ5 492 yJ5_isLatin1 cJ5_isLatin1 1 (some .boolean) 0 := ⟨lw_V q836 q837 q838 q119 q839, by decide +kernel⟩
theorem csJ5_495 : sn_Cs RJ5 495 yJ6_charAt cJ6_charAt 2 (some .char) 2 := ⟨lw_S q840 q841 q120 q842, by decide +kernel⟩
theorem csJ5_1059 : sn_Cs RJ5 1059 yJ7_checkIndex cJ7_checkIndex 3 (some .int) 3 := ⟨lw_S q848 q849 q121 q850, by decide +kernel⟩
theorem csJ6_9 : sn_Cs RJ6 9 yJ5_checkIndex cJ5_checkIndex 2 none 2 := ⟨lw_S q843 q844 q119 q845, by decide +kernel⟩
theorem ciX0_15 {n : Nat} : sn_CiN (LoN n) RX0 15 yX1_init cX1_init 1 0 := ⟨"SnailPost", lw_meth q152, q104, q151, rfl, fun w A U H h => h.2.1 ("SnailPost", 15, ⟨"SnailPost$State", "<init>", "()V"⟩, "SnailPost") (List.mem_of_getElem? (i := 0) rfl), by decide +kernel⟩
theorem ciX0_34 {n : Nat} : sn_CiN (LoN n) RX0 34 yX2_init cX2_init 1 0 := ⟨"SnailPost", lw_meth q250, q108, q249, rfl, fun w A U H h => h.2.1 ("SnailPost", 34, ⟨"SnailPost$Setting", "<init>", "()V"⟩, "SnailPost") (List.mem_of_getElem? (i := 1) rfl), by decide +kernel⟩
theorem ciX0_44 {n : Nat} : sn_CiN (LoN n) RX0 44 yX4_init cX4_init 2 1 := ⟨"SnailPost", lw_meth q328, q112, q327, rfl, fun w A U H h => h.2.1 ("SnailPost", 44, ⟨"SnailPost$Walk", "<init>", "(LSnailPost;)V"⟩, "SnailPost") (List.mem_of_getElem? (i := 2) rfl), by decide +kernel⟩
theorem ciX0_59 {n : Nat} : sn_CiN (LoN n) RX0 59 yX5_init cX5_init 2 1 := ⟨"SnailPost", lw_meth q360, q113, q359, rfl, fun w A U H h => h.2.1 ("SnailPost", 59, ⟨"SnailPost$Lantern", "<init>", "(LSnailPost;)V"⟩, "SnailPost") (List.mem_of_getElem? (i := 3) rfl), by decide +kernel⟩
theorem ciX0_72 {n : Nat} : sn_CiN (LoN n) RX0 72 yX6_init cX6_init 1 0 := ⟨"SnailPost", lw_meth q412, q114, q411, rfl, fun w A U H h => h.2.1 ("SnailPost", 72, ⟨"SnailPost$Span", "<init>", "()V"⟩, "SnailPost") (List.mem_of_getElem? (i := 4) rfl), by decide +kernel⟩
theorem ciX0_79 {n : Nat} : sn_CiN (LoN n) RX0 79 yX7_init cX7_init 2 1 := ⟨"SnailPost", lw_meth q422, q115, q421, rfl, fun w A U H h => h.2.1 ("SnailPost", 79, ⟨"SnailPost$Shells", "<init>", "(LSnailPost;)V"⟩, "SnailPost") (List.mem_of_getElem? (i := 5) rfl), by decide +kernel⟩
theorem ciX0_86 {n : Nat} : sn_CiN (LoN n) RX0 86 yX8_init cX8_init 2 1 := ⟨"SnailPost", lw_meth q449, q116, q448, rfl, fun w A U H h => h.2.1 ("SnailPost", 86, ⟨"SnailPost$Orders", "<init>", "(LSnailPost;)V"⟩, "SnailPost") (List.mem_of_getElem? (i := 6) rfl), by decide +kernel⟩
theorem csX0_100 : sn_Cs RX0 100 yJ12_bitCount cJ12_bitCount 1 (some .int) 1 := ⟨lw_S q1143 q1144 q138 q1145, by decide +kernel⟩
theorem cvX0_109 {n : Nat} : sn_Cv (LoN n) RX0 109 yX0_done cX0_done 2 (some .int) 1 0 := ⟨RX0, TX0, 28, lw_V q668 q670 qs3 q103 q671, rfl, by decide +kernel⟩
theorem csX0_112 : sn_Cs RX0 112 yX0_in cX0_in 3 (some .boolean) 3 := ⟨lw_S q578 q579 q103 q580, by decide +kernel⟩
theorem cvX0_122 {n : Nat} : sn_Cv (LoN n) RX0 122 yX0_refuse cX0_refuse 2 (some .int) 1 0 := ⟨RX0, TX0, 28, lw_V q581 q583 qs1 q103 q584, rfl, by decide +kernel⟩
theorem cvX0_125 {n : Nat} : sn_Cv (LoN n) RX0 125 yX1_takes cX1_takes 2 none 1 1 := ⟨RX1, TX1, 12, lw_V q585 q586 q587 q104 q588, rfl, by decide +kernel⟩
theorem cvX0_129 {n : Nat} : sn_Cv (LoN n) RX0 129 yX0_told cX0_told 2 (some .int) 1 0 := ⟨RX0, TX0, 28, lw_V q676 q678 qs4 q103 q679, rfl, by decide +kernel⟩
theorem csX0_132 : sn_Cs RX0 132 yX0_isCell cX0_isCell 1 (some .boolean) 1 := ⟨lw_S q684 q685 q103 q686, by decide +kernel⟩
theorem cvX0_139 {n : Nat} : sn_Cv (LoN n) RX0 139 yX0_replaces cX0_replaces 5 (some .int) 3 0 := ⟨RX0, TX0, 28, lw_V q687 q689 qs5 q103 q690, rfl, by decide +kernel⟩
theorem cvX0_143 {n : Nat} : sn_Cv (LoN n) RX0 143 yX0_of0 cX0_of0 3 (some .int) 2 0 := ⟨RX0, TX0, 28, lw_V q699 q701 qs7 q103 q702, rfl, by decide +kernel⟩
theorem cvX0_147 {n : Nat} : sn_Cv (LoN n) RX0 147 yX0_isNeeded cX0_isNeeded 3 (some .boolean) 1 0 := ⟨RX0, TX0, 28, lw_V q695 q697 qs6 q103 q698, rfl, by decide +kernel⟩
theorem csX0_154 : sn_Cs RX0 154 yX0_isFact cX0_isFact 2 (some .boolean) 2 := ⟨lw_S q711 q712 q103 q713, by decide +kernel⟩
theorem cvX0_158 {n : Nat} : sn_Cv (LoN n) RX0 158 yX0_isSnail cX0_isSnail 2 (some .boolean) 1 0 := ⟨RX0, TX0, 28, lw_V q718 q720 qs8 q103 q721, rfl, by decide +kernel⟩
theorem csX0_167 : sn_Cs RX0 167 yX0_isHour cX0_isHour 1 (some .boolean) 1 := ⟨lw_S q734 q735 q103 q736, by decide +kernel⟩
theorem cvX0_179 {n : Nat} : sn_Cv (LoN n) RX0 179 yX0_four cX0_four 3 none 1 0 := ⟨RX0, TX0, 28, lw_V q745 q747 qs9 q103 q748, rfl, by decide +kernel⟩
theorem cvX0_190 {n : Nat} : sn_Cv (LoN n) RX0 190 yJ2_size cJ2_size 1 (some .int) 0 9 := ⟨RJ2, TJ2, 3, lw_V q766 q767 q768 q107 q769, rfl, by decide +kernel⟩
theorem ciX0_198 : sn_Ci RX0 198 yX10_init cX10_init 3 2 := ⟨lw_meth q774, q118, q772, q773, rfl, by decide +kernel⟩
theorem cvX0_201 {n : Nat} : sn_Cv (LoN n) RX0 201 yX10_read cX10_read 1 none 0 10 := ⟨RX10, TX10, 7, lw_V q801 q802 q803 q118 q804, rfl, by decide +kernel⟩
theorem ciX0_214 : sn_Ci RX0 214 yX21_init cX21_init 2 1 := ⟨lw_meth q1089, q137, q1087, q1088, rfl, by decide +kernel⟩
theorem cvX0_217 {n : Nat} : sn_Cv (LoN n) RX0 217 yJ2_add cJ2_add 2 (some .boolean) 1 9 := ⟨RJ2, TJ2, 3, lw_V q1095 q1072 q1073 q107 q1074, rfl, by decide +kernel⟩
theorem cvX0_229 {n : Nat} : sn_Cv (LoN n) RX0 229 yX4_begins cX4_begins 2 none 0 4 := ⟨RX4, TX4, 6, lw_V q1112 q1113 q1114 q112 q1115, rfl, by decide +kernel⟩
theorem cvX0_232 {n : Nat} : sn_Cv (LoN n) RX0 232 yX4_minute cX4_minute 6 none 2 4 := ⟨RX4, TX4, 6, lw_V q1117 q1118 q1119 q112 q1120, rfl, by decide +kernel⟩
theorem cvX0_245 {n : Nat} : sn_Cv (LoN n) RX0 245 yX0_looks cX0_looks 2 none 0 0 := ⟨RX0, TX0, 28, lw_V q1108 q1110 qs29 q103 q1111, rfl, by decide +kernel⟩
theorem cvX0_257 {n : Nat} : sn_Cv (LoN n) RX0 257 yX0_everyone cX0_everyone 1 (some .int) 0 0 := ⟨RX0, TX0, 28, lw_V q1234 q1236 qs35 q103 q1237, rfl, by decide +kernel⟩
theorem cvX0_260 {n : Nat} : sn_Cv (LoN n) RX0 260 yX0_isBest cX0_isBest 3 (some .boolean) 2 0 := ⟨RX0, TX0, 28, lw_V q1230 q1232 qs34 q103 q1233, rfl, by decide +kernel⟩
theorem cvX0_263 {n : Nat} : sn_Cv (LoN n) RX0 263 yX5_looks cX5_looks 3 none 2 5 := ⟨RX5, TX5, 12, lw_V q1238 q1239 q1240 q113 q1241, rfl, by decide +kernel⟩
theorem cvX0_285 {n : Nat} : sn_Cv (LoN n) RX0 285 yX5_duel cX5_duel 7 (some .int) 3 5 := ⟨RX5, TX5, 12, lw_V q1275 q1276 q1277 q113 q1278, rfl, by decide +kernel⟩
theorem cvX0_298 {n : Nat} : sn_Cv (LoN n) RX0 298 yX6_clears cX6_clears 2 none 0 6 := ⟨RX6, TX6, 1, lw_V q1290 q1291 q1292 q114 q1293, rfl, by decide +kernel⟩
theorem csX0_301 : sn_Cs RX0 301 yX0_isOf cX0_isOf 2 (some .boolean) 2 := ⟨lw_S q1294 q1122 q103 q1123, by decide +kernel⟩
theorem cvX0_304 {n : Nat} : sn_Cv (LoN n) RX0 304 yX6_adds cX6_adds 3 none 1 6 := ⟨RX6, TX6, 1, lw_V q1295 q1296 q1297 q114 q1298, rfl, by decide +kernel⟩
theorem cvX0_307 {n : Nat} : sn_Cv (LoN n) RX0 307 yX6_tells cX6_tells 3 (some .boolean) 1 6 := ⟨RX6, TX6, 1, lw_V q1308 q1309 q1310 q114 q1311, rfl, by decide +kernel⟩
theorem cvX0_310 {n : Nat} : sn_Cv (LoN n) RX0 310 yX0_isRead cX0_isRead 3 (some .boolean) 1 0 := ⟨RX0, TX0, 28, lw_V q1286 q1288 qs39 q103 q1289, rfl, by decide +kernel⟩
theorem csX0_313 : sn_Cs RX0 313 yX0_ones cX0_ones 1 (some .int) 1 := ⟨lw_S q1316 q1141 q103 q1142, by decide +kernel⟩
theorem cvX0_319 {n : Nat} : sn_Cv (LoN n) RX0 319 yX0_oddsOf cX0_oddsOf 8 (some .long) 1 0 := ⟨RX0, TX0, 28, lw_V q1322 q1324 qs41 q103 q1325, rfl, by decide +kernel⟩
theorem cvX0_325 {n : Nat} : sn_Cv (LoN n) RX0 325 yX7_finds cX7_finds 3 none 2 7 := ⟨RX7, TX7, 6, lw_V q1339 q1340 q1341 q115 q1342, rfl, by decide +kernel⟩
theorem cvX0_337 {n : Nat} : sn_Cv (LoN n) RX0 337 yX8_looks cX8_looks 2 none 0 8 := ⟨RX8, TX8, 8, lw_V q1369 q1370 q1371 q116 q1372, rfl, by decide +kernel⟩
theorem csX0_346 : sn_Cs RX0 346 yJ12_numberOfTrailingZeros cJ12_numberOfTrailingZeros 2 (some .int) 1 := ⟨lw_S q1391 q1392 q138 q1393, by decide +kernel⟩
theorem cvX0_365 {n : Nat} : sn_Cv (LoN n) RX0 365 yX4_hour cX4_hour 4 none 2 4 := ⟨RX4, TX4, 6, lw_V q1403 q1263 q1264 q112 q1265, rfl, by decide +kernel⟩
theorem cvX0_371 {n : Nat} : sn_Cv (LoN n) RX0 371 yX0_draw cX0_draw 2 (some .int) 1 0 := ⟨RX0, TX0, 28, lw_V q1404 q1406 qs47 q103 q1407, rfl, by decide +kernel⟩
theorem cvX0_374 {n : Nat} : sn_Cv (LoN n) RX0 374 yX4_eats cX4_eats 6 (some .int) 3 4 := ⟨RX4, TX4, 6, lw_V q1411 q1412 q1413 q112 q1414, rfl, by decide +kernel⟩
theorem ciX1_36 : sn_Ci RX1 36 yJ2_init cJ2_init 2 1 := ⟨lw_meth q158, q107, q156, q157, rfl, by decide +kernel⟩
theorem csX1_53 : sn_Cs RX1 53 yX1_rows cX1_rows 2 none 2 := ⟨lw_S q589 q590 q104 q591, by decide +kernel⟩
theorem cvX1_57 {n : Nat} : sn_Cv (LoN n) RX1 57 yJ2_clear cJ2_clear 4 none 0 9 := ⟨RJ2, TJ2, 3, lw_V q595 q596 q597 q107 q598, rfl, by decide +kernel⟩
theorem cvX1_60 {n : Nat} : sn_Cv (LoN n) RX1 60 yJ2_addAll cJ2_addAll 6 (some .boolean) 1 9 := ⟨RJ2, TJ2, 3, lw_V q599 q600 q601 q107 q602, rfl, by decide +kernel⟩
theorem ciX10_11 : sn_Ci RX10 11 yJ2_init cJ2_init 2 1 := ⟨lw_meth q158, q107, q777, q157, rfl, by decide +kernel⟩
theorem cvX10_34 {n : Nat} : sn_Cv (LoN n) RX10 34 yX10_isIn cX10_isIn 4 (some .boolean) 3 10 := ⟨RX10, TX10, 7, lw_V q809 q811 qs11 q118 q812, rfl, by decide +kernel⟩
theorem ctX10_38 : sn_CvT RX10 38 yJ5_length cJ5_length 1 (some .int) 0 := ⟨lw_V q822 q823 q824 q119 q825, by decide +kernel⟩
theorem ctX10_44 : sn_CvT RX10 44 yJ5_charAt cJ5_charAt 2 (some .char) 1 := ⟨lw_V q832 q833 q834 q119 q835, by decide +kernel⟩
theorem cvX10_48 {n : Nat} : sn_Cv (LoN n) RX10 48 yX10_is cX10_is 3 (some .boolean) 1 10 := ⟨RX10, TX10, 7, lw_V q818 q820 qs13 q118 q821, rfl, by decide +kernel⟩
theorem cvX10_52 {n : Nat} : sn_Cv (LoN n) RX10 52 yX10_next cX10_next 1 none 0 10 := ⟨RX10, TX10, 7, lw_V q805 q807 qs10 q118 q808, rfl, by decide +kernel⟩
theorem cvX10_55 {n : Nat} : sn_Cv (LoN n) RX10 55 yX10_takes cX10_takes 3 (some .boolean) 1 10 := ⟨RX10, TX10, 7, lw_V q933 q935 qs19 q118 q936, rfl, by decide +kernel⟩
theorem ciX10_60 : sn_Ci RX10 60 yX11_init cX11_init 2 1 := ⟨lw_meth q884, q123, q882, q883, rfl, by decide +kernel⟩
theorem cvX10_61 {n : Nat} : sn_Cv (LoN n) RX10 61 yX10_clause cX10_clause 3 none 0 10 := ⟨RX10, TX10, 7, lw_V q813 q815 qs12 q118 q816, rfl, by decide +kernel⟩
theorem cvX10_72 {n : Nat} : sn_Cv (LoN n) RX10 72 yJ2_size cJ2_size 1 (some .int) 0 9 := ⟨RJ2, TJ2, 3, lw_V q872 q767 q768 q107 q769, rfl, by decide +kernel⟩
theorem ciX10_76 : sn_Ci RX10 76 yX12_init cX12_init 2 1 := ⟨lw_meth q896, q124, q894, q895, rfl, by decide +kernel⟩
theorem cvX10_77 {n : Nat} : sn_Cv (LoN n) RX10 77 yX10_sum cX10_sum 3 (some (.object "SnailPost$Sum")) 0 10 := ⟨RX10, TX10, 7, lw_V q911 q913 qs14 q118 q914, rfl, by decide +kernel⟩
theorem cvX10_86 {n : Nat} : sn_Cv (LoN n) RX10 86 yX10_test cX10_test 3 (some (.object "SnailPost$Test")) 0 10 := ⟨RX10, TX10, 7, lw_V q1003 q1005 qs23 q118 q1006, rfl, by decide +kernel⟩
theorem cvX10_94 {n : Nat} : sn_Cv (LoN n) RX10 94 yJ2_add cJ2_add 2 (some .boolean) 1 9 := ⟨RJ2, TJ2, 3, lw_V q1071 q1072 q1073 q107 q1074, rfl, by decide +kernel⟩
theorem cvX10_98 {n : Nat} : sn_Cv (LoN n) RX10 98 yX10_both cX10_both 3 (some (.object "SnailPost$Test")) 0 10 := ⟨RX10, TX10, 7, lw_V q1007 q1009 qs24 q118 q1010, rfl, by decide +kernel⟩
theorem ciX10_105 : sn_Ci RX10 105 yX20_init cX20_init 2 1 := ⟨lw_meth q1059, q132, q1057, q1058, rfl, by decide +kernel⟩
theorem cvX10_111 {n : Nat} : sn_Cv (LoN n) RX10 111 yX10_plain cX10_plain 3 (some (.object "SnailPost$Test")) 0 10 := ⟨RX10, TX10, 7, lw_V q1011 q1013 qs25 q118 q1014, rfl, by decide +kernel⟩
theorem cvX10_121 {n : Nat} : sn_Cv (LoN n) RX10 121 yX10_positive cX10_positive 3 (some (.object "SnailPost$Test")) 0 10 := ⟨RX10, TX10, 7, lw_V q1016 q1018 qs26 q118 q1019, rfl, by decide +kernel⟩
theorem ciX10_126 : sn_Ci RX10 126 yX19_init cX19_init 2 1 := ⟨lw_meth q1048, q131, q1046, q1047, rfl, by decide +kernel⟩
theorem cvX10_131 {n : Nat} : sn_Cv (LoN n) RX10 131 yX10_opens cX10_opens 1 none 0 10 := ⟨RX10, TX10, 7, lw_V q924 q926 qs17 q118 q927, rfl, by decide +kernel⟩
theorem cvX10_136 {n : Nat} : sn_Cv (LoN n) RX10 136 yX10_need cX10_need 2 none 1 10 := ⟨RX10, TX10, 7, lw_V q929 q931 qs18 q118 q932, rfl, by decide +kernel⟩
theorem ciX10_148 : sn_Ci RX10 148 yX18_init cX18_init 4 3 := ⟨lw_meth q1029, q130, q1027, q1028, rfl, by decide +kernel⟩
theorem cvX10_151 {n : Nat} : sn_Cv (LoN n) RX10 151 yX10_term cX10_term 3 (some (.object "SnailPost$Sum")) 0 10 := ⟨RX10, TX10, 7, lw_V q915 q917 qs15 q118 q918, rfl, by decide +kernel⟩
theorem ciX10_160 : sn_Ci RX10 160 yX16_init cX16_init 4 3 := ⟨lw_meth q988, q128, q986, q987, rfl, by decide +kernel⟩
theorem cvX10_161 {n : Nat} : sn_Cv (LoN n) RX10 161 yX10_part cX10_part 2 (some (.object "SnailPost$Sum")) 0 10 := ⟨RX10, TX10, 7, lw_V q919 q921 qs16 q118 q922, rfl, by decide +kernel⟩
theorem cvX10_195 {n : Nat} : sn_Cv (LoN n) RX10 195 yX10_leaf cX10_leaf 1 none 0 10 := ⟨RX10, TX10, 7, lw_V q937 q939 qs20 q118 q940, rfl, by decide +kernel⟩
theorem cvX10_200 {n : Nat} : sn_Cv (LoN n) RX10 200 yX10_number cX10_number 5 (some .int) 2 10 := ⟨RX10, TX10, 7, lw_V q943 q945 qs21 q118 q946, rfl, by decide +kernel⟩
theorem ciX10_204 : sn_Ci RX10 204 yX14_init cX14_init 2 1 := ⟨lw_meth q949, q126, q947, q948, rfl, by decide +kernel⟩
theorem cvX10_205 {n : Nat} : sn_Cv (LoN n) RX10 205 yX10_value cX10_value 1 (some .int) 0 10 := ⟨RX10, TX10, 7, lw_V q958 q960 qs22 q118 q961, rfl, by decide +kernel⟩
theorem ciX10_210 : sn_Ci RX10 210 yX15_init cX15_init 2 1 := ⟨lw_meth q976, q127, q974, q975, rfl, by decide +kernel⟩
theorem ciX11_1 : sn_Ci RX11 1 yJ4_init cJ4_init 5 4 := ⟨lw_meth q295, q110, q885, q294, rfl, by decide +kernel⟩
theorem cvX12_19_1 {n : Nat} : sn_CvA (LoN n) RX12 19 ⟨"SnailPost$Test", "is", "(LSnailPost$Setting;)Z"⟩ yX18_is cX18_is 6 (some .boolean) 1 16 := ⟨RX18, "SnailPost$Test", TX18, 3, lw_app (fun v hv => by simp only [List.mem_cons, List.not_mem_nil, or_false] at hv; rcases hv with rfl | rfl | rfl | rfl | rfl; exact q1175; exact q1177; exact q1178; exact q1179; exact q130) (lw_meth q1180), fun w A U H h => h.2.2.2.1 ⟨"SnailPost$Test", "is", "(LSnailPost$Setting;)Z"⟩ (List.mem_of_getElem? (i := 6) rfl), rfl, by decide +kernel⟩
theorem cvX12_19_2 {n : Nat} : sn_CvA (LoN n) RX12 19 ⟨"SnailPost$Test", "is", "(LSnailPost$Setting;)Z"⟩ yX19_is cX19_is 2 (some .boolean) 1 17 := ⟨RX19, "SnailPost$Test", TX19, 1, lw_app (fun v hv => by simp only [List.mem_cons, List.not_mem_nil, or_false] at hv; rcases hv with rfl | rfl | rfl | rfl | rfl; exact q1175; exact q1177; exact q1196; exact q1197; exact q131) (lw_meth q1198), fun w A U H h => h.2.2.2.1 ⟨"SnailPost$Test", "is", "(LSnailPost$Setting;)Z"⟩ (List.mem_of_getElem? (i := 6) rfl), rfl, by decide +kernel⟩
theorem cvX12_19_3 {n : Nat} : sn_CvA (LoN n) RX12 19 ⟨"SnailPost$Test", "is", "(LSnailPost$Setting;)Z"⟩ yX20_is cX20_is 3 (some .boolean) 1 18 := ⟨RX20, "SnailPost$Test", TX20, 2, lw_app (fun v hv => by simp only [List.mem_cons, List.not_mem_nil, or_false] at hv; rcases hv with rfl | rfl | rfl | rfl | rfl; exact q1175; exact q1177; exact q1206; exact q1200; exact q132) (lw_meth q1201), fun w A U H h => h.2.2.2.1 ⟨"SnailPost$Test", "is", "(LSnailPost$Setting;)Z"⟩ (List.mem_of_getElem? (i := 6) rfl), rfl, by decide +kernel⟩
theorem cvX12_31_1 {n : Nat} : sn_CvA (LoN n) RX12 31 ⟨"SnailPost$Sum", "of", "(LSnailPost$Setting;)J"⟩ yX14_of cX14_of 2 (some .long) 1 13 := ⟨RX14, "SnailPost$Sum", TX14, 1, lw_app (fun v hv => by simp only [List.mem_cons, List.not_mem_nil, or_false] at hv; rcases hv with rfl | rfl | rfl | rfl | rfl; exact q1208; exact q1183; exact q1184; exact q1185; exact q126) (lw_meth q1186), fun w A U H h => h.2.2.2.1 ⟨"SnailPost$Sum", "of", "(LSnailPost$Setting;)J"⟩ (List.mem_of_getElem? (i := 5) rfl), rfl, by decide +kernel⟩
theorem cvX12_31_2 {n : Nat} : sn_CvA (LoN n) RX12 31 ⟨"SnailPost$Sum", "of", "(LSnailPost$Setting;)J"⟩ yX15_of cX15_of 2 (some .long) 1 14 := ⟨RX15, "SnailPost$Sum", TX15, 1, lw_app (fun v hv => by simp only [List.mem_cons, List.not_mem_nil, or_false] at hv; rcases hv with rfl | rfl | rfl | rfl | rfl; exact q1208; exact q1183; exact q1195; exact q1191; exact q127) (lw_meth q1192), fun w A U H h => h.2.2.2.1 ⟨"SnailPost$Sum", "of", "(LSnailPost$Setting;)J"⟩ (List.mem_of_getElem? (i := 5) rfl), rfl, by decide +kernel⟩
theorem cvX12_31_3 {n : Nat} : sn_CvA (LoN n) RX12 31 ⟨"SnailPost$Sum", "of", "(LSnailPost$Setting;)J"⟩ yX16_of cX16_of 8 (some .long) 1 15 := ⟨RX16, "SnailPost$Sum", TX16, 3, lw_app (fun v hv => by simp only [List.mem_cons, List.not_mem_nil, or_false] at hv; rcases hv with rfl | rfl | rfl | rfl | rfl; exact q1208; exact q1183; exact q1187; exact q1188; exact q128) (lw_meth q1189), fun w A U H h => h.2.2.2.1 ⟨"SnailPost$Sum", "of", "(LSnailPost$Setting;)J"⟩ (List.mem_of_getElem? (i := 5) rfl), rfl, by decide +kernel⟩
theorem ciX14_1 {n : Nat} : sn_CiN (LoN n) RX14 1 yX13_init cX13_init 1 0 := ⟨"SnailPost", lw_meth q952, q125, q951, rfl, fun w A U H h => h.2.1 ("SnailPost$Number", 1, ⟨"SnailPost$Sum", "<init>", "()V"⟩, "SnailPost") (List.mem_of_getElem? (i := 7) rfl), by decide +kernel⟩
theorem ciX15_1 {n : Nat} : sn_CiN (LoN n) RX15 1 yX13_init cX13_init 1 0 := ⟨"SnailPost", lw_meth q952, q125, q951, rfl, fun w A U H h => h.2.1 ("SnailPost$Value", 1, ⟨"SnailPost$Sum", "<init>", "()V"⟩, "SnailPost") (List.mem_of_getElem? (i := 8) rfl), by decide +kernel⟩
theorem ciX16_3 {n : Nat} : sn_CiN (LoN n) RX16 3 yX13_init cX13_init 1 0 := ⟨"SnailPost", lw_meth q952, q125, q951, rfl, fun w A U H h => h.2.1 ("SnailPost$Two", 3, ⟨"SnailPost$Sum", "<init>", "()V"⟩, "SnailPost") (List.mem_of_getElem? (i := 9) rfl), by decide +kernel⟩
theorem cvX16_22_1 {n : Nat} : sn_CvA (LoN n) RX16 22 ⟨"SnailPost$Sum", "of", "(LSnailPost$Setting;)J"⟩ yX14_of cX14_of 2 (some .long) 1 13 := ⟨RX14, "SnailPost$Sum", TX14, 1, lw_app (fun v hv => by simp only [List.mem_cons, List.not_mem_nil, or_false] at hv; rcases hv with rfl | rfl | rfl | rfl | rfl; exact q1190; exact q1183; exact q1184; exact q1185; exact q126) (lw_meth q1186), fun w A U H h => h.2.2.2.1 ⟨"SnailPost$Sum", "of", "(LSnailPost$Setting;)J"⟩ (List.mem_of_getElem? (i := 5) rfl), rfl, by decide +kernel⟩
theorem cvX16_22_2 {n : Nat} : sn_CvA (LoN n) RX16 22 ⟨"SnailPost$Sum", "of", "(LSnailPost$Setting;)J"⟩ yX15_of cX15_of 2 (some .long) 1 14 := ⟨RX15, "SnailPost$Sum", TX15, 1, lw_app (fun v hv => by simp only [List.mem_cons, List.not_mem_nil, or_false] at hv; rcases hv with rfl | rfl | rfl | rfl | rfl; exact q1190; exact q1183; exact q1195; exact q1191; exact q127) (lw_meth q1192), fun w A U H h => h.2.2.2.1 ⟨"SnailPost$Sum", "of", "(LSnailPost$Setting;)J"⟩ (List.mem_of_getElem? (i := 5) rfl), rfl, by decide +kernel⟩
theorem cvX16_22_3 {n : Nat} : sn_CvA (LoN n) RX16 22 ⟨"SnailPost$Sum", "of", "(LSnailPost$Setting;)J"⟩ yX16_of cX16_of 8 (some .long) 1 15 := ⟨RX16, "SnailPost$Sum", TX16, 3, lw_app (fun v hv => by simp only [List.mem_cons, List.not_mem_nil, or_false] at hv; rcases hv with rfl | rfl | rfl | rfl | rfl; exact q1190; exact q1183; exact q1187; exact q1188; exact q128) (lw_meth q1189), fun w A U H h => h.2.2.2.1 ⟨"SnailPost$Sum", "of", "(LSnailPost$Setting;)J"⟩ (List.mem_of_getElem? (i := 5) rfl), rfl, by decide +kernel⟩
theorem ciX18_1 {n : Nat} : sn_CiN (LoN n) RX18 1 yX17_init cX17_init 1 0 := ⟨"SnailPost", lw_meth q1032, q129, q1031, rfl, fun w A U H h => h.2.1 ("SnailPost$Compare", 1, ⟨"SnailPost$Test", "<init>", "()V"⟩, "SnailPost") (List.mem_of_getElem? (i := 10) rfl), by decide +kernel⟩
theorem cvX18_20_1 {n : Nat} : sn_CvA (LoN n) RX18 20 ⟨"SnailPost$Sum", "of", "(LSnailPost$Setting;)J"⟩ yX14_of cX14_of 2 (some .long) 1 13 := ⟨RX14, "SnailPost$Sum", TX14, 1, lw_app (fun v hv => by simp only [List.mem_cons, List.not_mem_nil, or_false] at hv; rcases hv with rfl | rfl | rfl | rfl | rfl; exact q1181; exact q1183; exact q1184; exact q1185; exact q126) (lw_meth q1186), fun w A U H h => h.2.2.2.1 ⟨"SnailPost$Sum", "of", "(LSnailPost$Setting;)J"⟩ (List.mem_of_getElem? (i := 5) rfl), rfl, by decide +kernel⟩
theorem cvX18_20_2 {n : Nat} : sn_CvA (LoN n) RX18 20 ⟨"SnailPost$Sum", "of", "(LSnailPost$Setting;)J"⟩ yX15_of cX15_of 2 (some .long) 1 14 := ⟨RX15, "SnailPost$Sum", TX15, 1, lw_app (fun v hv => by simp only [List.mem_cons, List.not_mem_nil, or_false] at hv; rcases hv with rfl | rfl | rfl | rfl | rfl; exact q1181; exact q1183; exact q1195; exact q1191; exact q127) (lw_meth q1192), fun w A U H h => h.2.2.2.1 ⟨"SnailPost$Sum", "of", "(LSnailPost$Setting;)J"⟩ (List.mem_of_getElem? (i := 5) rfl), rfl, by decide +kernel⟩
theorem cvX18_20_3 {n : Nat} : sn_CvA (LoN n) RX18 20 ⟨"SnailPost$Sum", "of", "(LSnailPost$Setting;)J"⟩ yX16_of cX16_of 8 (some .long) 1 15 := ⟨RX16, "SnailPost$Sum", TX16, 3, lw_app (fun v hv => by simp only [List.mem_cons, List.not_mem_nil, or_false] at hv; rcases hv with rfl | rfl | rfl | rfl | rfl; exact q1181; exact q1183; exact q1187; exact q1188; exact q128) (lw_meth q1189), fun w A U H h => h.2.2.2.1 ⟨"SnailPost$Sum", "of", "(LSnailPost$Setting;)J"⟩ (List.mem_of_getElem? (i := 5) rfl), rfl, by decide +kernel⟩
theorem ciX19_1 {n : Nat} : sn_CiN (LoN n) RX19 1 yX17_init cX17_init 1 0 := ⟨"SnailPost", lw_meth q1032, q129, q1031, rfl, fun w A U H h => h.2.1 ("SnailPost$Not", 1, ⟨"SnailPost$Test", "<init>", "()V"⟩, "SnailPost") (List.mem_of_getElem? (i := 11) rfl), by decide +kernel⟩
theorem cvX19_13_1 {n : Nat} : sn_CvA (LoN n) RX19 13 ⟨"SnailPost$Test", "is", "(LSnailPost$Setting;)Z"⟩ yX18_is cX18_is 6 (some .boolean) 1 16 := ⟨RX18, "SnailPost$Test", TX18, 3, lw_app (fun v hv => by simp only [List.mem_cons, List.not_mem_nil, or_false] at hv; rcases hv with rfl | rfl | rfl | rfl | rfl; exact q1199; exact q1177; exact q1178; exact q1179; exact q130) (lw_meth q1180), fun w A U H h => h.2.2.2.1 ⟨"SnailPost$Test", "is", "(LSnailPost$Setting;)Z"⟩ (List.mem_of_getElem? (i := 6) rfl), rfl, by decide +kernel⟩
theorem cvX19_13_2 {n : Nat} : sn_CvA (LoN n) RX19 13 ⟨"SnailPost$Test", "is", "(LSnailPost$Setting;)Z"⟩ yX19_is cX19_is 2 (some .boolean) 1 17 := ⟨RX19, "SnailPost$Test", TX19, 1, lw_app (fun v hv => by simp only [List.mem_cons, List.not_mem_nil, or_false] at hv; rcases hv with rfl | rfl | rfl | rfl | rfl; exact q1199; exact q1177; exact q1196; exact q1197; exact q131) (lw_meth q1198), fun w A U H h => h.2.2.2.1 ⟨"SnailPost$Test", "is", "(LSnailPost$Setting;)Z"⟩ (List.mem_of_getElem? (i := 6) rfl), rfl, by decide +kernel⟩
theorem cvX19_13_3 {n : Nat} : sn_CvA (LoN n) RX19 13 ⟨"SnailPost$Test", "is", "(LSnailPost$Setting;)Z"⟩ yX20_is cX20_is 3 (some .boolean) 1 18 := ⟨RX20, "SnailPost$Test", TX20, 2, lw_app (fun v hv => by simp only [List.mem_cons, List.not_mem_nil, or_false] at hv; rcases hv with rfl | rfl | rfl | rfl | rfl; exact q1199; exact q1177; exact q1206; exact q1200; exact q132) (lw_meth q1201), fun w A U H h => h.2.2.2.1 ⟨"SnailPost$Test", "is", "(LSnailPost$Setting;)Z"⟩ (List.mem_of_getElem? (i := 6) rfl), rfl, by decide +kernel⟩
theorem ciX2_11 : sn_Ci RX2 11 yX3_init cX3_init 1 0 := ⟨lw_meth q292, q111, q290, q291, rfl, by decide +kernel⟩
theorem ciX20_1 {n : Nat} : sn_CiN (LoN n) RX20 1 yX17_init cX17_init 1 0 := ⟨"SnailPost", lw_meth q1032, q129, q1031, rfl, fun w A U H h => h.2.1 ("SnailPost$Several", 1, ⟨"SnailPost$Test", "<init>", "()V"⟩, "SnailPost") (List.mem_of_getElem? (i := 12) rfl), by decide +kernel⟩
theorem ciX20_9 : sn_Ci RX20 9 yJ2_init cJ2_init 2 1 := ⟨lw_meth q158, q107, q1062, q157, rfl, by decide +kernel⟩
theorem cvX20_22 {n : Nat} : sn_Cv (LoN n) RX20 22 yJ2_size cJ2_size 1 (some .int) 0 9 := ⟨RJ2, TJ2, 3, lw_V q1202 q767 q768 q107 q769, rfl, by decide +kernel⟩
theorem cvX20_26 {n : Nat} : sn_Cv (LoN n) RX20 26 yJ2_get cJ2_get 2 (some (.object "java/lang/Object")) 1 9 := ⟨RJ2, TJ2, 3, lw_V q1203 q1150 q1151 q107 q1152, rfl, by decide +kernel⟩
theorem cvX20_30_1 {n : Nat} : sn_CvA (LoN n) RX20 30 ⟨"SnailPost$Test", "is", "(LSnailPost$Setting;)Z"⟩ yX18_is cX18_is 6 (some .boolean) 1 16 := ⟨RX18, "SnailPost$Test", TX18, 3, lw_app (fun v hv => by simp only [List.mem_cons, List.not_mem_nil, or_false] at hv; rcases hv with rfl | rfl | rfl | rfl | rfl; exact q1205; exact q1177; exact q1178; exact q1179; exact q130) (lw_meth q1180), fun w A U H h => h.2.2.2.1 ⟨"SnailPost$Test", "is", "(LSnailPost$Setting;)Z"⟩ (List.mem_of_getElem? (i := 6) rfl), rfl, by decide +kernel⟩
theorem cvX20_30_2 {n : Nat} : sn_CvA (LoN n) RX20 30 ⟨"SnailPost$Test", "is", "(LSnailPost$Setting;)Z"⟩ yX19_is cX19_is 2 (some .boolean) 1 17 := ⟨RX19, "SnailPost$Test", TX19, 1, lw_app (fun v hv => by simp only [List.mem_cons, List.not_mem_nil, or_false] at hv; rcases hv with rfl | rfl | rfl | rfl | rfl; exact q1205; exact q1177; exact q1196; exact q1197; exact q131) (lw_meth q1198), fun w A U H h => h.2.2.2.1 ⟨"SnailPost$Test", "is", "(LSnailPost$Setting;)Z"⟩ (List.mem_of_getElem? (i := 6) rfl), rfl, by decide +kernel⟩
theorem cvX20_30_3 {n : Nat} : sn_CvA (LoN n) RX20 30 ⟨"SnailPost$Test", "is", "(LSnailPost$Setting;)Z"⟩ yX20_is cX20_is 3 (some .boolean) 1 18 := ⟨RX20, "SnailPost$Test", TX20, 2, lw_app (fun v hv => by simp only [List.mem_cons, List.not_mem_nil, or_false] at hv; rcases hv with rfl | rfl | rfl | rfl | rfl; exact q1205; exact q1177; exact q1206; exact q1200; exact q132) (lw_meth q1201), fun w A U H h => h.2.2.2.1 ⟨"SnailPost$Test", "is", "(LSnailPost$Setting;)Z"⟩ (List.mem_of_getElem? (i := 6) rfl), rfl, by decide +kernel⟩
theorem cvX21_17 {n : Nat} : sn_Cv (LoN n) RX21 17 yJ2_size cJ2_size 1 (some .int) 0 9 := ⟨RJ2, TJ2, 3, lw_V q1167 q767 q768 q107 q769, rfl, by decide +kernel⟩
theorem cvX21_23 {n : Nat} : sn_Cv (LoN n) RX21 23 yJ2_get cJ2_get 2 (some (.object "java/lang/Object")) 1 9 := ⟨RJ2, TJ2, 3, lw_V q1168 q1150 q1151 q107 q1152, rfl, by decide +kernel⟩
theorem cvX21_33 {n : Nat} : sn_CvW (LoN n) RX21 33 yX12_tells cX12_tells 3 (some .long) [(0, 21, 42, 37), (22, 41, 42, 37)] 1 12 := ⟨RX12, TX12, 3, lw_VW q1170 q1171 q1172 q124 q1173, rfl, by decide +kernel⟩
theorem ciX3_1 : sn_Ci RX3 1 yJ4_init cJ4_init 5 4 := ⟨lw_meth q295, q110, q293, q294, rfl, by decide +kernel⟩
theorem cvX4_41 {n : Nat} : sn_CvN (LoN n) RX4 41 yX0_of0 cX0_of0 3 (some .int) 2 0 := ⟨RX0, "SnailPost", TX0, 28, lw_meth q702, q103, q701, qs7, fun w A U H h => h.2.1 ("SnailPost$Walk", 41, ⟨"SnailPost", "of0", "(II)I"⟩, "SnailPost") (List.mem_of_getElem? (i := 13) rfl), rfl, by decide +kernel⟩
theorem csX4_57 {n : Nat} : sn_CsN (LoN n) RX4 57 yX0_apart cX0_apart 2 (some .int) 2 := ⟨"SnailPost", lw_meth q1135, q103, q1134, fun w A U H h => h.2.1 ("SnailPost$Walk", 57, ⟨"SnailPost", "apart", "(II)I"⟩, "SnailPost") (List.mem_of_getElem? (i := 15) rfl), by decide +kernel⟩
theorem cvX4_83 {n : Nat} : sn_Cv (LoN n) RX4 83 yX4_lightAt cX4_lightAt 3 (some .int) 2 4 := ⟨RX4, TX4, 6, lw_V q1129 q1131 qs31 q112 q1132, rfl, by decide +kernel⟩
theorem csX4_86 {n : Nat} : sn_CsN (LoN n) RX4 86 yX0_ones cX0_ones 1 (some .int) 1 := ⟨"SnailPost", lw_meth q1142, q103, q1141, fun w A U H h => h.2.1 ("SnailPost$Walk", 86, ⟨"SnailPost", "ones", "(I)I"⟩, "SnailPost") (List.mem_of_getElem? (i := 16) rfl), by decide +kernel⟩
theorem cvX4_94 {n : Nat} : sn_Cv (LoN n) RX4 94 yJ2_get cJ2_get 2 (some (.object "java/lang/Object")) 1 9 := ⟨RJ2, TJ2, 3, lw_V q1149 q1150 q1151 q107 q1152, rfl, by decide +kernel⟩
theorem cvX4_102 {n : Nat} : sn_Cv (LoN n) RX4 102 yX21_told cX21_told 8 (some .long) 2 19 := ⟨RX21, TX21, 1, lw_V q1162 q1163 q1164 q137 q1165, rfl, by decide +kernel⟩
theorem cvX4_106 {n : Nat} : sn_Cv (LoN n) RX4 106 yX4_asks cX4_asks 7 (some .long) 5 4 := ⟨RX4, TX4, 6, lw_V q1124 q1126 qs30 q112 q1127, rfl, by decide +kernel⟩
theorem csX4_118 {n : Nat} : sn_CsN (LoN n) RX4 118 yX0_isOf cX0_isOf 2 (some .boolean) 2 := ⟨"SnailPost", lw_meth q1123, q103, q1122, fun w A U H h => h.2.1 ("SnailPost$Walk", 118, ⟨"SnailPost", "isOf", "(II)Z"⟩, "SnailPost") (List.mem_of_getElem? (i := 14) rfl), by decide +kernel⟩
theorem cvX4_122 {n : Nat} : sn_Cv (LoN n) RX4 122 yX4_best cX4_best 12 (some .int) 3 4 := ⟨RX4, TX4, 6, lw_V q1209 q1211 qs32 q112 q1212, rfl, by decide +kernel⟩
theorem cvX4_129 {n : Nat} : sn_Cv (LoN n) RX4 129 yX4_lure cX4_lure 7 (some .long) 4 4 := ⟨RX4, TX4, 6, lw_V q1213 q1215 qs33 q112 q1216, rfl, by decide +kernel⟩
theorem cvX4_137 {n : Nat} : sn_Cv (LoN n) RX4 137 yX4_minute cX4_minute 6 none 2 4 := ⟨RX4, TX4, 6, lw_V q1266 q1118 q1119 q112 q1120, rfl, by decide +kernel⟩
theorem ciX5_17 {n : Nat} : sn_CiN (LoN n) RX5 17 yX4_init cX4_init 2 1 := ⟨"SnailPost", lw_meth q328, q112, q327, rfl, fun w A U H h => h.2.1 ("SnailPost$Lantern", 17, ⟨"SnailPost$Walk", "<init>", "(LSnailPost;)V"⟩, "SnailPost") (List.mem_of_getElem? (i := 17) rfl), by decide +kernel⟩
theorem cvX5_53 {n : Nat} : sn_Cv (LoN n) RX5 53 yX4_begins cX4_begins 2 none 0 4 := ⟨RX4, TX4, 6, lw_V q1242 q1113 q1114 q112 q1115, rfl, by decide +kernel⟩
theorem cvX5_56 {n : Nat} : sn_Cv (LoN n) RX5 56 yX5_tries cX5_tries 3 none 1 5 := ⟨RX5, TX5, 12, lw_V q1243 q1245 qs36 q113 q1246, rfl, by decide +kernel⟩
theorem cvX5_60 {n : Nat} : sn_Cv (LoN n) RX5 60 yX5_ends cX5_ends 5 none 1 5 := ⟨RX5, TX5, 12, lw_V q1247 q1249 qs37 q113 q1250, rfl, by decide +kernel⟩
theorem cvX5_73 {n : Nat} : sn_Cv (LoN n) RX5 73 yX5_goes cX5_goes 3 none 2 5 := ⟨RX5, TX5, 12, lw_V q1253 q1255 qs38 q113 q1256, rfl, by decide +kernel⟩
theorem cvX5_77 {n : Nat} : sn_Cv (LoN n) RX5 77 yX4_takes cX4_takes 2 none 1 4 := ⟨RX4, TX4, 6, lw_V q1257 q1258 q1259 q112 q1260, rfl, by decide +kernel⟩
theorem cvX5_80 {n : Nat} : sn_Cv (LoN n) RX5 80 yX4_hour cX4_hour 4 none 2 4 := ⟨RX4, TX4, 6, lw_V q1262 q1263 q1264 q112 q1265, rfl, by decide +kernel⟩
theorem csX5_84 {n : Nat} : sn_CsN (LoN n) RX5 84 yX0_isOf cX0_isOf 2 (some .boolean) 2 := ⟨"SnailPost", lw_meth q1123, q103, q1122, fun w A U H h => h.2.1 ("SnailPost$Lantern", 84, ⟨"SnailPost", "isOf", "(II)Z"⟩, "SnailPost") (List.mem_of_getElem? (i := 18) rfl), by decide +kernel⟩
theorem cvX5_106 {n : Nat} : sn_CvN (LoN n) RX5 106 yX0_of0 cX0_of0 3 (some .int) 2 0 := ⟨RX0, "SnailPost", TX0, 28, lw_meth q702, q103, q701, qs7, fun w A U H h => h.2.1 ("SnailPost$Lantern", 106, ⟨"SnailPost", "of0", "(II)I"⟩, "SnailPost") (List.mem_of_getElem? (i := 19) rfl), rfl, by decide +kernel⟩
theorem csX5_110 {n : Nat} : sn_CsN (LoN n) RX5 110 yX0_apart cX0_apart 2 (some .int) 2 := ⟨"SnailPost", lw_meth q1135, q103, q1134, fun w A U H h => h.2.1 ("SnailPost$Lantern", 110, ⟨"SnailPost", "apart", "(II)I"⟩, "SnailPost") (List.mem_of_getElem? (i := 20) rfl), by decide +kernel⟩
theorem cvX5_113 {n : Nat} : sn_Cv (LoN n) RX5 113 yX5_duel cX5_duel 7 (some .int) 3 5 := ⟨RX5, TX5, 12, lw_V q1281 q1276 q1277 q113 q1278, rfl, by decide +kernel⟩
theorem csX6_15 {n : Nat} : sn_CsN (LoN n) RX6 15 yX0_isOf cX0_isOf 2 (some .boolean) 2 := ⟨"SnailPost", lw_meth q1123, q103, q1122, fun w A U H h => h.2.1 ("SnailPost$Span", 15, ⟨"SnailPost", "isOf", "(II)Z"⟩, "SnailPost") (List.mem_of_getElem? (i := 21) rfl), by decide +kernel⟩
theorem cvX6_19 {n : Nat} : sn_Cv (LoN n) RX6 19 yX6_left cX6_left 4 (some .int) 1 6 := ⟨RX6, TX6, 1, lw_V q1299 q1301 qs40 q114 q1302, rfl, by decide +kernel⟩
theorem csX6_23 : sn_Cs RX6 23 yJ12_numberOfLeadingZeros cJ12_numberOfLeadingZeros 2 (some .int) 1 := ⟨lw_S q1304 q1305 q138 q1306, by decide +kernel⟩
theorem cvX7_33 {n : Nat} : sn_Cv (LoN n) RX7 33 yX7_tries cX7_tries 4 none 2 7 := ⟨RX7, TX7, 6, lw_V q1343 q1345 qs42 q115 q1346, rfl, by decide +kernel⟩
theorem cvX7_37 {n : Nat} : sn_Cv (LoN n) RX7 37 yX7_isSafe cX7_isSafe 3 (some .boolean) 0 7 := ⟨RX7, TX7, 6, lw_V q1347 q1349 qs43 q115 q1350, rfl, by decide +kernel⟩
theorem csX7_41 {n : Nat} : sn_CsN (LoN n) RX7 41 yX0_ones cX0_ones 1 (some .int) 1 := ⟨"SnailPost", lw_meth q1142, q103, q1141, fun w A U H h => h.2.1 ("SnailPost$Shells", 41, ⟨"SnailPost", "ones", "(I)I"⟩, "SnailPost") (List.mem_of_getElem? (i := 22) rfl), by decide +kernel⟩
theorem cvX7_55 {n : Nat} : sn_Cv (LoN n) RX7 55 yX6_clears cX6_clears 2 none 0 6 := ⟨RX6, TX6, 1, lw_V q1353 q1291 q1292 q114 q1293, rfl, by decide +kernel⟩
theorem csX7_60 {n : Nat} : sn_CsN (LoN n) RX7 60 yX0_isOf cX0_isOf 2 (some .boolean) 2 := ⟨"SnailPost", lw_meth q1123, q103, q1122, fun w A U H h => h.2.1 ("SnailPost$Shells", 60, ⟨"SnailPost", "isOf", "(II)Z"⟩, "SnailPost") (List.mem_of_getElem? (i := 23) rfl), by decide +kernel⟩
theorem cvX7_64 {n : Nat} : sn_Cv (LoN n) RX7 64 yX6_adds cX6_adds 3 none 1 6 := ⟨RX6, TX6, 1, lw_V q1355 q1296 q1297 q114 q1298, rfl, by decide +kernel⟩
theorem cvX7_68 {n : Nat} : sn_Cv (LoN n) RX7 68 yX6_tells cX6_tells 3 (some .boolean) 1 6 := ⟨RX6, TX6, 1, lw_V q1356 q1309 q1310 q114 q1311, rfl, by decide +kernel⟩
theorem cvX8_41 {n : Nat} : sn_Cv (LoN n) RX8 41 yX8_tries cX8_tries 4 none 2 8 := ⟨RX8, TX8, 8, lw_V q1373 q1375 qs44 q116 q1376, rfl, by decide +kernel⟩
theorem cvX8_52 {n : Nat} : sn_Cv (LoN n) RX8 52 yX8_ends cX8_ends 3 none 0 8 := ⟨RX8, TX8, 8, lw_V q1377 q1379 qs45 q116 q1380, rfl, by decide +kernel⟩
theorem csX8_55 {n : Nat} : sn_CsN (LoN n) RX8 55 yX0_isOf cX0_isOf 2 (some .boolean) 2 := ⟨"SnailPost", lw_meth q1123, q103, q1122, fun w A U H h => h.2.1 ("SnailPost$Orders", 55, ⟨"SnailPost", "isOf", "(II)Z"⟩, "SnailPost") (List.mem_of_getElem? (i := 24) rfl), by decide +kernel⟩
theorem cvX8_59 {n : Nat} : sn_Cv (LoN n) RX8 59 yX8_mayPass cX8_mayPass 4 (some .boolean) 2 8 := ⟨RX8, TX8, 8, lw_V q1383 q1385 qs46 q116 q1386, rfl, by decide +kernel⟩
