/-! TruthBridge -/
set_option maxRecDepth 100000
def RX0 : String := "TruthBridge"
def TX0 : u_T := fun k => match k with
  | 0 => ("TruthBridge", "table", "[J", true)
  | 1 => ("TruthBridge", "sayingMany", "I", false)
  | 2 => ("TruthBridge", "land", "LTruthBridge$Gorge;", false)
  | 3 => ("TruthBridge", "own", "LTruthBridge$Gorge;", true)
  | 4 => ("TruthBridge", "spare", "LTruthBridge$Gorge;", true)
  | 5 => ("TruthBridge", "reading", "LTruthBridge$Gorge;", true)
  | 6 => ("TruthBridge", "blank", "LTruthBridge$Gorge;", true)
  | 7 => ("TruthBridge", "x", "I", false)
  | 8 => ("TruthBridge", "fault", "LTruthBridge$Fault;", true)
  | 9 => ("TruthBridge", "tape", "[B", true)
  | 10 => ("TruthBridge", "taped", "I", false)
  | 11 => ("TruthBridge", "lineWords", "[Ljava/lang/String;", true)
  | 12 => ("TruthBridge", "clauseWords", "[Ljava/lang/String;", true)
  | 13 => ("TruthBridge", "wordNames", "[Ljava/lang/String;", true)
  | 14 => ("TruthBridge", "rules", "[LTruthBridge$Rule;", true)
  | 15 => ("TruthBridge", "ruleMany", "I", false)
  | 16 => ("TruthBridge", "words", "[J", true)
  | 17 => ("TruthBridge", "goer", "[I", true)
  | 18 => ("TruthBridge", "goerMany", "I", false)
  | 19 => ("TruthBridge", "step", "[I", true)
  | 20 => ("TruthBridge", "bestStep", "[I", true)
  | 21 => ("TruthBridge", "heldAhead", "[J", true)
  | 22 => ("TruthBridge", "mostOver", "I", false)
  | 23 => ("TruthBridge", "hoursTo", "[I", true)
  | 24 => ("TruthBridge", "fit", "[I", true)
  | 25 => ("TruthBridge", "fitMany", "I", false)
  | 26 => ("TruthBridge", "drawX", "I", false)
  | 27 => ("TruthBridge", "overs", "I", false)
  | 28 => ("TruthBridge", "falls", "I", false)
  | _ => ("TruthBridge", "images", "[LTruthBridge$Image;", true)
def tyX0 : Nat → FieldType := fun k => match k with
  | 0 => .array .long
  | 1 => .int
  | 2 => .object "TruthBridge$Gorge"
  | 3 => .object "TruthBridge$Gorge"
  | 4 => .object "TruthBridge$Gorge"
  | 5 => .object "TruthBridge$Gorge"
  | 6 => .object "TruthBridge$Gorge"
  | 7 => .int
  | 8 => .object "TruthBridge$Fault"
  | 9 => .array .byte
  | 10 => .int
  | 11 => .array (.object "java/lang/String")
  | 12 => .array (.object "java/lang/String")
  | 13 => .array (.object "java/lang/String")
  | 14 => .array (.object "TruthBridge$Rule")
  | 15 => .int
  | 16 => .array .long
  | 17 => .array .int
  | 18 => .int
  | 19 => .array .int
  | 20 => .array .int
  | 21 => .array .long
  | 22 => .int
  | 23 => .array .int
  | 24 => .array .int
  | 25 => .int
  | 26 => .int
  | 27 => .int
  | 28 => .int
  | _ => .array (.object "TruthBridge$Image")
abbrev wsX00 : List Cond := u_ws RX0 TX0 30
set_option maxRecDepth 100000 in
theorem nmX0 : ∀ a, a < 30 → ∀ b, b < 30 → a ≠ b → (TX0 a).2.1 ≠ (TX0 b).2.1 := by decide +kernel
set_option maxRecDepth 100000 in
theorem tyX0_ok : ∀ k, k < 30 → parseFieldDescriptor (TX0 k).2.2.1 = some (tyX0 k) := by decide +kernel
abbrev cX0_init : ByteArray := prog_1_method_3_code
def yX0_init : MethodName := ⟨RX0, "<init>", "()V"⟩
def dkwX0_init_11 : List UInt8 := [181, 0, 112, 177]
abbrev dktX0_init_11 : List UInt8 := dkwX0_init_11 ++ []
def dkwX0_init_10 : List UInt8 := [17, 1, 128, 188, 10, 181, 0, 104, 42, 17, 1, 0, 188, 10, 181, 0, 107, 42, 7, 189, 0, 110]
abbrev dktX0_init_10 : List UInt8 := dkwX0_init_10 ++ dktX0_init_11
def dkwX0_init_9 : List UInt8 := [188, 10, 181, 0, 95, 42, 16, 8, 188, 10, 181, 0, 98, 42, 16, 16, 188, 11, 181, 0, 101, 42]
abbrev dktX0_init_9 : List UInt8 := dkwX0_init_9 ++ dktX0_init_10
def dkwX0_init_8 : List UInt8 := [189, 0, 82, 181, 0, 84, 42, 16, 10, 188, 11, 181, 0, 88, 42, 7, 188, 10, 181, 0, 91, 42, 16, 8]
abbrev dktX0_init_8 : List UInt8 := dkwX0_init_8 ++ dktX0_init_9
def dkwX0_init_7 : List UInt8 := [89, 16, 7, 18, 73, 83, 89, 16, 8, 18, 75, 83, 89, 16, 9, 18, 77, 83, 181, 0, 79, 42, 16, 6]
abbrev dktX0_init_7 : List UInt8 := dkwX0_init_7 ++ dktX0_init_8
def dkwX0_init_6 : List UInt8 := [18, 63, 83, 89, 6, 18, 65, 83, 89, 7, 18, 67, 83, 89, 8, 18, 69, 83, 89, 16, 6, 18, 71, 83]
abbrev dktX0_init_6 : List UInt8 := dkwX0_init_6 ++ dktX0_init_7
def dkwX0_init_5 : List UInt8 := [18, 56, 83, 181, 0, 58, 42, 16, 10, 189, 0, 40, 89, 3, 18, 44, 83, 89, 4, 18, 61, 83, 89, 5]
abbrev dktX0_init_5 : List UInt8 := dkwX0_init_5 ++ dktX0_init_6
def dkwX0_init_4 : List UInt8 := [5, 18, 46, 83, 89, 6, 18, 48, 83, 89, 7, 18, 50, 83, 181, 0, 52, 42, 4, 189, 0, 40, 89, 3]
abbrev dktX0_init_4 : List UInt8 := dkwX0_init_4 ++ dktX0_init_5
def dkwX0_init_3 : List UInt8 := [17, 1, 144, 188, 8, 181, 0, 36, 42, 8, 189, 0, 40, 89, 3, 18, 42, 83, 89, 4, 18, 44, 83, 89]
abbrev dktX0_init_3 : List UInt8 := dkwX0_init_3 ++ dktX0_init_4
def dkwX0_init_2 : List UInt8 := [187, 0, 13, 89, 183, 0, 15, 181, 0, 26, 42, 187, 0, 29, 89, 183, 0, 31, 181, 0, 32, 42]
abbrev dktX0_init_2 : List UInt8 := dkwX0_init_2 ++ dktX0_init_3
def dkwX0_init_1 : List UInt8 := [187, 0, 13, 89, 183, 0, 15, 181, 0, 20, 42, 187, 0, 13, 89, 183, 0, 15, 181, 0, 23, 42]
abbrev dktX0_init_1 : List UInt8 := dkwX0_init_1 ++ dktX0_init_2
def dkwX0_init_0 : List UInt8 := [42, 183, 0, 3, 42, 16, 96, 188, 11, 181, 0, 9, 42, 187, 0, 13, 89, 183, 0, 15, 181, 0, 16, 42]
abbrev dktX0_init_0 : List UInt8 := dkwX0_init_0 ++ dktX0_init_1
theorem dksX0_init_0 : cX0_init.data.toList.drop 0 = dktX0_init_0 := by decide +kernel
theorem dksX0_init_1 : cX0_init.data.toList.drop 24 = dktX0_init_1 := dk_seg dksX0_init_0 24 rfl rfl
theorem dksX0_init_2 : cX0_init.data.toList.drop 46 = dktX0_init_2 := dk_seg dksX0_init_1 22 rfl rfl
theorem dksX0_init_3 : cX0_init.data.toList.drop 68 = dktX0_init_3 := dk_seg dksX0_init_2 22 rfl rfl
theorem dksX0_init_4 : cX0_init.data.toList.drop 92 = dktX0_init_4 := dk_seg dksX0_init_3 24 rfl rfl
theorem dksX0_init_5 : cX0_init.data.toList.drop 116 = dktX0_init_5 := dk_seg dksX0_init_4 24 rfl rfl
theorem dksX0_init_6 : cX0_init.data.toList.drop 140 = dktX0_init_6 := dk_seg dksX0_init_5 24 rfl rfl
theorem dksX0_init_7 : cX0_init.data.toList.drop 164 = dktX0_init_7 := dk_seg dksX0_init_6 24 rfl rfl
theorem dksX0_init_8 : cX0_init.data.toList.drop 188 = dktX0_init_8 := dk_seg dksX0_init_7 24 rfl rfl
theorem dksX0_init_9 : cX0_init.data.toList.drop 212 = dktX0_init_9 := dk_seg dksX0_init_8 24 rfl rfl
theorem dksX0_init_10 : cX0_init.data.toList.drop 234 = dktX0_init_10 := dk_seg dksX0_init_9 22 rfl rfl
theorem dksX0_init_11 : cX0_init.data.toList.drop 256 = dktX0_init_11 := dk_seg dksX0_init_10 22 rfl rfl
theorem dX0_init_0 : decode cX0_init 0 = .ok (.aload_n 0, 1) := dk_42 (dk_at dksX0_init_0 0 rfl rfl)
theorem dX0_init_1 : decode cX0_init 1 = .ok (.invokespecial 3, 3) := dk_183 0 3 (dk_at dksX0_init_0 1 rfl rfl)
theorem dX0_init_4 : decode cX0_init 4 = .ok (.aload_n 0, 1) := dk_42 (dk_at dksX0_init_0 4 rfl rfl)
theorem dX0_init_5 : decode cX0_init 5 = .ok (.bipush 96, 2) := dk_16 96 (dk_at dksX0_init_0 5 rfl rfl)
theorem dX0_init_7 : decode cX0_init 7 = .ok (.newarray .long, 2) := dk_188_11 (dk_at dksX0_init_0 7 rfl rfl)
theorem dX0_init_9 : decode cX0_init 9 = .ok (.putfield 9, 3) := dk_181 0 9 (dk_at dksX0_init_0 9 rfl rfl)
theorem dX0_init_12 : decode cX0_init 12 = .ok (.aload_n 0, 1) := dk_42 (dk_at dksX0_init_0 12 rfl rfl)
theorem dX0_init_13 : decode cX0_init 13 = .ok (.new 13, 3) := dk_187 0 13 (dk_at dksX0_init_0 13 rfl rfl)
theorem dX0_init_16 : decode cX0_init 16 = .ok (.dup, 1) := dk_89 (dk_at dksX0_init_0 16 rfl rfl)
theorem dX0_init_17 : decode cX0_init 17 = .ok (.invokespecial 15, 3) := dk_183 0 15 (dk_at dksX0_init_0 17 rfl rfl)
theorem dX0_init_20 : decode cX0_init 20 = .ok (.putfield 16, 3) := dk_181 0 16 (dk_at dksX0_init_0 20 rfl rfl)
theorem dX0_init_23 : decode cX0_init 23 = .ok (.aload_n 0, 1) := dk_42 (dk_at dksX0_init_0 23 rfl rfl)
theorem dX0_init_24 : decode cX0_init 24 = .ok (.new 13, 3) := dk_187 0 13 (dk_at dksX0_init_1 0 rfl rfl)
theorem dX0_init_27 : decode cX0_init 27 = .ok (.dup, 1) := dk_89 (dk_at dksX0_init_1 3 rfl rfl)
theorem dX0_init_28 : decode cX0_init 28 = .ok (.invokespecial 15, 3) := dk_183 0 15 (dk_at dksX0_init_1 4 rfl rfl)
theorem dX0_init_31 : decode cX0_init 31 = .ok (.putfield 20, 3) := dk_181 0 20 (dk_at dksX0_init_1 7 rfl rfl)
theorem dX0_init_34 : decode cX0_init 34 = .ok (.aload_n 0, 1) := dk_42 (dk_at dksX0_init_1 10 rfl rfl)
theorem dX0_init_35 : decode cX0_init 35 = .ok (.new 13, 3) := dk_187 0 13 (dk_at dksX0_init_1 11 rfl rfl)
theorem dX0_init_38 : decode cX0_init 38 = .ok (.dup, 1) := dk_89 (dk_at dksX0_init_1 14 rfl rfl)
theorem dX0_init_39 : decode cX0_init 39 = .ok (.invokespecial 15, 3) := dk_183 0 15 (dk_at dksX0_init_1 15 rfl rfl)
theorem dX0_init_42 : decode cX0_init 42 = .ok (.putfield 23, 3) := dk_181 0 23 (dk_at dksX0_init_1 18 rfl rfl)
theorem dX0_init_45 : decode cX0_init 45 = .ok (.aload_n 0, 1) := dk_42 (dk_at dksX0_init_1 21 rfl rfl)
theorem dX0_init_46 : decode cX0_init 46 = .ok (.new 13, 3) := dk_187 0 13 (dk_at dksX0_init_2 0 rfl rfl)
theorem dX0_init_49 : decode cX0_init 49 = .ok (.dup, 1) := dk_89 (dk_at dksX0_init_2 3 rfl rfl)
theorem dX0_init_50 : decode cX0_init 50 = .ok (.invokespecial 15, 3) := dk_183 0 15 (dk_at dksX0_init_2 4 rfl rfl)
theorem dX0_init_53 : decode cX0_init 53 = .ok (.putfield 26, 3) := dk_181 0 26 (dk_at dksX0_init_2 7 rfl rfl)
theorem dX0_init_56 : decode cX0_init 56 = .ok (.aload_n 0, 1) := dk_42 (dk_at dksX0_init_2 10 rfl rfl)
theorem dX0_init_57 : decode cX0_init 57 = .ok (.new 29, 3) := dk_187 0 29 (dk_at dksX0_init_2 11 rfl rfl)
theorem dX0_init_60 : decode cX0_init 60 = .ok (.dup, 1) := dk_89 (dk_at dksX0_init_2 14 rfl rfl)
theorem dX0_init_61 : decode cX0_init 61 = .ok (.invokespecial 31, 3) := dk_183 0 31 (dk_at dksX0_init_2 15 rfl rfl)
theorem dX0_init_64 : decode cX0_init 64 = .ok (.putfield 32, 3) := dk_181 0 32 (dk_at dksX0_init_2 18 rfl rfl)
theorem dX0_init_67 : decode cX0_init 67 = .ok (.aload_n 0, 1) := dk_42 (dk_at dksX0_init_2 21 rfl rfl)
theorem dX0_init_68 : decode cX0_init 68 = .ok (.sipush 400, 3) := dk_17 1 144 (dk_at dksX0_init_3 0 rfl rfl)
theorem dX0_init_71 : decode cX0_init 71 = .ok (.newarray .byte, 2) := dk_188_8 (dk_at dksX0_init_3 3 rfl rfl)
theorem dX0_init_73 : decode cX0_init 73 = .ok (.putfield 36, 3) := dk_181 0 36 (dk_at dksX0_init_3 5 rfl rfl)
theorem dX0_init_76 : decode cX0_init 76 = .ok (.aload_n 0, 1) := dk_42 (dk_at dksX0_init_3 8 rfl rfl)
theorem dX0_init_77 : decode cX0_init 77 = .ok (.iconst 5, 1) := dk_8 (dk_at dksX0_init_3 9 rfl rfl)
theorem dX0_init_78 : decode cX0_init 78 = .ok (.anewarray 40, 3) := dk_189 0 40 (dk_at dksX0_init_3 10 rfl rfl)
theorem dX0_init_81 : decode cX0_init 81 = .ok (.dup, 1) := dk_89 (dk_at dksX0_init_3 13 rfl rfl)
theorem dX0_init_82 : decode cX0_init 82 = .ok (.iconst 0, 1) := dk_3 (dk_at dksX0_init_3 14 rfl rfl)
theorem dX0_init_83 : decode cX0_init 83 = .ok (.ldc 42, 2) := dk_18 42 (dk_at dksX0_init_3 15 rfl rfl)
theorem dX0_init_85 : decode cX0_init 85 = .ok (.aastore, 1) := dk_83 (dk_at dksX0_init_3 17 rfl rfl)
theorem dX0_init_86 : decode cX0_init 86 = .ok (.dup, 1) := dk_89 (dk_at dksX0_init_3 18 rfl rfl)
theorem dX0_init_87 : decode cX0_init 87 = .ok (.iconst 1, 1) := dk_4 (dk_at dksX0_init_3 19 rfl rfl)
theorem dX0_init_88 : decode cX0_init 88 = .ok (.ldc 44, 2) := dk_18 44 (dk_at dksX0_init_3 20 rfl rfl)
theorem dX0_init_90 : decode cX0_init 90 = .ok (.aastore, 1) := dk_83 (dk_at dksX0_init_3 22 rfl rfl)
theorem dX0_init_91 : decode cX0_init 91 = .ok (.dup, 1) := dk_89 (dk_at dksX0_init_3 23 rfl rfl)
theorem dX0_init_92 : decode cX0_init 92 = .ok (.iconst 2, 1) := dk_5 (dk_at dksX0_init_4 0 rfl rfl)
theorem dX0_init_93 : decode cX0_init 93 = .ok (.ldc 46, 2) := dk_18 46 (dk_at dksX0_init_4 1 rfl rfl)
theorem dX0_init_95 : decode cX0_init 95 = .ok (.aastore, 1) := dk_83 (dk_at dksX0_init_4 3 rfl rfl)
theorem dX0_init_96 : decode cX0_init 96 = .ok (.dup, 1) := dk_89 (dk_at dksX0_init_4 4 rfl rfl)
theorem dX0_init_97 : decode cX0_init 97 = .ok (.iconst 3, 1) := dk_6 (dk_at dksX0_init_4 5 rfl rfl)
theorem dX0_init_98 : decode cX0_init 98 = .ok (.ldc 48, 2) := dk_18 48 (dk_at dksX0_init_4 6 rfl rfl)
theorem dX0_init_100 : decode cX0_init 100 = .ok (.aastore, 1) := dk_83 (dk_at dksX0_init_4 8 rfl rfl)
theorem dX0_init_101 : decode cX0_init 101 = .ok (.dup, 1) := dk_89 (dk_at dksX0_init_4 9 rfl rfl)
theorem dX0_init_102 : decode cX0_init 102 = .ok (.iconst 4, 1) := dk_7 (dk_at dksX0_init_4 10 rfl rfl)
theorem dX0_init_103 : decode cX0_init 103 = .ok (.ldc 50, 2) := dk_18 50 (dk_at dksX0_init_4 11 rfl rfl)
theorem dX0_init_105 : decode cX0_init 105 = .ok (.aastore, 1) := dk_83 (dk_at dksX0_init_4 13 rfl rfl)
theorem dX0_init_106 : decode cX0_init 106 = .ok (.putfield 52, 3) := dk_181 0 52 (dk_at dksX0_init_4 14 rfl rfl)
theorem dX0_init_109 : decode cX0_init 109 = .ok (.aload_n 0, 1) := dk_42 (dk_at dksX0_init_4 17 rfl rfl)
theorem dX0_init_110 : decode cX0_init 110 = .ok (.iconst 1, 1) := dk_4 (dk_at dksX0_init_4 18 rfl rfl)
theorem dX0_init_111 : decode cX0_init 111 = .ok (.anewarray 40, 3) := dk_189 0 40 (dk_at dksX0_init_4 19 rfl rfl)
theorem dX0_init_114 : decode cX0_init 114 = .ok (.dup, 1) := dk_89 (dk_at dksX0_init_4 22 rfl rfl)
theorem dX0_init_115 : decode cX0_init 115 = .ok (.iconst 0, 1) := dk_3 (dk_at dksX0_init_4 23 rfl rfl)
theorem dX0_init_116 : decode cX0_init 116 = .ok (.ldc 56, 2) := dk_18 56 (dk_at dksX0_init_5 0 rfl rfl)
theorem dX0_init_118 : decode cX0_init 118 = .ok (.aastore, 1) := dk_83 (dk_at dksX0_init_5 2 rfl rfl)
theorem dX0_init_119 : decode cX0_init 119 = .ok (.putfield 58, 3) := dk_181 0 58 (dk_at dksX0_init_5 3 rfl rfl)
theorem dX0_init_122 : decode cX0_init 122 = .ok (.aload_n 0, 1) := dk_42 (dk_at dksX0_init_5 6 rfl rfl)
theorem dX0_init_123 : decode cX0_init 123 = .ok (.bipush 10, 2) := dk_16 10 (dk_at dksX0_init_5 7 rfl rfl)
theorem dX0_init_125 : decode cX0_init 125 = .ok (.anewarray 40, 3) := dk_189 0 40 (dk_at dksX0_init_5 9 rfl rfl)
theorem dX0_init_128 : decode cX0_init 128 = .ok (.dup, 1) := dk_89 (dk_at dksX0_init_5 12 rfl rfl)
theorem dX0_init_129 : decode cX0_init 129 = .ok (.iconst 0, 1) := dk_3 (dk_at dksX0_init_5 13 rfl rfl)
theorem dX0_init_130 : decode cX0_init 130 = .ok (.ldc 44, 2) := dk_18 44 (dk_at dksX0_init_5 14 rfl rfl)
theorem dX0_init_132 : decode cX0_init 132 = .ok (.aastore, 1) := dk_83 (dk_at dksX0_init_5 16 rfl rfl)
theorem dX0_init_133 : decode cX0_init 133 = .ok (.dup, 1) := dk_89 (dk_at dksX0_init_5 17 rfl rfl)
theorem dX0_init_134 : decode cX0_init 134 = .ok (.iconst 1, 1) := dk_4 (dk_at dksX0_init_5 18 rfl rfl)
theorem dX0_init_135 : decode cX0_init 135 = .ok (.ldc 61, 2) := dk_18 61 (dk_at dksX0_init_5 19 rfl rfl)
theorem dX0_init_137 : decode cX0_init 137 = .ok (.aastore, 1) := dk_83 (dk_at dksX0_init_5 21 rfl rfl)
theorem dX0_init_138 : decode cX0_init 138 = .ok (.dup, 1) := dk_89 (dk_at dksX0_init_5 22 rfl rfl)
theorem dX0_init_139 : decode cX0_init 139 = .ok (.iconst 2, 1) := dk_5 (dk_at dksX0_init_5 23 rfl rfl)
theorem dX0_init_140 : decode cX0_init 140 = .ok (.ldc 63, 2) := dk_18 63 (dk_at dksX0_init_6 0 rfl rfl)
theorem dX0_init_142 : decode cX0_init 142 = .ok (.aastore, 1) := dk_83 (dk_at dksX0_init_6 2 rfl rfl)
theorem dX0_init_143 : decode cX0_init 143 = .ok (.dup, 1) := dk_89 (dk_at dksX0_init_6 3 rfl rfl)
theorem dX0_init_144 : decode cX0_init 144 = .ok (.iconst 3, 1) := dk_6 (dk_at dksX0_init_6 4 rfl rfl)
theorem dX0_init_145 : decode cX0_init 145 = .ok (.ldc 65, 2) := dk_18 65 (dk_at dksX0_init_6 5 rfl rfl)
theorem dX0_init_147 : decode cX0_init 147 = .ok (.aastore, 1) := dk_83 (dk_at dksX0_init_6 7 rfl rfl)
theorem dX0_init_148 : decode cX0_init 148 = .ok (.dup, 1) := dk_89 (dk_at dksX0_init_6 8 rfl rfl)
theorem dX0_init_149 : decode cX0_init 149 = .ok (.iconst 4, 1) := dk_7 (dk_at dksX0_init_6 9 rfl rfl)
theorem dX0_init_150 : decode cX0_init 150 = .ok (.ldc 67, 2) := dk_18 67 (dk_at dksX0_init_6 10 rfl rfl)
theorem dX0_init_152 : decode cX0_init 152 = .ok (.aastore, 1) := dk_83 (dk_at dksX0_init_6 12 rfl rfl)
theorem dX0_init_153 : decode cX0_init 153 = .ok (.dup, 1) := dk_89 (dk_at dksX0_init_6 13 rfl rfl)
theorem dX0_init_154 : decode cX0_init 154 = .ok (.iconst 5, 1) := dk_8 (dk_at dksX0_init_6 14 rfl rfl)
theorem dX0_init_155 : decode cX0_init 155 = .ok (.ldc 69, 2) := dk_18 69 (dk_at dksX0_init_6 15 rfl rfl)
theorem dX0_init_157 : decode cX0_init 157 = .ok (.aastore, 1) := dk_83 (dk_at dksX0_init_6 17 rfl rfl)
theorem dX0_init_158 : decode cX0_init 158 = .ok (.dup, 1) := dk_89 (dk_at dksX0_init_6 18 rfl rfl)
theorem dX0_init_159 : decode cX0_init 159 = .ok (.bipush 6, 2) := dk_16 6 (dk_at dksX0_init_6 19 rfl rfl)
theorem dX0_init_161 : decode cX0_init 161 = .ok (.ldc 71, 2) := dk_18 71 (dk_at dksX0_init_6 21 rfl rfl)
theorem dX0_init_163 : decode cX0_init 163 = .ok (.aastore, 1) := dk_83 (dk_at dksX0_init_6 23 rfl rfl)
theorem dX0_init_164 : decode cX0_init 164 = .ok (.dup, 1) := dk_89 (dk_at dksX0_init_7 0 rfl rfl)
theorem dX0_init_165 : decode cX0_init 165 = .ok (.bipush 7, 2) := dk_16 7 (dk_at dksX0_init_7 1 rfl rfl)
theorem dX0_init_167 : decode cX0_init 167 = .ok (.ldc 73, 2) := dk_18 73 (dk_at dksX0_init_7 3 rfl rfl)
theorem dX0_init_169 : decode cX0_init 169 = .ok (.aastore, 1) := dk_83 (dk_at dksX0_init_7 5 rfl rfl)
theorem dX0_init_170 : decode cX0_init 170 = .ok (.dup, 1) := dk_89 (dk_at dksX0_init_7 6 rfl rfl)
theorem dX0_init_171 : decode cX0_init 171 = .ok (.bipush 8, 2) := dk_16 8 (dk_at dksX0_init_7 7 rfl rfl)
theorem dX0_init_173 : decode cX0_init 173 = .ok (.ldc 75, 2) := dk_18 75 (dk_at dksX0_init_7 9 rfl rfl)
theorem dX0_init_175 : decode cX0_init 175 = .ok (.aastore, 1) := dk_83 (dk_at dksX0_init_7 11 rfl rfl)
theorem dX0_init_176 : decode cX0_init 176 = .ok (.dup, 1) := dk_89 (dk_at dksX0_init_7 12 rfl rfl)
theorem dX0_init_177 : decode cX0_init 177 = .ok (.bipush 9, 2) := dk_16 9 (dk_at dksX0_init_7 13 rfl rfl)
theorem dX0_init_179 : decode cX0_init 179 = .ok (.ldc 77, 2) := dk_18 77 (dk_at dksX0_init_7 15 rfl rfl)
theorem dX0_init_181 : decode cX0_init 181 = .ok (.aastore, 1) := dk_83 (dk_at dksX0_init_7 17 rfl rfl)
theorem dX0_init_182 : decode cX0_init 182 = .ok (.putfield 79, 3) := dk_181 0 79 (dk_at dksX0_init_7 18 rfl rfl)
theorem dX0_init_185 : decode cX0_init 185 = .ok (.aload_n 0, 1) := dk_42 (dk_at dksX0_init_7 21 rfl rfl)
theorem dX0_init_186 : decode cX0_init 186 = .ok (.bipush 6, 2) := dk_16 6 (dk_at dksX0_init_7 22 rfl rfl)
theorem dX0_init_188 : decode cX0_init 188 = .ok (.anewarray 82, 3) := dk_189 0 82 (dk_at dksX0_init_8 0 rfl rfl)
theorem dX0_init_191 : decode cX0_init 191 = .ok (.putfield 84, 3) := dk_181 0 84 (dk_at dksX0_init_8 3 rfl rfl)
theorem dX0_init_194 : decode cX0_init 194 = .ok (.aload_n 0, 1) := dk_42 (dk_at dksX0_init_8 6 rfl rfl)
theorem dX0_init_195 : decode cX0_init 195 = .ok (.bipush 10, 2) := dk_16 10 (dk_at dksX0_init_8 7 rfl rfl)
theorem dX0_init_197 : decode cX0_init 197 = .ok (.newarray .long, 2) := dk_188_11 (dk_at dksX0_init_8 9 rfl rfl)
theorem dX0_init_199 : decode cX0_init 199 = .ok (.putfield 88, 3) := dk_181 0 88 (dk_at dksX0_init_8 11 rfl rfl)
theorem dX0_init_202 : decode cX0_init 202 = .ok (.aload_n 0, 1) := dk_42 (dk_at dksX0_init_8 14 rfl rfl)
theorem dX0_init_203 : decode cX0_init 203 = .ok (.iconst 4, 1) := dk_7 (dk_at dksX0_init_8 15 rfl rfl)
theorem dX0_init_204 : decode cX0_init 204 = .ok (.newarray .int, 2) := dk_188_10 (dk_at dksX0_init_8 16 rfl rfl)
theorem dX0_init_206 : decode cX0_init 206 = .ok (.putfield 91, 3) := dk_181 0 91 (dk_at dksX0_init_8 18 rfl rfl)
theorem dX0_init_209 : decode cX0_init 209 = .ok (.aload_n 0, 1) := dk_42 (dk_at dksX0_init_8 21 rfl rfl)
theorem dX0_init_210 : decode cX0_init 210 = .ok (.bipush 8, 2) := dk_16 8 (dk_at dksX0_init_8 22 rfl rfl)
theorem dX0_init_212 : decode cX0_init 212 = .ok (.newarray .int, 2) := dk_188_10 (dk_at dksX0_init_9 0 rfl rfl)
theorem dX0_init_214 : decode cX0_init 214 = .ok (.putfield 95, 3) := dk_181 0 95 (dk_at dksX0_init_9 2 rfl rfl)
theorem dX0_init_217 : decode cX0_init 217 = .ok (.aload_n 0, 1) := dk_42 (dk_at dksX0_init_9 5 rfl rfl)
theorem dX0_init_218 : decode cX0_init 218 = .ok (.bipush 8, 2) := dk_16 8 (dk_at dksX0_init_9 6 rfl rfl)
theorem dX0_init_220 : decode cX0_init 220 = .ok (.newarray .int, 2) := dk_188_10 (dk_at dksX0_init_9 8 rfl rfl)
theorem dX0_init_222 : decode cX0_init 222 = .ok (.putfield 98, 3) := dk_181 0 98 (dk_at dksX0_init_9 10 rfl rfl)
theorem dX0_init_225 : decode cX0_init 225 = .ok (.aload_n 0, 1) := dk_42 (dk_at dksX0_init_9 13 rfl rfl)
theorem dX0_init_226 : decode cX0_init 226 = .ok (.bipush 16, 2) := dk_16 16 (dk_at dksX0_init_9 14 rfl rfl)
theorem dX0_init_228 : decode cX0_init 228 = .ok (.newarray .long, 2) := dk_188_11 (dk_at dksX0_init_9 16 rfl rfl)
theorem dX0_init_230 : decode cX0_init 230 = .ok (.putfield 101, 3) := dk_181 0 101 (dk_at dksX0_init_9 18 rfl rfl)
theorem dX0_init_233 : decode cX0_init 233 = .ok (.aload_n 0, 1) := dk_42 (dk_at dksX0_init_9 21 rfl rfl)
theorem dX0_init_234 : decode cX0_init 234 = .ok (.sipush 384, 3) := dk_17 1 128 (dk_at dksX0_init_10 0 rfl rfl)
theorem dX0_init_237 : decode cX0_init 237 = .ok (.newarray .int, 2) := dk_188_10 (dk_at dksX0_init_10 3 rfl rfl)
theorem dX0_init_239 : decode cX0_init 239 = .ok (.putfield 104, 3) := dk_181 0 104 (dk_at dksX0_init_10 5 rfl rfl)
theorem dX0_init_242 : decode cX0_init 242 = .ok (.aload_n 0, 1) := dk_42 (dk_at dksX0_init_10 8 rfl rfl)
theorem dX0_init_243 : decode cX0_init 243 = .ok (.sipush 256, 3) := dk_17 1 0 (dk_at dksX0_init_10 9 rfl rfl)
theorem dX0_init_246 : decode cX0_init 246 = .ok (.newarray .int, 2) := dk_188_10 (dk_at dksX0_init_10 12 rfl rfl)
theorem dX0_init_248 : decode cX0_init 248 = .ok (.putfield 107, 3) := dk_181 0 107 (dk_at dksX0_init_10 14 rfl rfl)
theorem dX0_init_251 : decode cX0_init 251 = .ok (.aload_n 0, 1) := dk_42 (dk_at dksX0_init_10 17 rfl rfl)
theorem dX0_init_252 : decode cX0_init 252 = .ok (.iconst 4, 1) := dk_7 (dk_at dksX0_init_10 18 rfl rfl)
theorem dX0_init_253 : decode cX0_init 253 = .ok (.anewarray 110, 3) := dk_189 0 110 (dk_at dksX0_init_10 19 rfl rfl)
theorem dX0_init_256 : decode cX0_init 256 = .ok (.putfield 112, 3) := dk_181 0 112 (dk_at dksX0_init_11 0 rfl rfl)
theorem dX0_init_259 : decode cX0_init 259 = .ok (.return_, 1) := dk_177 (dk_at dksX0_init_11 3 rfl rfl)
abbrev cX0_feed : ByteArray := prog_1_method_4_code
def yX0_feed : MethodName := ⟨RX0, "feed", "(IIIII)I"⟩
def dkwX0_feed_2 : List UInt8 := [172]
abbrev dktX0_feed_2 : List UInt8 := dkwX0_feed_2 ++ []
def dkwX0_feed_1 : List UInt8 := [182, 0, 120, 42, 29, 182, 0, 120, 42, 21, 4, 182, 0, 120, 42, 21, 5, 182, 0, 120, 42, 180, 0, 116]
abbrev dktX0_feed_1 : List UInt8 := dkwX0_feed_1 ++ dktX0_feed_2
def dkwX0_feed_0 : List UInt8 := [42, 180, 0, 116, 16, 20, 96, 17, 1, 144, 164, 0, 5, 2, 172, 42, 27, 182, 0, 120, 42, 28]
abbrev dktX0_feed_0 : List UInt8 := dkwX0_feed_0 ++ dktX0_feed_1
theorem dksX0_feed_0 : cX0_feed.data.toList.drop 0 = dktX0_feed_0 := by decide +kernel
theorem dksX0_feed_1 : cX0_feed.data.toList.drop 22 = dktX0_feed_1 := dk_seg dksX0_feed_0 22 rfl rfl
theorem dksX0_feed_2 : cX0_feed.data.toList.drop 46 = dktX0_feed_2 := dk_seg dksX0_feed_1 24 rfl rfl
theorem dX0_feed_0 : decode cX0_feed 0 = .ok (.aload_n 0, 1) := dk_42 (dk_at dksX0_feed_0 0 rfl rfl)
theorem dX0_feed_1 : decode cX0_feed 1 = .ok (.getfield 116, 3) := dk_180 0 116 (dk_at dksX0_feed_0 1 rfl rfl)
theorem dX0_feed_4 : decode cX0_feed 4 = .ok (.bipush 20, 2) := dk_16 20 (dk_at dksX0_feed_0 4 rfl rfl)
theorem dX0_feed_6 : decode cX0_feed 6 = .ok (.iadd, 1) := dk_96 (dk_at dksX0_feed_0 6 rfl rfl)
theorem dX0_feed_7 : decode cX0_feed 7 = .ok (.sipush 400, 3) := dk_17 1 144 (dk_at dksX0_feed_0 7 rfl rfl)
theorem dX0_feed_10 : decode cX0_feed 10 = .ok (.if_icmp .le 5, 3) := dk_164 0 5 (dk_at dksX0_feed_0 10 rfl rfl)
theorem dX0_feed_13 : decode cX0_feed 13 = .ok (.iconst (-1), 1) := dk_2 (dk_at dksX0_feed_0 13 rfl rfl)
theorem dX0_feed_14 : decode cX0_feed 14 = .ok (.ireturn, 1) := dk_172 (dk_at dksX0_feed_0 14 rfl rfl)
theorem dX0_feed_15 : decode cX0_feed 15 = .ok (.aload_n 0, 1) := dk_42 (dk_at dksX0_feed_0 15 rfl rfl)
theorem dX0_feed_16 : decode cX0_feed 16 = .ok (.iload_n 1, 1) := dk_27 (dk_at dksX0_feed_0 16 rfl rfl)
theorem dX0_feed_17 : decode cX0_feed 17 = .ok (.invokevirtual 120, 3) := dk_182 0 120 (dk_at dksX0_feed_0 17 rfl rfl)
theorem dX0_feed_20 : decode cX0_feed 20 = .ok (.aload_n 0, 1) := dk_42 (dk_at dksX0_feed_0 20 rfl rfl)
theorem dX0_feed_21 : decode cX0_feed 21 = .ok (.iload_n 2, 1) := dk_28 (dk_at dksX0_feed_0 21 rfl rfl)
theorem dX0_feed_22 : decode cX0_feed 22 = .ok (.invokevirtual 120, 3) := dk_182 0 120 (dk_at dksX0_feed_1 0 rfl rfl)
theorem dX0_feed_25 : decode cX0_feed 25 = .ok (.aload_n 0, 1) := dk_42 (dk_at dksX0_feed_1 3 rfl rfl)
theorem dX0_feed_26 : decode cX0_feed 26 = .ok (.iload_n 3, 1) := dk_29 (dk_at dksX0_feed_1 4 rfl rfl)
theorem dX0_feed_27 : decode cX0_feed 27 = .ok (.invokevirtual 120, 3) := dk_182 0 120 (dk_at dksX0_feed_1 5 rfl rfl)
theorem dX0_feed_30 : decode cX0_feed 30 = .ok (.aload_n 0, 1) := dk_42 (dk_at dksX0_feed_1 8 rfl rfl)
theorem dX0_feed_31 : decode cX0_feed 31 = .ok (.iload 4, 2) := dk_21 4 (dk_at dksX0_feed_1 9 rfl rfl)
theorem dX0_feed_33 : decode cX0_feed 33 = .ok (.invokevirtual 120, 3) := dk_182 0 120 (dk_at dksX0_feed_1 11 rfl rfl)
theorem dX0_feed_36 : decode cX0_feed 36 = .ok (.aload_n 0, 1) := dk_42 (dk_at dksX0_feed_1 14 rfl rfl)
theorem dX0_feed_37 : decode cX0_feed 37 = .ok (.iload 5, 2) := dk_21 5 (dk_at dksX0_feed_1 15 rfl rfl)
theorem dX0_feed_39 : decode cX0_feed 39 = .ok (.invokevirtual 120, 3) := dk_182 0 120 (dk_at dksX0_feed_1 17 rfl rfl)
theorem dX0_feed_42 : decode cX0_feed 42 = .ok (.aload_n 0, 1) := dk_42 (dk_at dksX0_feed_1 20 rfl rfl)
theorem dX0_feed_43 : decode cX0_feed 43 = .ok (.getfield 116, 3) := dk_180 0 116 (dk_at dksX0_feed_1 21 rfl rfl)
theorem dX0_feed_46 : decode cX0_feed 46 = .ok (.ireturn, 1) := dk_172 (dk_at dksX0_feed_2 0 rfl rfl)
abbrev cX0_four : ByteArray := prog_1_method_5_code
def yX0_four : MethodName := ⟨RX0, "four", "(I)V"⟩
def dkwX0_four_1 : List UInt8 := [180, 0, 116, 4, 96, 181, 0, 116, 132, 2, 248, 167, 255, 226, 177]
abbrev dktX0_four_1 : List UInt8 := dkwX0_four_1 ++ []
def dkwX0_four_0 : List UInt8 := [16, 24, 61, 28, 155, 0, 32, 42, 180, 0, 36, 42, 180, 0, 116, 27, 28, 122, 145, 84, 42, 89]
abbrev dktX0_four_0 : List UInt8 := dkwX0_four_0 ++ dktX0_four_1
theorem dksX0_four_0 : cX0_four.data.toList.drop 0 = dktX0_four_0 := by decide +kernel
theorem dksX0_four_1 : cX0_four.data.toList.drop 22 = dktX0_four_1 := dk_seg dksX0_four_0 22 rfl rfl
theorem dX0_four_0 : decode cX0_four 0 = .ok (.bipush 24, 2) := dk_16 24 (dk_at dksX0_four_0 0 rfl rfl)
theorem dX0_four_2 : decode cX0_four 2 = .ok (.istore_n 2, 1) := dk_61 (dk_at dksX0_four_0 2 rfl rfl)
theorem dX0_four_3 : decode cX0_four 3 = .ok (.iload_n 2, 1) := dk_28 (dk_at dksX0_four_0 3 rfl rfl)
theorem dX0_four_4 : decode cX0_four 4 = .ok (.ifCond .lt 32, 3) := dk_155 0 32 (dk_at dksX0_four_0 4 rfl rfl)
theorem dX0_four_7 : decode cX0_four 7 = .ok (.aload_n 0, 1) := dk_42 (dk_at dksX0_four_0 7 rfl rfl)
theorem dX0_four_8 : decode cX0_four 8 = .ok (.getfield 36, 3) := dk_180 0 36 (dk_at dksX0_four_0 8 rfl rfl)
theorem dX0_four_11 : decode cX0_four 11 = .ok (.aload_n 0, 1) := dk_42 (dk_at dksX0_four_0 11 rfl rfl)
theorem dX0_four_12 : decode cX0_four 12 = .ok (.getfield 116, 3) := dk_180 0 116 (dk_at dksX0_four_0 12 rfl rfl)
theorem dX0_four_15 : decode cX0_four 15 = .ok (.iload_n 1, 1) := dk_27 (dk_at dksX0_four_0 15 rfl rfl)
theorem dX0_four_16 : decode cX0_four 16 = .ok (.iload_n 2, 1) := dk_28 (dk_at dksX0_four_0 16 rfl rfl)
theorem dX0_four_17 : decode cX0_four 17 = .ok (.ishr, 1) := dk_122 (dk_at dksX0_four_0 17 rfl rfl)
theorem dX0_four_18 : decode cX0_four 18 = .ok (.i2b, 1) := dk_145 (dk_at dksX0_four_0 18 rfl rfl)
theorem dX0_four_19 : decode cX0_four 19 = .ok (.bastore, 1) := dk_84 (dk_at dksX0_four_0 19 rfl rfl)
theorem dX0_four_20 : decode cX0_four 20 = .ok (.aload_n 0, 1) := dk_42 (dk_at dksX0_four_0 20 rfl rfl)
theorem dX0_four_21 : decode cX0_four 21 = .ok (.dup, 1) := dk_89 (dk_at dksX0_four_0 21 rfl rfl)
theorem dX0_four_22 : decode cX0_four 22 = .ok (.getfield 116, 3) := dk_180 0 116 (dk_at dksX0_four_1 0 rfl rfl)
theorem dX0_four_25 : decode cX0_four 25 = .ok (.iconst 1, 1) := dk_4 (dk_at dksX0_four_1 3 rfl rfl)
theorem dX0_four_26 : decode cX0_four 26 = .ok (.iadd, 1) := dk_96 (dk_at dksX0_four_1 4 rfl rfl)
theorem dX0_four_27 : decode cX0_four 27 = .ok (.putfield 116, 3) := dk_181 0 116 (dk_at dksX0_four_1 5 rfl rfl)
theorem dX0_four_30 : decode cX0_four 30 = .ok (.iinc 2 (-8), 3) := dk_132 2 248 (dk_at dksX0_four_1 8 rfl rfl)
theorem dX0_four_33 : decode cX0_four 33 = .ok (.goto (-30), 3) := dk_167 255 226 (dk_at dksX0_four_1 11 rfl rfl)
theorem dX0_four_36 : decode cX0_four 36 = .ok (.return_, 1) := dk_177 (dk_at dksX0_four_1 14 rfl rfl)
abbrev cX0_end : ByteArray := prog_1_method_6_code
def yX0_end : MethodName := ⟨RX0, "end", "(I)I"⟩
def dkwX0_end_0 : List UInt8 := [27, 155, 0, 11, 27, 42, 180, 0, 116, 164, 0, 5, 2, 172, 42, 27, 181, 0, 116, 27, 172]
abbrev dktX0_end_0 : List UInt8 := dkwX0_end_0 ++ []
theorem dksX0_end_0 : cX0_end.data.toList.drop 0 = dktX0_end_0 := by decide +kernel
theorem dX0_end_0 : decode cX0_end 0 = .ok (.iload_n 1, 1) := dk_27 (dk_at dksX0_end_0 0 rfl rfl)
theorem dX0_end_1 : decode cX0_end 1 = .ok (.ifCond .lt 11, 3) := dk_155 0 11 (dk_at dksX0_end_0 1 rfl rfl)
theorem dX0_end_4 : decode cX0_end 4 = .ok (.iload_n 1, 1) := dk_27 (dk_at dksX0_end_0 4 rfl rfl)
theorem dX0_end_5 : decode cX0_end 5 = .ok (.aload_n 0, 1) := dk_42 (dk_at dksX0_end_0 5 rfl rfl)
theorem dX0_end_6 : decode cX0_end 6 = .ok (.getfield 116, 3) := dk_180 0 116 (dk_at dksX0_end_0 6 rfl rfl)
theorem dX0_end_9 : decode cX0_end 9 = .ok (.if_icmp .le 5, 3) := dk_164 0 5 (dk_at dksX0_end_0 9 rfl rfl)
theorem dX0_end_12 : decode cX0_end 12 = .ok (.iconst (-1), 1) := dk_2 (dk_at dksX0_end_0 12 rfl rfl)
theorem dX0_end_13 : decode cX0_end 13 = .ok (.ireturn, 1) := dk_172 (dk_at dksX0_end_0 13 rfl rfl)
theorem dX0_end_14 : decode cX0_end 14 = .ok (.aload_n 0, 1) := dk_42 (dk_at dksX0_end_0 14 rfl rfl)
theorem dX0_end_15 : decode cX0_end 15 = .ok (.iload_n 1, 1) := dk_27 (dk_at dksX0_end_0 15 rfl rfl)
theorem dX0_end_16 : decode cX0_end 16 = .ok (.putfield 116, 3) := dk_181 0 116 (dk_at dksX0_end_0 16 rfl rfl)
theorem dX0_end_19 : decode cX0_end 19 = .ok (.iload_n 1, 1) := dk_27 (dk_at dksX0_end_0 19 rfl rfl)
theorem dX0_end_20 : decode cX0_end 20 = .ok (.ireturn, 1) := dk_172 (dk_at dksX0_end_0 20 rfl rfl)
abbrev cX0_land : ByteArray := prog_1_method_8_code
def yX0_land : MethodName := ⟨RX0, "land", "()I"⟩
def dkwX0_land_1 : List UInt8 := [180, 0, 142, 180, 0, 145, 60, 167, 0, 9, 77, 42, 182, 0, 148, 60, 42, 3, 181, 0, 116, 27, 172]
abbrev dktX0_land_1 : List UInt8 := dkwX0_land_1 ++ []
def dkwX0_land_0 : List UInt8 := [42, 42, 180, 0, 16, 187, 0, 129, 89, 42, 183, 0, 131, 182, 0, 134, 182, 0, 138, 181, 0, 142, 42]
abbrev dktX0_land_0 : List UInt8 := dkwX0_land_0 ++ dktX0_land_1
theorem dksX0_land_0 : cX0_land.data.toList.drop 0 = dktX0_land_0 := by decide +kernel
theorem dksX0_land_1 : cX0_land.data.toList.drop 23 = dktX0_land_1 := dk_seg dksX0_land_0 23 rfl rfl
theorem dX0_land_0 : decode cX0_land 0 = .ok (.aload_n 0, 1) := dk_42 (dk_at dksX0_land_0 0 rfl rfl)
theorem dX0_land_1 : decode cX0_land 1 = .ok (.aload_n 0, 1) := dk_42 (dk_at dksX0_land_0 1 rfl rfl)
theorem dX0_land_2 : decode cX0_land 2 = .ok (.getfield 16, 3) := dk_180 0 16 (dk_at dksX0_land_0 2 rfl rfl)
theorem dX0_land_5 : decode cX0_land 5 = .ok (.new 129, 3) := dk_187 0 129 (dk_at dksX0_land_0 5 rfl rfl)
theorem dX0_land_8 : decode cX0_land 8 = .ok (.dup, 1) := dk_89 (dk_at dksX0_land_0 8 rfl rfl)
theorem dX0_land_9 : decode cX0_land 9 = .ok (.aload_n 0, 1) := dk_42 (dk_at dksX0_land_0 9 rfl rfl)
theorem dX0_land_10 : decode cX0_land 10 = .ok (.invokespecial 131, 3) := dk_183 0 131 (dk_at dksX0_land_0 10 rfl rfl)
theorem dX0_land_13 : decode cX0_land 13 = .ok (.invokevirtual 134, 3) := dk_182 0 134 (dk_at dksX0_land_0 13 rfl rfl)
theorem dX0_land_16 : decode cX0_land 16 = .ok (.invokevirtual 138, 3) := dk_182 0 138 (dk_at dksX0_land_0 16 rfl rfl)
theorem dX0_land_19 : decode cX0_land 19 = .ok (.putfield 142, 3) := dk_181 0 142 (dk_at dksX0_land_0 19 rfl rfl)
theorem dX0_land_22 : decode cX0_land 22 = .ok (.aload_n 0, 1) := dk_42 (dk_at dksX0_land_0 22 rfl rfl)
theorem dX0_land_23 : decode cX0_land 23 = .ok (.getfield 142, 3) := dk_180 0 142 (dk_at dksX0_land_1 0 rfl rfl)
theorem dX0_land_26 : decode cX0_land 26 = .ok (.getfield 145, 3) := dk_180 0 145 (dk_at dksX0_land_1 3 rfl rfl)
theorem dX0_land_29 : decode cX0_land 29 = .ok (.istore_n 1, 1) := dk_60 (dk_at dksX0_land_1 6 rfl rfl)
theorem dX0_land_30 : decode cX0_land 30 = .ok (.goto 9, 3) := dk_167 0 9 (dk_at dksX0_land_1 7 rfl rfl)
theorem dX0_land_33 : decode cX0_land 33 = .ok (.astore_n 2, 1) := dk_77 (dk_at dksX0_land_1 10 rfl rfl)
theorem dX0_land_34 : decode cX0_land 34 = .ok (.aload_n 0, 1) := dk_42 (dk_at dksX0_land_1 11 rfl rfl)
theorem dX0_land_35 : decode cX0_land 35 = .ok (.invokevirtual 148, 3) := dk_182 0 148 (dk_at dksX0_land_1 12 rfl rfl)
theorem dX0_land_38 : decode cX0_land 38 = .ok (.istore_n 1, 1) := dk_60 (dk_at dksX0_land_1 15 rfl rfl)
theorem dX0_land_39 : decode cX0_land 39 = .ok (.aload_n 0, 1) := dk_42 (dk_at dksX0_land_1 16 rfl rfl)
theorem dX0_land_40 : decode cX0_land 40 = .ok (.iconst 0, 1) := dk_3 (dk_at dksX0_land_1 17 rfl rfl)
theorem dX0_land_41 : decode cX0_land 41 = .ok (.putfield 116, 3) := dk_181 0 116 (dk_at dksX0_land_1 18 rfl rfl)
theorem dX0_land_44 : decode cX0_land 44 = .ok (.iload_n 1, 1) := dk_27 (dk_at dksX0_land_1 21 rfl rfl)
theorem dX0_land_45 : decode cX0_land 45 = .ok (.ireturn, 1) := dk_172 (dk_at dksX0_land_1 22 rfl rfl)
abbrev cX0_in : ByteArray := prog_1_method_1_code
def yX0_in : MethodName := ⟨RX0, "in", "(JJJ)Z"⟩
def dkwX0_in_0 : List UInt8 := [30, 32, 148, 155, 0, 14, 30, 22, 4, 148, 157, 0, 7, 4, 167, 0, 4, 3, 172]
abbrev dktX0_in_0 : List UInt8 := dkwX0_in_0 ++ []
theorem dksX0_in_0 : cX0_in.data.toList.drop 0 = dktX0_in_0 := by decide +kernel
theorem dX0_in_0 : decode cX0_in 0 = .ok (.lload_n 0, 1) := dk_30 (dk_at dksX0_in_0 0 rfl rfl)
theorem dX0_in_1 : decode cX0_in 1 = .ok (.lload_n 2, 1) := dk_32 (dk_at dksX0_in_0 1 rfl rfl)
theorem dX0_in_2 : decode cX0_in 2 = .ok (.lcmp, 1) := dk_148 (dk_at dksX0_in_0 2 rfl rfl)
theorem dX0_in_3 : decode cX0_in 3 = .ok (.ifCond .lt 14, 3) := dk_155 0 14 (dk_at dksX0_in_0 3 rfl rfl)
theorem dX0_in_6 : decode cX0_in 6 = .ok (.lload_n 0, 1) := dk_30 (dk_at dksX0_in_0 6 rfl rfl)
theorem dX0_in_7 : decode cX0_in 7 = .ok (.lload 4, 2) := dk_22 4 (dk_at dksX0_in_0 7 rfl rfl)
theorem dX0_in_9 : decode cX0_in 9 = .ok (.lcmp, 1) := dk_148 (dk_at dksX0_in_0 9 rfl rfl)
theorem dX0_in_10 : decode cX0_in 10 = .ok (.ifCond .gt 7, 3) := dk_157 0 7 (dk_at dksX0_in_0 10 rfl rfl)
theorem dX0_in_13 : decode cX0_in 13 = .ok (.iconst 1, 1) := dk_4 (dk_at dksX0_in_0 13 rfl rfl)
theorem dX0_in_14 : decode cX0_in 14 = .ok (.goto 4, 3) := dk_167 0 4 (dk_at dksX0_in_0 14 rfl rfl)
theorem dX0_in_17 : decode cX0_in 17 = .ok (.iconst 0, 1) := dk_3 (dk_at dksX0_in_0 17 rfl rfl)
theorem dX0_in_18 : decode cX0_in 18 = .ok (.ireturn, 1) := dk_172 (dk_at dksX0_in_0 18 rfl rfl)
abbrev cX0_has : ByteArray := prog_1_method_2_code
def yX0_has : MethodName := ⟨RX0, "has", "(II)Z"⟩
def dkwX0_has_0 : List UInt8 := [26, 27, 122, 4, 126, 4, 160, 0, 7, 4, 167, 0, 4, 3, 172]
abbrev dktX0_has_0 : List UInt8 := dkwX0_has_0 ++ []
theorem dksX0_has_0 : cX0_has.data.toList.drop 0 = dktX0_has_0 := by decide +kernel
theorem dX0_has_0 : decode cX0_has 0 = .ok (.iload_n 0, 1) := dk_26 (dk_at dksX0_has_0 0 rfl rfl)
theorem dX0_has_1 : decode cX0_has 1 = .ok (.iload_n 1, 1) := dk_27 (dk_at dksX0_has_0 1 rfl rfl)
theorem dX0_has_2 : decode cX0_has 2 = .ok (.ishr, 1) := dk_122 (dk_at dksX0_has_0 2 rfl rfl)
theorem dX0_has_3 : decode cX0_has 3 = .ok (.iconst 1, 1) := dk_4 (dk_at dksX0_has_0 3 rfl rfl)
theorem dX0_has_4 : decode cX0_has 4 = .ok (.iand, 1) := dk_126 (dk_at dksX0_has_0 4 rfl rfl)
theorem dX0_has_5 : decode cX0_has 5 = .ok (.iconst 1, 1) := dk_4 (dk_at dksX0_has_0 5 rfl rfl)
theorem dX0_has_6 : decode cX0_has 6 = .ok (.if_icmp .ne 7, 3) := dk_160 0 7 (dk_at dksX0_has_0 6 rfl rfl)
theorem dX0_has_9 : decode cX0_has 9 = .ok (.iconst 1, 1) := dk_4 (dk_at dksX0_has_0 9 rfl rfl)
theorem dX0_has_10 : decode cX0_has 10 = .ok (.goto 4, 3) := dk_167 0 4 (dk_at dksX0_has_0 10 rfl rfl)
theorem dX0_has_13 : decode cX0_has 13 = .ok (.iconst 0, 1) := dk_3 (dk_at dksX0_has_0 13 rfl rfl)
theorem dX0_has_14 : decode cX0_has 14 = .ok (.ireturn, 1) := dk_172 (dk_at dksX0_has_0 14 rfl rfl)
abbrev cX0_faulted : ByteArray := prog_1_method_7_code
def yX0_faulted : MethodName := ⟨RX0, "faulted", "()I"⟩
def dkwX0_faulted_0 : List UInt8 := [16, 254, 4, 16, 8, 42, 180, 0, 32, 180, 0, 124, 104, 96, 42, 180, 0, 32, 180, 0, 126, 96, 100, 172]
abbrev dktX0_faulted_0 : List UInt8 := dkwX0_faulted_0 ++ []
theorem dksX0_faulted_0 : cX0_faulted.data.toList.drop 0 = dktX0_faulted_0 := by decide +kernel
theorem dX0_faulted_0 : decode cX0_faulted 0 = .ok (.bipush (-2), 2) := dk_16 254 (dk_at dksX0_faulted_0 0 rfl rfl)
theorem dX0_faulted_2 : decode cX0_faulted 2 = .ok (.iconst 1, 1) := dk_4 (dk_at dksX0_faulted_0 2 rfl rfl)
theorem dX0_faulted_3 : decode cX0_faulted 3 = .ok (.bipush 8, 2) := dk_16 8 (dk_at dksX0_faulted_0 3 rfl rfl)
theorem dX0_faulted_5 : decode cX0_faulted 5 = .ok (.aload_n 0, 1) := dk_42 (dk_at dksX0_faulted_0 5 rfl rfl)
theorem dX0_faulted_6 : decode cX0_faulted 6 = .ok (.getfield 32, 3) := dk_180 0 32 (dk_at dksX0_faulted_0 6 rfl rfl)
theorem dX0_faulted_9 : decode cX0_faulted 9 = .ok (.getfield 124, 3) := dk_180 0 124 (dk_at dksX0_faulted_0 9 rfl rfl)
theorem dX0_faulted_12 : decode cX0_faulted 12 = .ok (.imul, 1) := dk_104 (dk_at dksX0_faulted_0 12 rfl rfl)
theorem dX0_faulted_13 : decode cX0_faulted 13 = .ok (.iadd, 1) := dk_96 (dk_at dksX0_faulted_0 13 rfl rfl)
theorem dX0_faulted_14 : decode cX0_faulted 14 = .ok (.aload_n 0, 1) := dk_42 (dk_at dksX0_faulted_0 14 rfl rfl)
theorem dX0_faulted_15 : decode cX0_faulted 15 = .ok (.getfield 32, 3) := dk_180 0 32 (dk_at dksX0_faulted_0 15 rfl rfl)
theorem dX0_faulted_18 : decode cX0_faulted 18 = .ok (.getfield 126, 3) := dk_180 0 126 (dk_at dksX0_faulted_0 18 rfl rfl)
theorem dX0_faulted_21 : decode cX0_faulted 21 = .ok (.iadd, 1) := dk_96 (dk_at dksX0_faulted_0 21 rfl rfl)
theorem dX0_faulted_22 : decode cX0_faulted 22 = .ok (.isub, 1) := dk_100 (dk_at dksX0_faulted_0 22 rfl rfl)
theorem dX0_faulted_23 : decode cX0_faulted 23 = .ok (.ireturn, 1) := dk_172 (dk_at dksX0_faulted_0 23 rfl rfl)
abbrev cX0_saying : ByteArray := prog_1_method_10_code
def yX0_saying : MethodName := ⟨RX0, "saying", "()I"⟩
def dkwX0_saying_2 : List UInt8 := [167, 0, 9, 77, 42, 182, 0, 148, 60, 42, 3, 181, 0, 116, 27, 172]
abbrev dktX0_saying_2 : List UInt8 := dkwX0_saying_2 ++ []
def dkwX0_saying_1 : List UInt8 := [183, 0, 131, 182, 0, 161, 42, 180, 0, 158, 182, 0, 165, 42, 89, 180, 0, 158, 4, 96, 181, 0, 158]
abbrev dktX0_saying_1 : List UInt8 := dkwX0_saying_1 ++ dktX0_saying_2
def dkwX0_saying_0 : List UInt8 := [42, 180, 0, 158, 16, 24, 160, 0, 5, 2, 172, 42, 180, 0, 158, 60, 42, 187, 0, 129, 89, 42]
abbrev dktX0_saying_0 : List UInt8 := dkwX0_saying_0 ++ dktX0_saying_1
theorem dksX0_saying_0 : cX0_saying.data.toList.drop 0 = dktX0_saying_0 := by decide +kernel
theorem dksX0_saying_1 : cX0_saying.data.toList.drop 22 = dktX0_saying_1 := dk_seg dksX0_saying_0 22 rfl rfl
theorem dksX0_saying_2 : cX0_saying.data.toList.drop 45 = dktX0_saying_2 := dk_seg dksX0_saying_1 23 rfl rfl
theorem dX0_saying_0 : decode cX0_saying 0 = .ok (.aload_n 0, 1) := dk_42 (dk_at dksX0_saying_0 0 rfl rfl)
theorem dX0_saying_1 : decode cX0_saying 1 = .ok (.getfield 158, 3) := dk_180 0 158 (dk_at dksX0_saying_0 1 rfl rfl)
theorem dX0_saying_4 : decode cX0_saying 4 = .ok (.bipush 24, 2) := dk_16 24 (dk_at dksX0_saying_0 4 rfl rfl)
theorem dX0_saying_6 : decode cX0_saying 6 = .ok (.if_icmp .ne 5, 3) := dk_160 0 5 (dk_at dksX0_saying_0 6 rfl rfl)
theorem dX0_saying_9 : decode cX0_saying 9 = .ok (.iconst (-1), 1) := dk_2 (dk_at dksX0_saying_0 9 rfl rfl)
theorem dX0_saying_10 : decode cX0_saying 10 = .ok (.ireturn, 1) := dk_172 (dk_at dksX0_saying_0 10 rfl rfl)
theorem dX0_saying_11 : decode cX0_saying 11 = .ok (.aload_n 0, 1) := dk_42 (dk_at dksX0_saying_0 11 rfl rfl)
theorem dX0_saying_12 : decode cX0_saying 12 = .ok (.getfield 158, 3) := dk_180 0 158 (dk_at dksX0_saying_0 12 rfl rfl)
theorem dX0_saying_15 : decode cX0_saying 15 = .ok (.istore_n 1, 1) := dk_60 (dk_at dksX0_saying_0 15 rfl rfl)
theorem dX0_saying_16 : decode cX0_saying 16 = .ok (.aload_n 0, 1) := dk_42 (dk_at dksX0_saying_0 16 rfl rfl)
theorem dX0_saying_17 : decode cX0_saying 17 = .ok (.new 129, 3) := dk_187 0 129 (dk_at dksX0_saying_0 17 rfl rfl)
theorem dX0_saying_20 : decode cX0_saying 20 = .ok (.dup, 1) := dk_89 (dk_at dksX0_saying_0 20 rfl rfl)
theorem dX0_saying_21 : decode cX0_saying 21 = .ok (.aload_n 0, 1) := dk_42 (dk_at dksX0_saying_0 21 rfl rfl)
theorem dX0_saying_22 : decode cX0_saying 22 = .ok (.invokespecial 131, 3) := dk_183 0 131 (dk_at dksX0_saying_1 0 rfl rfl)
theorem dX0_saying_25 : decode cX0_saying 25 = .ok (.invokevirtual 161, 3) := dk_182 0 161 (dk_at dksX0_saying_1 3 rfl rfl)
theorem dX0_saying_28 : decode cX0_saying 28 = .ok (.aload_n 0, 1) := dk_42 (dk_at dksX0_saying_1 6 rfl rfl)
theorem dX0_saying_29 : decode cX0_saying 29 = .ok (.getfield 158, 3) := dk_180 0 158 (dk_at dksX0_saying_1 7 rfl rfl)
theorem dX0_saying_32 : decode cX0_saying 32 = .ok (.invokevirtual 165, 3) := dk_182 0 165 (dk_at dksX0_saying_1 10 rfl rfl)
theorem dX0_saying_35 : decode cX0_saying 35 = .ok (.aload_n 0, 1) := dk_42 (dk_at dksX0_saying_1 13 rfl rfl)
theorem dX0_saying_36 : decode cX0_saying 36 = .ok (.dup, 1) := dk_89 (dk_at dksX0_saying_1 14 rfl rfl)
theorem dX0_saying_37 : decode cX0_saying 37 = .ok (.getfield 158, 3) := dk_180 0 158 (dk_at dksX0_saying_1 15 rfl rfl)
theorem dX0_saying_40 : decode cX0_saying 40 = .ok (.iconst 1, 1) := dk_4 (dk_at dksX0_saying_1 18 rfl rfl)
theorem dX0_saying_41 : decode cX0_saying 41 = .ok (.iadd, 1) := dk_96 (dk_at dksX0_saying_1 19 rfl rfl)
theorem dX0_saying_42 : decode cX0_saying 42 = .ok (.putfield 158, 3) := dk_181 0 158 (dk_at dksX0_saying_1 20 rfl rfl)
theorem dX0_saying_45 : decode cX0_saying 45 = .ok (.goto 9, 3) := dk_167 0 9 (dk_at dksX0_saying_2 0 rfl rfl)
theorem dX0_saying_48 : decode cX0_saying 48 = .ok (.astore_n 2, 1) := dk_77 (dk_at dksX0_saying_2 3 rfl rfl)
theorem dX0_saying_49 : decode cX0_saying 49 = .ok (.aload_n 0, 1) := dk_42 (dk_at dksX0_saying_2 4 rfl rfl)
theorem dX0_saying_50 : decode cX0_saying 50 = .ok (.invokevirtual 148, 3) := dk_182 0 148 (dk_at dksX0_saying_2 5 rfl rfl)
theorem dX0_saying_53 : decode cX0_saying 53 = .ok (.istore_n 1, 1) := dk_60 (dk_at dksX0_saying_2 8 rfl rfl)
theorem dX0_saying_54 : decode cX0_saying 54 = .ok (.aload_n 0, 1) := dk_42 (dk_at dksX0_saying_2 9 rfl rfl)
theorem dX0_saying_55 : decode cX0_saying 55 = .ok (.iconst 0, 1) := dk_3 (dk_at dksX0_saying_2 10 rfl rfl)
theorem dX0_saying_56 : decode cX0_saying 56 = .ok (.putfield 116, 3) := dk_181 0 116 (dk_at dksX0_saying_2 11 rfl rfl)
theorem dX0_saying_59 : decode cX0_saying 59 = .ok (.iload_n 1, 1) := dk_27 (dk_at dksX0_saying_2 14 rfl rfl)
theorem dX0_saying_60 : decode cX0_saying 60 = .ok (.ireturn, 1) := dk_172 (dk_at dksX0_saying_2 15 rfl rfl)
abbrev cX0_lays : ByteArray := prog_1_method_9_code
def yX0_lays : MethodName := ⟨RX0, "lays", "(LTruthBridge$Form;I)V"⟩
def dkwX0_lays_2 : List UInt8 := [29, 16, 64, 108, 96, 92, 47, 10, 29, 16, 64, 112, 121, 129, 80, 132, 3, 1, 167, 255, 216, 177]
abbrev dktX0_lays_2 : List UInt8 := dkwX0_lays_2 ++ []
def dkwX0_lays_1 : List UInt8 := [3, 62, 29, 17, 1, 0, 162, 0, 39, 43, 29, 182, 0, 152, 153, 0, 25, 42, 180, 0, 9, 7, 28, 104]
abbrev dktX0_lays_1 : List UInt8 := dkwX0_lays_1 ++ dktX0_lays_2
def dkwX0_lays_0 : List UInt8 := [3, 62, 29, 7, 162, 0, 20, 42, 180, 0, 9, 7, 28, 104, 29, 96, 9, 80, 132, 3, 1, 167, 255, 237]
abbrev dktX0_lays_0 : List UInt8 := dkwX0_lays_0 ++ dktX0_lays_1
theorem dksX0_lays_0 : cX0_lays.data.toList.drop 0 = dktX0_lays_0 := by decide +kernel
theorem dksX0_lays_1 : cX0_lays.data.toList.drop 24 = dktX0_lays_1 := dk_seg dksX0_lays_0 24 rfl rfl
theorem dksX0_lays_2 : cX0_lays.data.toList.drop 48 = dktX0_lays_2 := dk_seg dksX0_lays_1 24 rfl rfl
theorem dX0_lays_0 : decode cX0_lays 0 = .ok (.iconst 0, 1) := dk_3 (dk_at dksX0_lays_0 0 rfl rfl)
theorem dX0_lays_1 : decode cX0_lays 1 = .ok (.istore_n 3, 1) := dk_62 (dk_at dksX0_lays_0 1 rfl rfl)
theorem dX0_lays_2 : decode cX0_lays 2 = .ok (.iload_n 3, 1) := dk_29 (dk_at dksX0_lays_0 2 rfl rfl)
theorem dX0_lays_3 : decode cX0_lays 3 = .ok (.iconst 4, 1) := dk_7 (dk_at dksX0_lays_0 3 rfl rfl)
theorem dX0_lays_4 : decode cX0_lays 4 = .ok (.if_icmp .ge 20, 3) := dk_162 0 20 (dk_at dksX0_lays_0 4 rfl rfl)
theorem dX0_lays_7 : decode cX0_lays 7 = .ok (.aload_n 0, 1) := dk_42 (dk_at dksX0_lays_0 7 rfl rfl)
theorem dX0_lays_8 : decode cX0_lays 8 = .ok (.getfield 9, 3) := dk_180 0 9 (dk_at dksX0_lays_0 8 rfl rfl)
theorem dX0_lays_11 : decode cX0_lays 11 = .ok (.iconst 4, 1) := dk_7 (dk_at dksX0_lays_0 11 rfl rfl)
theorem dX0_lays_12 : decode cX0_lays 12 = .ok (.iload_n 2, 1) := dk_28 (dk_at dksX0_lays_0 12 rfl rfl)
theorem dX0_lays_13 : decode cX0_lays 13 = .ok (.imul, 1) := dk_104 (dk_at dksX0_lays_0 13 rfl rfl)
theorem dX0_lays_14 : decode cX0_lays 14 = .ok (.iload_n 3, 1) := dk_29 (dk_at dksX0_lays_0 14 rfl rfl)
theorem dX0_lays_15 : decode cX0_lays 15 = .ok (.iadd, 1) := dk_96 (dk_at dksX0_lays_0 15 rfl rfl)
theorem dX0_lays_16 : decode cX0_lays 16 = .ok (.lconst 0, 1) := dk_9 (dk_at dksX0_lays_0 16 rfl rfl)
theorem dX0_lays_17 : decode cX0_lays 17 = .ok (.lastore, 1) := dk_80 (dk_at dksX0_lays_0 17 rfl rfl)
theorem dX0_lays_18 : decode cX0_lays 18 = .ok (.iinc 3 1, 3) := dk_132 3 1 (dk_at dksX0_lays_0 18 rfl rfl)
theorem dX0_lays_21 : decode cX0_lays 21 = .ok (.goto (-19), 3) := dk_167 255 237 (dk_at dksX0_lays_0 21 rfl rfl)
theorem dX0_lays_24 : decode cX0_lays 24 = .ok (.iconst 0, 1) := dk_3 (dk_at dksX0_lays_1 0 rfl rfl)
theorem dX0_lays_25 : decode cX0_lays 25 = .ok (.istore_n 3, 1) := dk_62 (dk_at dksX0_lays_1 1 rfl rfl)
theorem dX0_lays_26 : decode cX0_lays 26 = .ok (.iload_n 3, 1) := dk_29 (dk_at dksX0_lays_1 2 rfl rfl)
theorem dX0_lays_27 : decode cX0_lays 27 = .ok (.sipush 256, 3) := dk_17 1 0 (dk_at dksX0_lays_1 3 rfl rfl)
theorem dX0_lays_30 : decode cX0_lays 30 = .ok (.if_icmp .ge 39, 3) := dk_162 0 39 (dk_at dksX0_lays_1 6 rfl rfl)
theorem dX0_lays_33 : decode cX0_lays 33 = .ok (.aload_n 1, 1) := dk_43 (dk_at dksX0_lays_1 9 rfl rfl)
theorem dX0_lays_34 : decode cX0_lays 34 = .ok (.iload_n 3, 1) := dk_29 (dk_at dksX0_lays_1 10 rfl rfl)
theorem dX0_lays_35 : decode cX0_lays 35 = .ok (.invokevirtual 152, 3) := dk_182 0 152 (dk_at dksX0_lays_1 11 rfl rfl)
theorem dX0_lays_38 : decode cX0_lays 38 = .ok (.ifCond .eq 25, 3) := dk_153 0 25 (dk_at dksX0_lays_1 14 rfl rfl)
theorem dX0_lays_41 : decode cX0_lays 41 = .ok (.aload_n 0, 1) := dk_42 (dk_at dksX0_lays_1 17 rfl rfl)
theorem dX0_lays_42 : decode cX0_lays 42 = .ok (.getfield 9, 3) := dk_180 0 9 (dk_at dksX0_lays_1 18 rfl rfl)
theorem dX0_lays_45 : decode cX0_lays 45 = .ok (.iconst 4, 1) := dk_7 (dk_at dksX0_lays_1 21 rfl rfl)
theorem dX0_lays_46 : decode cX0_lays 46 = .ok (.iload_n 2, 1) := dk_28 (dk_at dksX0_lays_1 22 rfl rfl)
theorem dX0_lays_47 : decode cX0_lays 47 = .ok (.imul, 1) := dk_104 (dk_at dksX0_lays_1 23 rfl rfl)
theorem dX0_lays_48 : decode cX0_lays 48 = .ok (.iload_n 3, 1) := dk_29 (dk_at dksX0_lays_2 0 rfl rfl)
theorem dX0_lays_49 : decode cX0_lays 49 = .ok (.bipush 64, 2) := dk_16 64 (dk_at dksX0_lays_2 1 rfl rfl)
theorem dX0_lays_51 : decode cX0_lays 51 = .ok (.idiv, 1) := dk_108 (dk_at dksX0_lays_2 3 rfl rfl)
theorem dX0_lays_52 : decode cX0_lays 52 = .ok (.iadd, 1) := dk_96 (dk_at dksX0_lays_2 4 rfl rfl)
theorem dX0_lays_53 : decode cX0_lays 53 = .ok (.dup2, 1) := dk_92 (dk_at dksX0_lays_2 5 rfl rfl)
theorem dX0_lays_54 : decode cX0_lays 54 = .ok (.laload, 1) := dk_47 (dk_at dksX0_lays_2 6 rfl rfl)
theorem dX0_lays_55 : decode cX0_lays 55 = .ok (.lconst 1, 1) := dk_10 (dk_at dksX0_lays_2 7 rfl rfl)
theorem dX0_lays_56 : decode cX0_lays 56 = .ok (.iload_n 3, 1) := dk_29 (dk_at dksX0_lays_2 8 rfl rfl)
theorem dX0_lays_57 : decode cX0_lays 57 = .ok (.bipush 64, 2) := dk_16 64 (dk_at dksX0_lays_2 9 rfl rfl)
theorem dX0_lays_59 : decode cX0_lays 59 = .ok (.irem, 1) := dk_112 (dk_at dksX0_lays_2 11 rfl rfl)
theorem dX0_lays_60 : decode cX0_lays 60 = .ok (.lshl, 1) := dk_121 (dk_at dksX0_lays_2 12 rfl rfl)
theorem dX0_lays_61 : decode cX0_lays 61 = .ok (.lor, 1) := dk_129 (dk_at dksX0_lays_2 13 rfl rfl)
theorem dX0_lays_62 : decode cX0_lays 62 = .ok (.lastore, 1) := dk_80 (dk_at dksX0_lays_2 14 rfl rfl)
theorem dX0_lays_63 : decode cX0_lays 63 = .ok (.iinc 3 1, 3) := dk_132 3 1 (dk_at dksX0_lays_2 15 rfl rfl)
theorem dX0_lays_66 : decode cX0_lays 66 = .ok (.goto (-40), 3) := dk_167 255 216 (dk_at dksX0_lays_2 18 rfl rfl)
theorem dX0_lays_69 : decode cX0_lays 69 = .ok (.return_, 1) := dk_177 (dk_at dksX0_lays_2 21 rfl rfl)
abbrev cX0_rule : ByteArray := prog_1_method_11_code
def yX0_rule : MethodName := ⟨RX0, "rule", "()I"⟩
def dkwX0_rule_2 : List UInt8 := [167, 0, 9, 77, 42, 182, 0, 148, 60, 42, 3, 181, 0, 116, 27, 172]
abbrev dktX0_rule_2 : List UInt8 := dkwX0_rule_2 ++ []
def dkwX0_rule_1 : List UInt8 := [187, 0, 129, 89, 42, 183, 0, 131, 182, 0, 172, 83, 42, 89, 180, 0, 169, 4, 96, 181, 0, 169]
abbrev dktX0_rule_1 : List UInt8 := dkwX0_rule_1 ++ dktX0_rule_2
def dkwX0_rule_0 : List UInt8 := [42, 180, 0, 169, 16, 6, 160, 0, 5, 2, 172, 42, 180, 0, 169, 60, 42, 180, 0, 84, 42, 180, 0, 169]
abbrev dktX0_rule_0 : List UInt8 := dkwX0_rule_0 ++ dktX0_rule_1
theorem dksX0_rule_0 : cX0_rule.data.toList.drop 0 = dktX0_rule_0 := by decide +kernel
theorem dksX0_rule_1 : cX0_rule.data.toList.drop 24 = dktX0_rule_1 := dk_seg dksX0_rule_0 24 rfl rfl
theorem dksX0_rule_2 : cX0_rule.data.toList.drop 46 = dktX0_rule_2 := dk_seg dksX0_rule_1 22 rfl rfl
theorem dX0_rule_0 : decode cX0_rule 0 = .ok (.aload_n 0, 1) := dk_42 (dk_at dksX0_rule_0 0 rfl rfl)
theorem dX0_rule_1 : decode cX0_rule 1 = .ok (.getfield 169, 3) := dk_180 0 169 (dk_at dksX0_rule_0 1 rfl rfl)
theorem dX0_rule_4 : decode cX0_rule 4 = .ok (.bipush 6, 2) := dk_16 6 (dk_at dksX0_rule_0 4 rfl rfl)
theorem dX0_rule_6 : decode cX0_rule 6 = .ok (.if_icmp .ne 5, 3) := dk_160 0 5 (dk_at dksX0_rule_0 6 rfl rfl)
theorem dX0_rule_9 : decode cX0_rule 9 = .ok (.iconst (-1), 1) := dk_2 (dk_at dksX0_rule_0 9 rfl rfl)
theorem dX0_rule_10 : decode cX0_rule 10 = .ok (.ireturn, 1) := dk_172 (dk_at dksX0_rule_0 10 rfl rfl)
theorem dX0_rule_11 : decode cX0_rule 11 = .ok (.aload_n 0, 1) := dk_42 (dk_at dksX0_rule_0 11 rfl rfl)
theorem dX0_rule_12 : decode cX0_rule 12 = .ok (.getfield 169, 3) := dk_180 0 169 (dk_at dksX0_rule_0 12 rfl rfl)
theorem dX0_rule_15 : decode cX0_rule 15 = .ok (.istore_n 1, 1) := dk_60 (dk_at dksX0_rule_0 15 rfl rfl)
theorem dX0_rule_16 : decode cX0_rule 16 = .ok (.aload_n 0, 1) := dk_42 (dk_at dksX0_rule_0 16 rfl rfl)
theorem dX0_rule_17 : decode cX0_rule 17 = .ok (.getfield 84, 3) := dk_180 0 84 (dk_at dksX0_rule_0 17 rfl rfl)
theorem dX0_rule_20 : decode cX0_rule 20 = .ok (.aload_n 0, 1) := dk_42 (dk_at dksX0_rule_0 20 rfl rfl)
theorem dX0_rule_21 : decode cX0_rule 21 = .ok (.getfield 169, 3) := dk_180 0 169 (dk_at dksX0_rule_0 21 rfl rfl)
theorem dX0_rule_24 : decode cX0_rule 24 = .ok (.new 129, 3) := dk_187 0 129 (dk_at dksX0_rule_1 0 rfl rfl)
theorem dX0_rule_27 : decode cX0_rule 27 = .ok (.dup, 1) := dk_89 (dk_at dksX0_rule_1 3 rfl rfl)
theorem dX0_rule_28 : decode cX0_rule 28 = .ok (.aload_n 0, 1) := dk_42 (dk_at dksX0_rule_1 4 rfl rfl)
theorem dX0_rule_29 : decode cX0_rule 29 = .ok (.invokespecial 131, 3) := dk_183 0 131 (dk_at dksX0_rule_1 5 rfl rfl)
theorem dX0_rule_32 : decode cX0_rule 32 = .ok (.invokevirtual 172, 3) := dk_182 0 172 (dk_at dksX0_rule_1 8 rfl rfl)
theorem dX0_rule_35 : decode cX0_rule 35 = .ok (.aastore, 1) := dk_83 (dk_at dksX0_rule_1 11 rfl rfl)
theorem dX0_rule_36 : decode cX0_rule 36 = .ok (.aload_n 0, 1) := dk_42 (dk_at dksX0_rule_1 12 rfl rfl)
theorem dX0_rule_37 : decode cX0_rule 37 = .ok (.dup, 1) := dk_89 (dk_at dksX0_rule_1 13 rfl rfl)
theorem dX0_rule_38 : decode cX0_rule 38 = .ok (.getfield 169, 3) := dk_180 0 169 (dk_at dksX0_rule_1 14 rfl rfl)
theorem dX0_rule_41 : decode cX0_rule 41 = .ok (.iconst 1, 1) := dk_4 (dk_at dksX0_rule_1 17 rfl rfl)
theorem dX0_rule_42 : decode cX0_rule 42 = .ok (.iadd, 1) := dk_96 (dk_at dksX0_rule_1 18 rfl rfl)
theorem dX0_rule_43 : decode cX0_rule 43 = .ok (.putfield 169, 3) := dk_181 0 169 (dk_at dksX0_rule_1 19 rfl rfl)
theorem dX0_rule_46 : decode cX0_rule 46 = .ok (.goto 9, 3) := dk_167 0 9 (dk_at dksX0_rule_2 0 rfl rfl)
theorem dX0_rule_49 : decode cX0_rule 49 = .ok (.astore_n 2, 1) := dk_77 (dk_at dksX0_rule_2 3 rfl rfl)
theorem dX0_rule_50 : decode cX0_rule 50 = .ok (.aload_n 0, 1) := dk_42 (dk_at dksX0_rule_2 4 rfl rfl)
theorem dX0_rule_51 : decode cX0_rule 51 = .ok (.invokevirtual 148, 3) := dk_182 0 148 (dk_at dksX0_rule_2 5 rfl rfl)
theorem dX0_rule_54 : decode cX0_rule 54 = .ok (.istore_n 1, 1) := dk_60 (dk_at dksX0_rule_2 8 rfl rfl)
theorem dX0_rule_55 : decode cX0_rule 55 = .ok (.aload_n 0, 1) := dk_42 (dk_at dksX0_rule_2 9 rfl rfl)
theorem dX0_rule_56 : decode cX0_rule 56 = .ok (.iconst 0, 1) := dk_3 (dk_at dksX0_rule_2 10 rfl rfl)
theorem dX0_rule_57 : decode cX0_rule 57 = .ok (.putfield 116, 3) := dk_181 0 116 (dk_at dksX0_rule_2 11 rfl rfl)
theorem dX0_rule_60 : decode cX0_rule 60 = .ok (.iload_n 1, 1) := dk_27 (dk_at dksX0_rule_2 14 rfl rfl)
theorem dX0_rule_61 : decode cX0_rule 61 = .ok (.ireturn, 1) := dk_172 (dk_at dksX0_rule_2 15 rfl rfl)
abbrev cX0_person : ByteArray := prog_1_method_25_code
def yX0_person : MethodName := ⟨RX0, "person", "(II)I"⟩
def dkwX0_person_6 : List UInt8 := [21, 4, 120, 167, 0, 4, 3, 128, 62, 132, 4, 1, 167, 255, 217, 29, 172]
abbrev dktX0_person_6 : List UInt8 := dkwX0_person_6 ++ []
def dkwX0_person_5 : List UInt8 := [180, 0, 142, 180, 0, 237, 162, 0, 33, 29, 42, 180, 0, 142, 27, 21, 4, 182, 0, 240, 153, 0, 10, 4]
abbrev dktX0_person_5 : List UInt8 := dkwX0_person_5 ++ dktX0_person_6
def dkwX0_person_4 : List UInt8 := [46, 172, 42, 180, 0, 142, 27, 182, 0, 233, 172, 167, 0, 5, 2, 172, 3, 62, 3, 54, 4, 21, 4, 42]
abbrev dktX0_person_4 : List UInt8 := dkwX0_person_4 ++ dktX0_person_5
def dkwX0_person_3 : List UInt8 := [180, 0, 227, 27, 46, 172, 42, 180, 0, 142, 180, 0, 230, 27, 46, 172, 42, 180, 0, 142, 180, 0, 196, 27]
abbrev dktX0_person_3 : List UInt8 := dkwX0_person_3 ++ dktX0_person_4
def dkwX0_person_2 : List UInt8 := [42, 180, 0, 142, 180, 0, 225, 27, 46, 172, 42, 180, 0, 142, 180, 0, 210, 27, 46, 172, 42, 180, 0, 142]
abbrev dktX0_person_2 : List UInt8 := dkwX0_person_2 ++ dktX0_person_3
def dkwX0_person_1 : List UInt8 := [170, 0, 0, 0, 103, 0, 0, 0, 0, 0, 0, 0, 6, 0, 0, 0, 41, 0, 0, 0, 51, 0, 0, 0, 61, 0, 0, 0, 71, 0, 0, 0, 81, 0, 0, 0, 91, 0, 0, 0, 100]
abbrev dktX0_person_1 : List UInt8 := dkwX0_person_1 ++ dktX0_person_2
def dkwX0_person_0 : List UInt8 := [42, 27, 182, 0, 222, 154, 0, 5, 2, 172, 28]
abbrev dktX0_person_0 : List UInt8 := dkwX0_person_0 ++ dktX0_person_1
theorem dksX0_person_0 : cX0_person.data.toList.drop 0 = dktX0_person_0 := by decide +kernel
theorem dksX0_person_1 : cX0_person.data.toList.drop 11 = dktX0_person_1 := dk_seg dksX0_person_0 11 rfl rfl
theorem dksX0_person_2 : cX0_person.data.toList.drop 52 = dktX0_person_2 := dk_seg dksX0_person_1 41 rfl rfl
theorem dksX0_person_3 : cX0_person.data.toList.drop 76 = dktX0_person_3 := dk_seg dksX0_person_2 24 rfl rfl
theorem dksX0_person_4 : cX0_person.data.toList.drop 100 = dktX0_person_4 := dk_seg dksX0_person_3 24 rfl rfl
theorem dksX0_person_5 : cX0_person.data.toList.drop 124 = dktX0_person_5 := dk_seg dksX0_person_4 24 rfl rfl
theorem dksX0_person_6 : cX0_person.data.toList.drop 148 = dktX0_person_6 := dk_seg dksX0_person_5 24 rfl rfl
theorem dX0_person_0 : decode cX0_person 0 = .ok (.aload_n 0, 1) := dk_42 (dk_at dksX0_person_0 0 rfl rfl)
theorem dX0_person_1 : decode cX0_person 1 = .ok (.iload_n 1, 1) := dk_27 (dk_at dksX0_person_0 1 rfl rfl)
theorem dX0_person_2 : decode cX0_person 2 = .ok (.invokevirtual 222, 3) := dk_182 0 222 (dk_at dksX0_person_0 2 rfl rfl)
theorem dX0_person_5 : decode cX0_person 5 = .ok (.ifCond .ne 5, 3) := dk_154 0 5 (dk_at dksX0_person_0 5 rfl rfl)
theorem dX0_person_8 : decode cX0_person 8 = .ok (.iconst (-1), 1) := dk_2 (dk_at dksX0_person_0 8 rfl rfl)
theorem dX0_person_9 : decode cX0_person 9 = .ok (.ireturn, 1) := dk_172 (dk_at dksX0_person_0 9 rfl rfl)
theorem dX0_person_10 : decode cX0_person 10 = .ok (.iload_n 2, 1) := dk_28 (dk_at dksX0_person_0 10 rfl rfl)
theorem dX0_person_11 : decode cX0_person 11 = .ok (.tableswitch 103 0 6 #[41, 51, 61, 71, 81, 91, 100], 41) := by decide +kernel
theorem dX0_person_52 : decode cX0_person 52 = .ok (.aload_n 0, 1) := dk_42 (dk_at dksX0_person_2 0 rfl rfl)
theorem dX0_person_53 : decode cX0_person 53 = .ok (.getfield 142, 3) := dk_180 0 142 (dk_at dksX0_person_2 1 rfl rfl)
theorem dX0_person_56 : decode cX0_person 56 = .ok (.getfield 225, 3) := dk_180 0 225 (dk_at dksX0_person_2 4 rfl rfl)
theorem dX0_person_59 : decode cX0_person 59 = .ok (.iload_n 1, 1) := dk_27 (dk_at dksX0_person_2 7 rfl rfl)
theorem dX0_person_60 : decode cX0_person 60 = .ok (.iaload, 1) := dk_46 (dk_at dksX0_person_2 8 rfl rfl)
theorem dX0_person_61 : decode cX0_person 61 = .ok (.ireturn, 1) := dk_172 (dk_at dksX0_person_2 9 rfl rfl)
theorem dX0_person_62 : decode cX0_person 62 = .ok (.aload_n 0, 1) := dk_42 (dk_at dksX0_person_2 10 rfl rfl)
theorem dX0_person_63 : decode cX0_person 63 = .ok (.getfield 142, 3) := dk_180 0 142 (dk_at dksX0_person_2 11 rfl rfl)
theorem dX0_person_66 : decode cX0_person 66 = .ok (.getfield 210, 3) := dk_180 0 210 (dk_at dksX0_person_2 14 rfl rfl)
theorem dX0_person_69 : decode cX0_person 69 = .ok (.iload_n 1, 1) := dk_27 (dk_at dksX0_person_2 17 rfl rfl)
theorem dX0_person_70 : decode cX0_person 70 = .ok (.iaload, 1) := dk_46 (dk_at dksX0_person_2 18 rfl rfl)
theorem dX0_person_71 : decode cX0_person 71 = .ok (.ireturn, 1) := dk_172 (dk_at dksX0_person_2 19 rfl rfl)
theorem dX0_person_72 : decode cX0_person 72 = .ok (.aload_n 0, 1) := dk_42 (dk_at dksX0_person_2 20 rfl rfl)
theorem dX0_person_73 : decode cX0_person 73 = .ok (.getfield 142, 3) := dk_180 0 142 (dk_at dksX0_person_2 21 rfl rfl)
theorem dX0_person_76 : decode cX0_person 76 = .ok (.getfield 227, 3) := dk_180 0 227 (dk_at dksX0_person_3 0 rfl rfl)
theorem dX0_person_79 : decode cX0_person 79 = .ok (.iload_n 1, 1) := dk_27 (dk_at dksX0_person_3 3 rfl rfl)
theorem dX0_person_80 : decode cX0_person 80 = .ok (.iaload, 1) := dk_46 (dk_at dksX0_person_3 4 rfl rfl)
theorem dX0_person_81 : decode cX0_person 81 = .ok (.ireturn, 1) := dk_172 (dk_at dksX0_person_3 5 rfl rfl)
theorem dX0_person_82 : decode cX0_person 82 = .ok (.aload_n 0, 1) := dk_42 (dk_at dksX0_person_3 6 rfl rfl)
theorem dX0_person_83 : decode cX0_person 83 = .ok (.getfield 142, 3) := dk_180 0 142 (dk_at dksX0_person_3 7 rfl rfl)
theorem dX0_person_86 : decode cX0_person 86 = .ok (.getfield 230, 3) := dk_180 0 230 (dk_at dksX0_person_3 10 rfl rfl)
theorem dX0_person_89 : decode cX0_person 89 = .ok (.iload_n 1, 1) := dk_27 (dk_at dksX0_person_3 13 rfl rfl)
theorem dX0_person_90 : decode cX0_person 90 = .ok (.iaload, 1) := dk_46 (dk_at dksX0_person_3 14 rfl rfl)
theorem dX0_person_91 : decode cX0_person 91 = .ok (.ireturn, 1) := dk_172 (dk_at dksX0_person_3 15 rfl rfl)
theorem dX0_person_92 : decode cX0_person 92 = .ok (.aload_n 0, 1) := dk_42 (dk_at dksX0_person_3 16 rfl rfl)
theorem dX0_person_93 : decode cX0_person 93 = .ok (.getfield 142, 3) := dk_180 0 142 (dk_at dksX0_person_3 17 rfl rfl)
theorem dX0_person_96 : decode cX0_person 96 = .ok (.getfield 196, 3) := dk_180 0 196 (dk_at dksX0_person_3 20 rfl rfl)
theorem dX0_person_99 : decode cX0_person 99 = .ok (.iload_n 1, 1) := dk_27 (dk_at dksX0_person_3 23 rfl rfl)
theorem dX0_person_100 : decode cX0_person 100 = .ok (.iaload, 1) := dk_46 (dk_at dksX0_person_4 0 rfl rfl)
theorem dX0_person_101 : decode cX0_person 101 = .ok (.ireturn, 1) := dk_172 (dk_at dksX0_person_4 1 rfl rfl)
theorem dX0_person_102 : decode cX0_person 102 = .ok (.aload_n 0, 1) := dk_42 (dk_at dksX0_person_4 2 rfl rfl)
theorem dX0_person_103 : decode cX0_person 103 = .ok (.getfield 142, 3) := dk_180 0 142 (dk_at dksX0_person_4 3 rfl rfl)
theorem dX0_person_106 : decode cX0_person 106 = .ok (.iload_n 1, 1) := dk_27 (dk_at dksX0_person_4 6 rfl rfl)
theorem dX0_person_107 : decode cX0_person 107 = .ok (.invokevirtual 233, 3) := dk_182 0 233 (dk_at dksX0_person_4 7 rfl rfl)
theorem dX0_person_110 : decode cX0_person 110 = .ok (.ireturn, 1) := dk_172 (dk_at dksX0_person_4 10 rfl rfl)
theorem dX0_person_111 : decode cX0_person 111 = .ok (.goto 5, 3) := dk_167 0 5 (dk_at dksX0_person_4 11 rfl rfl)
theorem dX0_person_114 : decode cX0_person 114 = .ok (.iconst (-1), 1) := dk_2 (dk_at dksX0_person_4 14 rfl rfl)
theorem dX0_person_115 : decode cX0_person 115 = .ok (.ireturn, 1) := dk_172 (dk_at dksX0_person_4 15 rfl rfl)
theorem dX0_person_116 : decode cX0_person 116 = .ok (.iconst 0, 1) := dk_3 (dk_at dksX0_person_4 16 rfl rfl)
theorem dX0_person_117 : decode cX0_person 117 = .ok (.istore_n 3, 1) := dk_62 (dk_at dksX0_person_4 17 rfl rfl)
theorem dX0_person_118 : decode cX0_person 118 = .ok (.iconst 0, 1) := dk_3 (dk_at dksX0_person_4 18 rfl rfl)
theorem dX0_person_119 : decode cX0_person 119 = .ok (.istore 4, 2) := dk_54 4 (dk_at dksX0_person_4 19 rfl rfl)
theorem dX0_person_121 : decode cX0_person 121 = .ok (.iload 4, 2) := dk_21 4 (dk_at dksX0_person_4 21 rfl rfl)
theorem dX0_person_123 : decode cX0_person 123 = .ok (.aload_n 0, 1) := dk_42 (dk_at dksX0_person_4 23 rfl rfl)
theorem dX0_person_124 : decode cX0_person 124 = .ok (.getfield 142, 3) := dk_180 0 142 (dk_at dksX0_person_5 0 rfl rfl)
theorem dX0_person_127 : decode cX0_person 127 = .ok (.getfield 237, 3) := dk_180 0 237 (dk_at dksX0_person_5 3 rfl rfl)
theorem dX0_person_130 : decode cX0_person 130 = .ok (.if_icmp .ge 33, 3) := dk_162 0 33 (dk_at dksX0_person_5 6 rfl rfl)
theorem dX0_person_133 : decode cX0_person 133 = .ok (.iload_n 3, 1) := dk_29 (dk_at dksX0_person_5 9 rfl rfl)
theorem dX0_person_134 : decode cX0_person 134 = .ok (.aload_n 0, 1) := dk_42 (dk_at dksX0_person_5 10 rfl rfl)
theorem dX0_person_135 : decode cX0_person 135 = .ok (.getfield 142, 3) := dk_180 0 142 (dk_at dksX0_person_5 11 rfl rfl)
theorem dX0_person_138 : decode cX0_person 138 = .ok (.iload_n 1, 1) := dk_27 (dk_at dksX0_person_5 14 rfl rfl)
theorem dX0_person_139 : decode cX0_person 139 = .ok (.iload 4, 2) := dk_21 4 (dk_at dksX0_person_5 15 rfl rfl)
theorem dX0_person_141 : decode cX0_person 141 = .ok (.invokevirtual 240, 3) := dk_182 0 240 (dk_at dksX0_person_5 17 rfl rfl)
theorem dX0_person_144 : decode cX0_person 144 = .ok (.ifCond .eq 10, 3) := dk_153 0 10 (dk_at dksX0_person_5 20 rfl rfl)
theorem dX0_person_147 : decode cX0_person 147 = .ok (.iconst 1, 1) := dk_4 (dk_at dksX0_person_5 23 rfl rfl)
theorem dX0_person_148 : decode cX0_person 148 = .ok (.iload 4, 2) := dk_21 4 (dk_at dksX0_person_6 0 rfl rfl)
theorem dX0_person_150 : decode cX0_person 150 = .ok (.ishl, 1) := dk_120 (dk_at dksX0_person_6 2 rfl rfl)
theorem dX0_person_151 : decode cX0_person 151 = .ok (.goto 4, 3) := dk_167 0 4 (dk_at dksX0_person_6 3 rfl rfl)
theorem dX0_person_154 : decode cX0_person 154 = .ok (.iconst 0, 1) := dk_3 (dk_at dksX0_person_6 6 rfl rfl)
theorem dX0_person_155 : decode cX0_person 155 = .ok (.ior, 1) := dk_128 (dk_at dksX0_person_6 7 rfl rfl)
theorem dX0_person_156 : decode cX0_person 156 = .ok (.istore_n 3, 1) := dk_62 (dk_at dksX0_person_6 8 rfl rfl)
theorem dX0_person_157 : decode cX0_person 157 = .ok (.iinc 4 1, 3) := dk_132 4 1 (dk_at dksX0_person_6 9 rfl rfl)
theorem dX0_person_160 : decode cX0_person 160 = .ok (.goto (-39), 3) := dk_167 255 217 (dk_at dksX0_person_6 12 rfl rfl)
theorem dX0_person_163 : decode cX0_person 163 = .ok (.iload_n 3, 1) := dk_29 (dk_at dksX0_person_6 15 rfl rfl)
theorem dX0_person_164 : decode cX0_person 164 = .ok (.ireturn, 1) := dk_172 (dk_at dksX0_person_6 16 rfl rfl)
abbrev cX0_isPerson : ByteArray := prog_1_method_15_code
def yX0_isPerson : MethodName := ⟨RX0, "isPerson", "(I)Z"⟩
def dkwX0_isPerson_1 : List UInt8 := [167, 0, 4, 3, 172]
abbrev dktX0_isPerson_1 : List UInt8 := dkwX0_isPerson_1 ++ []
def dkwX0_isPerson_0 : List UInt8 := [42, 180, 0, 142, 198, 0, 22, 27, 155, 0, 18, 27, 42, 180, 0, 142, 180, 0, 145, 162, 0, 7, 4]
abbrev dktX0_isPerson_0 : List UInt8 := dkwX0_isPerson_0 ++ dktX0_isPerson_1
theorem dksX0_isPerson_0 : cX0_isPerson.data.toList.drop 0 = dktX0_isPerson_0 := by decide +kernel
theorem dksX0_isPerson_1 : cX0_isPerson.data.toList.drop 23 = dktX0_isPerson_1 := dk_seg dksX0_isPerson_0 23 rfl rfl
theorem dX0_isPerson_0 : decode cX0_isPerson 0 = .ok (.aload_n 0, 1) := dk_42 (dk_at dksX0_isPerson_0 0 rfl rfl)
theorem dX0_isPerson_1 : decode cX0_isPerson 1 = .ok (.getfield 142, 3) := dk_180 0 142 (dk_at dksX0_isPerson_0 1 rfl rfl)
theorem dX0_isPerson_4 : decode cX0_isPerson 4 = .ok (.ifnull 22, 3) := dk_198 0 22 (dk_at dksX0_isPerson_0 4 rfl rfl)
theorem dX0_isPerson_7 : decode cX0_isPerson 7 = .ok (.iload_n 1, 1) := dk_27 (dk_at dksX0_isPerson_0 7 rfl rfl)
theorem dX0_isPerson_8 : decode cX0_isPerson 8 = .ok (.ifCond .lt 18, 3) := dk_155 0 18 (dk_at dksX0_isPerson_0 8 rfl rfl)
theorem dX0_isPerson_11 : decode cX0_isPerson 11 = .ok (.iload_n 1, 1) := dk_27 (dk_at dksX0_isPerson_0 11 rfl rfl)
theorem dX0_isPerson_12 : decode cX0_isPerson 12 = .ok (.aload_n 0, 1) := dk_42 (dk_at dksX0_isPerson_0 12 rfl rfl)
theorem dX0_isPerson_13 : decode cX0_isPerson 13 = .ok (.getfield 142, 3) := dk_180 0 142 (dk_at dksX0_isPerson_0 13 rfl rfl)
theorem dX0_isPerson_16 : decode cX0_isPerson 16 = .ok (.getfield 145, 3) := dk_180 0 145 (dk_at dksX0_isPerson_0 16 rfl rfl)
theorem dX0_isPerson_19 : decode cX0_isPerson 19 = .ok (.if_icmp .ge 7, 3) := dk_162 0 7 (dk_at dksX0_isPerson_0 19 rfl rfl)
theorem dX0_isPerson_22 : decode cX0_isPerson 22 = .ok (.iconst 1, 1) := dk_4 (dk_at dksX0_isPerson_0 22 rfl rfl)
theorem dX0_isPerson_23 : decode cX0_isPerson 23 = .ok (.goto 4, 3) := dk_167 0 4 (dk_at dksX0_isPerson_1 0 rfl rfl)
theorem dX0_isPerson_26 : decode cX0_isPerson 26 = .ok (.iconst 0, 1) := dk_3 (dk_at dksX0_isPerson_1 3 rfl rfl)
theorem dX0_isPerson_27 : decode cX0_isPerson 27 = .ok (.ireturn, 1) := dk_172 (dk_at dksX0_isPerson_1 4 rfl rfl)
abbrev cX0_fact : ByteArray := prog_1_method_26_code
def yX0_fact : MethodName := ⟨RX0, "fact", "(I)I"⟩
def dkwX0_fact_1 : List UInt8 := [167, 0, 22, 42, 180, 0, 142, 180, 0, 199, 27, 184, 0, 243, 153, 0, 7, 4, 167, 0, 4, 3, 172]
abbrev dktX0_fact_1 : List UInt8 := dkwX0_fact_1 ++ []
def dkwX0_fact_0 : List UInt8 := [42, 180, 0, 142, 198, 0, 18, 27, 155, 0, 14, 27, 42, 180, 0, 142, 180, 0, 237, 161, 0, 7, 2]
abbrev dktX0_fact_0 : List UInt8 := dkwX0_fact_0 ++ dktX0_fact_1
theorem dksX0_fact_0 : cX0_fact.data.toList.drop 0 = dktX0_fact_0 := by decide +kernel
theorem dksX0_fact_1 : cX0_fact.data.toList.drop 23 = dktX0_fact_1 := dk_seg dksX0_fact_0 23 rfl rfl
theorem dX0_fact_0 : decode cX0_fact 0 = .ok (.aload_n 0, 1) := dk_42 (dk_at dksX0_fact_0 0 rfl rfl)
theorem dX0_fact_1 : decode cX0_fact 1 = .ok (.getfield 142, 3) := dk_180 0 142 (dk_at dksX0_fact_0 1 rfl rfl)
theorem dX0_fact_4 : decode cX0_fact 4 = .ok (.ifnull 18, 3) := dk_198 0 18 (dk_at dksX0_fact_0 4 rfl rfl)
theorem dX0_fact_7 : decode cX0_fact 7 = .ok (.iload_n 1, 1) := dk_27 (dk_at dksX0_fact_0 7 rfl rfl)
theorem dX0_fact_8 : decode cX0_fact 8 = .ok (.ifCond .lt 14, 3) := dk_155 0 14 (dk_at dksX0_fact_0 8 rfl rfl)
theorem dX0_fact_11 : decode cX0_fact 11 = .ok (.iload_n 1, 1) := dk_27 (dk_at dksX0_fact_0 11 rfl rfl)
theorem dX0_fact_12 : decode cX0_fact 12 = .ok (.aload_n 0, 1) := dk_42 (dk_at dksX0_fact_0 12 rfl rfl)
theorem dX0_fact_13 : decode cX0_fact 13 = .ok (.getfield 142, 3) := dk_180 0 142 (dk_at dksX0_fact_0 13 rfl rfl)
theorem dX0_fact_16 : decode cX0_fact 16 = .ok (.getfield 237, 3) := dk_180 0 237 (dk_at dksX0_fact_0 16 rfl rfl)
theorem dX0_fact_19 : decode cX0_fact 19 = .ok (.if_icmp .lt 7, 3) := dk_161 0 7 (dk_at dksX0_fact_0 19 rfl rfl)
theorem dX0_fact_22 : decode cX0_fact 22 = .ok (.iconst (-1), 1) := dk_2 (dk_at dksX0_fact_0 22 rfl rfl)
theorem dX0_fact_23 : decode cX0_fact 23 = .ok (.goto 22, 3) := dk_167 0 22 (dk_at dksX0_fact_1 0 rfl rfl)
theorem dX0_fact_26 : decode cX0_fact 26 = .ok (.aload_n 0, 1) := dk_42 (dk_at dksX0_fact_1 3 rfl rfl)
theorem dX0_fact_27 : decode cX0_fact 27 = .ok (.getfield 142, 3) := dk_180 0 142 (dk_at dksX0_fact_1 4 rfl rfl)
theorem dX0_fact_30 : decode cX0_fact 30 = .ok (.getfield 199, 3) := dk_180 0 199 (dk_at dksX0_fact_1 7 rfl rfl)
theorem dX0_fact_33 : decode cX0_fact 33 = .ok (.iload_n 1, 1) := dk_27 (dk_at dksX0_fact_1 10 rfl rfl)
theorem dX0_fact_34 : decode cX0_fact 34 = .ok (.invokestatic 243, 3) := dk_184 0 243 (dk_at dksX0_fact_1 11 rfl rfl)
theorem dX0_fact_37 : decode cX0_fact 37 = .ok (.ifCond .eq 7, 3) := dk_153 0 7 (dk_at dksX0_fact_1 14 rfl rfl)
theorem dX0_fact_40 : decode cX0_fact 40 = .ok (.iconst 1, 1) := dk_4 (dk_at dksX0_fact_1 17 rfl rfl)
theorem dX0_fact_41 : decode cX0_fact 41 = .ok (.goto 4, 3) := dk_167 0 4 (dk_at dksX0_fact_1 18 rfl rfl)
theorem dX0_fact_44 : decode cX0_fact 44 = .ok (.iconst 0, 1) := dk_3 (dk_at dksX0_fact_1 21 rfl rfl)
theorem dX0_fact_45 : decode cX0_fact 45 = .ok (.ireturn, 1) := dk_172 (dk_at dksX0_fact_1 22 rfl rfl)
abbrev cX0_place : ByteArray := prog_1_method_27_code
def yX0_place : MethodName := ⟨RX0, "place", "(I)I"⟩
def dkwX0_place_0 : List UInt8 := [42, 27, 182, 0, 246, 153, 0, 15, 42, 180, 0, 142, 180, 0, 249, 27, 46, 167, 0, 4, 2, 172]
abbrev dktX0_place_0 : List UInt8 := dkwX0_place_0 ++ []
theorem dksX0_place_0 : cX0_place.data.toList.drop 0 = dktX0_place_0 := by decide +kernel
theorem dX0_place_0 : decode cX0_place 0 = .ok (.aload_n 0, 1) := dk_42 (dk_at dksX0_place_0 0 rfl rfl)
theorem dX0_place_1 : decode cX0_place 1 = .ok (.iload_n 1, 1) := dk_27 (dk_at dksX0_place_0 1 rfl rfl)
theorem dX0_place_2 : decode cX0_place 2 = .ok (.invokevirtual 246, 3) := dk_182 0 246 (dk_at dksX0_place_0 2 rfl rfl)
theorem dX0_place_5 : decode cX0_place 5 = .ok (.ifCond .eq 15, 3) := dk_153 0 15 (dk_at dksX0_place_0 5 rfl rfl)
theorem dX0_place_8 : decode cX0_place 8 = .ok (.aload_n 0, 1) := dk_42 (dk_at dksX0_place_0 8 rfl rfl)
theorem dX0_place_9 : decode cX0_place 9 = .ok (.getfield 142, 3) := dk_180 0 142 (dk_at dksX0_place_0 9 rfl rfl)
theorem dX0_place_12 : decode cX0_place 12 = .ok (.getfield 249, 3) := dk_180 0 249 (dk_at dksX0_place_0 12 rfl rfl)
theorem dX0_place_15 : decode cX0_place 15 = .ok (.iload_n 1, 1) := dk_27 (dk_at dksX0_place_0 15 rfl rfl)
theorem dX0_place_16 : decode cX0_place 16 = .ok (.iaload, 1) := dk_46 (dk_at dksX0_place_0 16 rfl rfl)
theorem dX0_place_17 : decode cX0_place 17 = .ok (.goto 4, 3) := dk_167 0 4 (dk_at dksX0_place_0 17 rfl rfl)
theorem dX0_place_20 : decode cX0_place 20 = .ok (.iconst (-1), 1) := dk_2 (dk_at dksX0_place_0 20 rfl rfl)
theorem dX0_place_21 : decode cX0_place 21 = .ok (.ireturn, 1) := dk_172 (dk_at dksX0_place_0 21 rfl rfl)
abbrev cX0_isPlace : ByteArray := prog_1_method_16_code
def yX0_isPlace : MethodName := ⟨RX0, "isPlace", "(I)Z"⟩
def dkwX0_isPlace_1 : List UInt8 := [167, 0, 4, 3, 172]
abbrev dktX0_isPlace_1 : List UInt8 := dkwX0_isPlace_1 ++ []
def dkwX0_isPlace_0 : List UInt8 := [42, 180, 0, 142, 198, 0, 22, 27, 155, 0, 18, 27, 42, 180, 0, 142, 180, 0, 179, 162, 0, 7, 4]
abbrev dktX0_isPlace_0 : List UInt8 := dkwX0_isPlace_0 ++ dktX0_isPlace_1
theorem dksX0_isPlace_0 : cX0_isPlace.data.toList.drop 0 = dktX0_isPlace_0 := by decide +kernel
theorem dksX0_isPlace_1 : cX0_isPlace.data.toList.drop 23 = dktX0_isPlace_1 := dk_seg dksX0_isPlace_0 23 rfl rfl
theorem dX0_isPlace_0 : decode cX0_isPlace 0 = .ok (.aload_n 0, 1) := dk_42 (dk_at dksX0_isPlace_0 0 rfl rfl)
theorem dX0_isPlace_1 : decode cX0_isPlace 1 = .ok (.getfield 142, 3) := dk_180 0 142 (dk_at dksX0_isPlace_0 1 rfl rfl)
theorem dX0_isPlace_4 : decode cX0_isPlace 4 = .ok (.ifnull 22, 3) := dk_198 0 22 (dk_at dksX0_isPlace_0 4 rfl rfl)
theorem dX0_isPlace_7 : decode cX0_isPlace 7 = .ok (.iload_n 1, 1) := dk_27 (dk_at dksX0_isPlace_0 7 rfl rfl)
theorem dX0_isPlace_8 : decode cX0_isPlace 8 = .ok (.ifCond .lt 18, 3) := dk_155 0 18 (dk_at dksX0_isPlace_0 8 rfl rfl)
theorem dX0_isPlace_11 : decode cX0_isPlace 11 = .ok (.iload_n 1, 1) := dk_27 (dk_at dksX0_isPlace_0 11 rfl rfl)
theorem dX0_isPlace_12 : decode cX0_isPlace 12 = .ok (.aload_n 0, 1) := dk_42 (dk_at dksX0_isPlace_0 12 rfl rfl)
theorem dX0_isPlace_13 : decode cX0_isPlace 13 = .ok (.getfield 142, 3) := dk_180 0 142 (dk_at dksX0_isPlace_0 13 rfl rfl)
theorem dX0_isPlace_16 : decode cX0_isPlace 16 = .ok (.getfield 179, 3) := dk_180 0 179 (dk_at dksX0_isPlace_0 16 rfl rfl)
theorem dX0_isPlace_19 : decode cX0_isPlace 19 = .ok (.if_icmp .ge 7, 3) := dk_162 0 7 (dk_at dksX0_isPlace_0 19 rfl rfl)
theorem dX0_isPlace_22 : decode cX0_isPlace 22 = .ok (.iconst 1, 1) := dk_4 (dk_at dksX0_isPlace_0 22 rfl rfl)
theorem dX0_isPlace_23 : decode cX0_isPlace 23 = .ok (.goto 4, 3) := dk_167 0 4 (dk_at dksX0_isPlace_1 0 rfl rfl)
theorem dX0_isPlace_26 : decode cX0_isPlace 26 = .ok (.iconst 0, 1) := dk_3 (dk_at dksX0_isPlace_1 3 rfl rfl)
theorem dX0_isPlace_27 : decode cX0_isPlace 27 = .ok (.ireturn, 1) := dk_172 (dk_at dksX0_isPlace_1 4 rfl rfl)
abbrev cX0_way : ByteArray := prog_1_method_28_code
def yX0_way : MethodName := ⟨RX0, "way", "(II)I"⟩
def dkwX0_way_2 : List UInt8 := [172]
abbrev dktX0_way_2 : List UInt8 := dkwX0_way_2 ++ []
def dkwX0_way_1 : List UInt8 := [180, 0, 252, 16, 6, 27, 104, 28, 96, 46, 62, 29, 17, 39, 15, 161, 0, 8, 16, 254, 167, 0, 4, 29]
abbrev dktX0_way_1 : List UInt8 := dkwX0_way_1 ++ dktX0_way_2
def dkwX0_way_0 : List UInt8 := [42, 27, 182, 0, 246, 153, 0, 11, 42, 28, 182, 0, 246, 154, 0, 5, 2, 172, 42, 180, 0, 142]
abbrev dktX0_way_0 : List UInt8 := dkwX0_way_0 ++ dktX0_way_1
theorem dksX0_way_0 : cX0_way.data.toList.drop 0 = dktX0_way_0 := by decide +kernel
theorem dksX0_way_1 : cX0_way.data.toList.drop 22 = dktX0_way_1 := dk_seg dksX0_way_0 22 rfl rfl
theorem dksX0_way_2 : cX0_way.data.toList.drop 46 = dktX0_way_2 := dk_seg dksX0_way_1 24 rfl rfl
theorem dX0_way_0 : decode cX0_way 0 = .ok (.aload_n 0, 1) := dk_42 (dk_at dksX0_way_0 0 rfl rfl)
theorem dX0_way_1 : decode cX0_way 1 = .ok (.iload_n 1, 1) := dk_27 (dk_at dksX0_way_0 1 rfl rfl)
theorem dX0_way_2 : decode cX0_way 2 = .ok (.invokevirtual 246, 3) := dk_182 0 246 (dk_at dksX0_way_0 2 rfl rfl)
theorem dX0_way_5 : decode cX0_way 5 = .ok (.ifCond .eq 11, 3) := dk_153 0 11 (dk_at dksX0_way_0 5 rfl rfl)
theorem dX0_way_8 : decode cX0_way 8 = .ok (.aload_n 0, 1) := dk_42 (dk_at dksX0_way_0 8 rfl rfl)
theorem dX0_way_9 : decode cX0_way 9 = .ok (.iload_n 2, 1) := dk_28 (dk_at dksX0_way_0 9 rfl rfl)
theorem dX0_way_10 : decode cX0_way 10 = .ok (.invokevirtual 246, 3) := dk_182 0 246 (dk_at dksX0_way_0 10 rfl rfl)
theorem dX0_way_13 : decode cX0_way 13 = .ok (.ifCond .ne 5, 3) := dk_154 0 5 (dk_at dksX0_way_0 13 rfl rfl)
theorem dX0_way_16 : decode cX0_way 16 = .ok (.iconst (-1), 1) := dk_2 (dk_at dksX0_way_0 16 rfl rfl)
theorem dX0_way_17 : decode cX0_way 17 = .ok (.ireturn, 1) := dk_172 (dk_at dksX0_way_0 17 rfl rfl)
theorem dX0_way_18 : decode cX0_way 18 = .ok (.aload_n 0, 1) := dk_42 (dk_at dksX0_way_0 18 rfl rfl)
theorem dX0_way_19 : decode cX0_way 19 = .ok (.getfield 142, 3) := dk_180 0 142 (dk_at dksX0_way_0 19 rfl rfl)
theorem dX0_way_22 : decode cX0_way 22 = .ok (.getfield 252, 3) := dk_180 0 252 (dk_at dksX0_way_1 0 rfl rfl)
theorem dX0_way_25 : decode cX0_way 25 = .ok (.bipush 6, 2) := dk_16 6 (dk_at dksX0_way_1 3 rfl rfl)
theorem dX0_way_27 : decode cX0_way 27 = .ok (.iload_n 1, 1) := dk_27 (dk_at dksX0_way_1 5 rfl rfl)
theorem dX0_way_28 : decode cX0_way 28 = .ok (.imul, 1) := dk_104 (dk_at dksX0_way_1 6 rfl rfl)
theorem dX0_way_29 : decode cX0_way 29 = .ok (.iload_n 2, 1) := dk_28 (dk_at dksX0_way_1 7 rfl rfl)
theorem dX0_way_30 : decode cX0_way 30 = .ok (.iadd, 1) := dk_96 (dk_at dksX0_way_1 8 rfl rfl)
theorem dX0_way_31 : decode cX0_way 31 = .ok (.iaload, 1) := dk_46 (dk_at dksX0_way_1 9 rfl rfl)
theorem dX0_way_32 : decode cX0_way 32 = .ok (.istore_n 3, 1) := dk_62 (dk_at dksX0_way_1 10 rfl rfl)
theorem dX0_way_33 : decode cX0_way 33 = .ok (.iload_n 3, 1) := dk_29 (dk_at dksX0_way_1 11 rfl rfl)
theorem dX0_way_34 : decode cX0_way 34 = .ok (.sipush 9999, 3) := dk_17 39 15 (dk_at dksX0_way_1 12 rfl rfl)
theorem dX0_way_37 : decode cX0_way 37 = .ok (.if_icmp .lt 8, 3) := dk_161 0 8 (dk_at dksX0_way_1 15 rfl rfl)
theorem dX0_way_40 : decode cX0_way 40 = .ok (.bipush (-2), 2) := dk_16 254 (dk_at dksX0_way_1 18 rfl rfl)
theorem dX0_way_42 : decode cX0_way 42 = .ok (.goto 4, 3) := dk_167 0 4 (dk_at dksX0_way_1 20 rfl rfl)
theorem dX0_way_45 : decode cX0_way 45 = .ok (.iload_n 3, 1) := dk_29 (dk_at dksX0_way_1 23 rfl rfl)
theorem dX0_way_46 : decode cX0_way 46 = .ok (.ireturn, 1) := dk_172 (dk_at dksX0_way_2 0 rfl rfl)
abbrev cX0_so : ByteArray := prog_1_method_29_code
def yX0_so : MethodName := ⟨RX0, "so", "(II)I"⟩
def dkwX0_so_1 : List UInt8 := [182, 0, 202, 153, 0, 7, 4, 167, 0, 4, 3, 172]
abbrev dktX0_so_1 : List UInt8 := dkwX0_so_1 ++ []
def dkwX0_so_0 : List UInt8 := [42, 27, 182, 0, 176, 153, 0, 11, 42, 28, 182, 0, 255, 154, 0, 7, 2, 167, 0, 17, 42, 27, 28]
abbrev dktX0_so_0 : List UInt8 := dkwX0_so_0 ++ dktX0_so_1
theorem dksX0_so_0 : cX0_so.data.toList.drop 0 = dktX0_so_0 := by decide +kernel
theorem dksX0_so_1 : cX0_so.data.toList.drop 23 = dktX0_so_1 := dk_seg dksX0_so_0 23 rfl rfl
theorem dX0_so_0 : decode cX0_so 0 = .ok (.aload_n 0, 1) := dk_42 (dk_at dksX0_so_0 0 rfl rfl)
theorem dX0_so_1 : decode cX0_so 1 = .ok (.iload_n 1, 1) := dk_27 (dk_at dksX0_so_0 1 rfl rfl)
theorem dX0_so_2 : decode cX0_so 2 = .ok (.invokevirtual 176, 3) := dk_182 0 176 (dk_at dksX0_so_0 2 rfl rfl)
theorem dX0_so_5 : decode cX0_so 5 = .ok (.ifCond .eq 11, 3) := dk_153 0 11 (dk_at dksX0_so_0 5 rfl rfl)
theorem dX0_so_8 : decode cX0_so 8 = .ok (.aload_n 0, 1) := dk_42 (dk_at dksX0_so_0 8 rfl rfl)
theorem dX0_so_9 : decode cX0_so 9 = .ok (.iload_n 2, 1) := dk_28 (dk_at dksX0_so_0 9 rfl rfl)
theorem dX0_so_10 : decode cX0_so 10 = .ok (.invokevirtual 255, 3) := dk_182 0 255 (dk_at dksX0_so_0 10 rfl rfl)
theorem dX0_so_13 : decode cX0_so 13 = .ok (.ifCond .ne 7, 3) := dk_154 0 7 (dk_at dksX0_so_0 13 rfl rfl)
theorem dX0_so_16 : decode cX0_so 16 = .ok (.iconst (-1), 1) := dk_2 (dk_at dksX0_so_0 16 rfl rfl)
theorem dX0_so_17 : decode cX0_so 17 = .ok (.goto 17, 3) := dk_167 0 17 (dk_at dksX0_so_0 17 rfl rfl)
theorem dX0_so_20 : decode cX0_so 20 = .ok (.aload_n 0, 1) := dk_42 (dk_at dksX0_so_0 20 rfl rfl)
theorem dX0_so_21 : decode cX0_so 21 = .ok (.iload_n 1, 1) := dk_27 (dk_at dksX0_so_0 21 rfl rfl)
theorem dX0_so_22 : decode cX0_so 22 = .ok (.iload_n 2, 1) := dk_28 (dk_at dksX0_so_0 22 rfl rfl)
theorem dX0_so_23 : decode cX0_so 23 = .ok (.invokevirtual 202, 3) := dk_182 0 202 (dk_at dksX0_so_1 0 rfl rfl)
theorem dX0_so_26 : decode cX0_so 26 = .ok (.ifCond .eq 7, 3) := dk_153 0 7 (dk_at dksX0_so_1 3 rfl rfl)
theorem dX0_so_29 : decode cX0_so 29 = .ok (.iconst 1, 1) := dk_4 (dk_at dksX0_so_1 6 rfl rfl)
theorem dX0_so_30 : decode cX0_so 30 = .ok (.goto 4, 3) := dk_167 0 4 (dk_at dksX0_so_1 7 rfl rfl)
theorem dX0_so_33 : decode cX0_so 33 = .ok (.iconst 0, 1) := dk_3 (dk_at dksX0_so_1 10 rfl rfl)
theorem dX0_so_34 : decode cX0_so 34 = .ok (.ireturn, 1) := dk_172 (dk_at dksX0_so_1 11 rfl rfl)
abbrev cX0_isSaying : ByteArray := prog_1_method_13_code
def yX0_isSaying : MethodName := ⟨RX0, "isSaying", "(I)Z"⟩
def dkwX0_isSaying_0 : List UInt8 := [27, 155, 0, 15, 27, 42, 180, 0, 158, 162, 0, 7, 4, 167, 0, 4, 3, 172]
abbrev dktX0_isSaying_0 : List UInt8 := dkwX0_isSaying_0 ++ []
theorem dksX0_isSaying_0 : cX0_isSaying.data.toList.drop 0 = dktX0_isSaying_0 := by decide +kernel
theorem dX0_isSaying_0 : decode cX0_isSaying 0 = .ok (.iload_n 1, 1) := dk_27 (dk_at dksX0_isSaying_0 0 rfl rfl)
theorem dX0_isSaying_1 : decode cX0_isSaying 1 = .ok (.ifCond .lt 15, 3) := dk_155 0 15 (dk_at dksX0_isSaying_0 1 rfl rfl)
theorem dX0_isSaying_4 : decode cX0_isSaying 4 = .ok (.iload_n 1, 1) := dk_27 (dk_at dksX0_isSaying_0 4 rfl rfl)
theorem dX0_isSaying_5 : decode cX0_isSaying 5 = .ok (.aload_n 0, 1) := dk_42 (dk_at dksX0_isSaying_0 5 rfl rfl)
theorem dX0_isSaying_6 : decode cX0_isSaying 6 = .ok (.getfield 158, 3) := dk_180 0 158 (dk_at dksX0_isSaying_0 6 rfl rfl)
theorem dX0_isSaying_9 : decode cX0_isSaying 9 = .ok (.if_icmp .ge 7, 3) := dk_162 0 7 (dk_at dksX0_isSaying_0 9 rfl rfl)
theorem dX0_isSaying_12 : decode cX0_isSaying 12 = .ok (.iconst 1, 1) := dk_4 (dk_at dksX0_isSaying_0 12 rfl rfl)
theorem dX0_isSaying_13 : decode cX0_isSaying 13 = .ok (.goto 4, 3) := dk_167 0 4 (dk_at dksX0_isSaying_0 13 rfl rfl)
theorem dX0_isSaying_16 : decode cX0_isSaying 16 = .ok (.iconst 0, 1) := dk_3 (dk_at dksX0_isSaying_0 16 rfl rfl)
theorem dX0_isSaying_17 : decode cX0_isSaying 17 = .ok (.ireturn, 1) := dk_172 (dk_at dksX0_isSaying_0 17 rfl rfl)
abbrev cX0_isWorld : ByteArray := prog_1_method_17_code
def yX0_isWorld : MethodName := ⟨RX0, "isWorld", "(I)Z"⟩
def dkwX0_isWorld_1 : List UInt8 := [167, 0, 4, 3, 172]
abbrev dktX0_isWorld_1 : List UInt8 := dkwX0_isWorld_1 ++ []
def dkwX0_isWorld_0 : List UInt8 := [42, 180, 0, 142, 198, 0, 22, 27, 155, 0, 18, 27, 42, 180, 0, 142, 182, 0, 182, 162, 0, 7, 4]
abbrev dktX0_isWorld_0 : List UInt8 := dkwX0_isWorld_0 ++ dktX0_isWorld_1
theorem dksX0_isWorld_0 : cX0_isWorld.data.toList.drop 0 = dktX0_isWorld_0 := by decide +kernel
theorem dksX0_isWorld_1 : cX0_isWorld.data.toList.drop 23 = dktX0_isWorld_1 := dk_seg dksX0_isWorld_0 23 rfl rfl
theorem dX0_isWorld_0 : decode cX0_isWorld 0 = .ok (.aload_n 0, 1) := dk_42 (dk_at dksX0_isWorld_0 0 rfl rfl)
theorem dX0_isWorld_1 : decode cX0_isWorld 1 = .ok (.getfield 142, 3) := dk_180 0 142 (dk_at dksX0_isWorld_0 1 rfl rfl)
theorem dX0_isWorld_4 : decode cX0_isWorld 4 = .ok (.ifnull 22, 3) := dk_198 0 22 (dk_at dksX0_isWorld_0 4 rfl rfl)
theorem dX0_isWorld_7 : decode cX0_isWorld 7 = .ok (.iload_n 1, 1) := dk_27 (dk_at dksX0_isWorld_0 7 rfl rfl)
theorem dX0_isWorld_8 : decode cX0_isWorld 8 = .ok (.ifCond .lt 18, 3) := dk_155 0 18 (dk_at dksX0_isWorld_0 8 rfl rfl)
theorem dX0_isWorld_11 : decode cX0_isWorld 11 = .ok (.iload_n 1, 1) := dk_27 (dk_at dksX0_isWorld_0 11 rfl rfl)
theorem dX0_isWorld_12 : decode cX0_isWorld 12 = .ok (.aload_n 0, 1) := dk_42 (dk_at dksX0_isWorld_0 12 rfl rfl)
theorem dX0_isWorld_13 : decode cX0_isWorld 13 = .ok (.getfield 142, 3) := dk_180 0 142 (dk_at dksX0_isWorld_0 13 rfl rfl)
theorem dX0_isWorld_16 : decode cX0_isWorld 16 = .ok (.invokevirtual 182, 3) := dk_182 0 182 (dk_at dksX0_isWorld_0 16 rfl rfl)
theorem dX0_isWorld_19 : decode cX0_isWorld 19 = .ok (.if_icmp .ge 7, 3) := dk_162 0 7 (dk_at dksX0_isWorld_0 19 rfl rfl)
theorem dX0_isWorld_22 : decode cX0_isWorld 22 = .ok (.iconst 1, 1) := dk_4 (dk_at dksX0_isWorld_0 22 rfl rfl)
theorem dX0_isWorld_23 : decode cX0_isWorld 23 = .ok (.goto 4, 3) := dk_167 0 4 (dk_at dksX0_isWorld_1 0 rfl rfl)
theorem dX0_isWorld_26 : decode cX0_isWorld 26 = .ok (.iconst 0, 1) := dk_3 (dk_at dksX0_isWorld_1 3 rfl rfl)
theorem dX0_isWorld_27 : decode cX0_isWorld 27 = .ok (.ireturn, 1) := dk_172 (dk_at dksX0_isWorld_1 4 rfl rfl)
abbrev cX0_isSo : ByteArray := prog_1_method_18_code
def yX0_isSo : MethodName := ⟨RX0, "isSo", "(II)Z"⟩
def dkwX0_isSo_1 : List UInt8 := [154, 0, 7, 4, 167, 0, 4, 3, 172]
abbrev dktX0_isSo_1 : List UInt8 := dkwX0_isSo_1 ++ []
def dkwX0_isSo_0 : List UInt8 := [42, 180, 0, 9, 7, 27, 104, 28, 16, 64, 108, 96, 47, 28, 16, 64, 112, 125, 10, 127, 10, 148]
abbrev dktX0_isSo_0 : List UInt8 := dkwX0_isSo_0 ++ dktX0_isSo_1
theorem dksX0_isSo_0 : cX0_isSo.data.toList.drop 0 = dktX0_isSo_0 := by decide +kernel
theorem dksX0_isSo_1 : cX0_isSo.data.toList.drop 22 = dktX0_isSo_1 := dk_seg dksX0_isSo_0 22 rfl rfl
theorem dX0_isSo_0 : decode cX0_isSo 0 = .ok (.aload_n 0, 1) := dk_42 (dk_at dksX0_isSo_0 0 rfl rfl)
theorem dX0_isSo_1 : decode cX0_isSo 1 = .ok (.getfield 9, 3) := dk_180 0 9 (dk_at dksX0_isSo_0 1 rfl rfl)
theorem dX0_isSo_4 : decode cX0_isSo 4 = .ok (.iconst 4, 1) := dk_7 (dk_at dksX0_isSo_0 4 rfl rfl)
theorem dX0_isSo_5 : decode cX0_isSo 5 = .ok (.iload_n 1, 1) := dk_27 (dk_at dksX0_isSo_0 5 rfl rfl)
theorem dX0_isSo_6 : decode cX0_isSo 6 = .ok (.imul, 1) := dk_104 (dk_at dksX0_isSo_0 6 rfl rfl)
theorem dX0_isSo_7 : decode cX0_isSo 7 = .ok (.iload_n 2, 1) := dk_28 (dk_at dksX0_isSo_0 7 rfl rfl)
theorem dX0_isSo_8 : decode cX0_isSo 8 = .ok (.bipush 64, 2) := dk_16 64 (dk_at dksX0_isSo_0 8 rfl rfl)
theorem dX0_isSo_10 : decode cX0_isSo 10 = .ok (.idiv, 1) := dk_108 (dk_at dksX0_isSo_0 10 rfl rfl)
theorem dX0_isSo_11 : decode cX0_isSo 11 = .ok (.iadd, 1) := dk_96 (dk_at dksX0_isSo_0 11 rfl rfl)
theorem dX0_isSo_12 : decode cX0_isSo 12 = .ok (.laload, 1) := dk_47 (dk_at dksX0_isSo_0 12 rfl rfl)
theorem dX0_isSo_13 : decode cX0_isSo 13 = .ok (.iload_n 2, 1) := dk_28 (dk_at dksX0_isSo_0 13 rfl rfl)
theorem dX0_isSo_14 : decode cX0_isSo 14 = .ok (.bipush 64, 2) := dk_16 64 (dk_at dksX0_isSo_0 14 rfl rfl)
theorem dX0_isSo_16 : decode cX0_isSo 16 = .ok (.irem, 1) := dk_112 (dk_at dksX0_isSo_0 16 rfl rfl)
theorem dX0_isSo_17 : decode cX0_isSo 17 = .ok (.lushr, 1) := dk_125 (dk_at dksX0_isSo_0 17 rfl rfl)
theorem dX0_isSo_18 : decode cX0_isSo 18 = .ok (.lconst 1, 1) := dk_10 (dk_at dksX0_isSo_0 18 rfl rfl)
theorem dX0_isSo_19 : decode cX0_isSo 19 = .ok (.land, 1) := dk_127 (dk_at dksX0_isSo_0 19 rfl rfl)
theorem dX0_isSo_20 : decode cX0_isSo 20 = .ok (.lconst 1, 1) := dk_10 (dk_at dksX0_isSo_0 20 rfl rfl)
theorem dX0_isSo_21 : decode cX0_isSo 21 = .ok (.lcmp, 1) := dk_148 (dk_at dksX0_isSo_0 21 rfl rfl)
theorem dX0_isSo_22 : decode cX0_isSo 22 = .ok (.ifCond .ne 7, 3) := dk_154 0 7 (dk_at dksX0_isSo_1 0 rfl rfl)
theorem dX0_isSo_25 : decode cX0_isSo 25 = .ok (.iconst 1, 1) := dk_4 (dk_at dksX0_isSo_1 3 rfl rfl)
theorem dX0_isSo_26 : decode cX0_isSo 26 = .ok (.goto 4, 3) := dk_167 0 4 (dk_at dksX0_isSo_1 4 rfl rfl)
theorem dX0_isSo_29 : decode cX0_isSo 29 = .ok (.iconst 0, 1) := dk_3 (dk_at dksX0_isSo_1 7 rfl rfl)
theorem dX0_isSo_30 : decode cX0_isSo 30 = .ok (.ireturn, 1) := dk_172 (dk_at dksX0_isSo_1 8 rfl rfl)
abbrev cX0_isTrue : ByteArray := prog_1_method_30_code
def yX0_isTrue : MethodName := ⟨RX0, "isTrue", "(I)I"⟩
def dkwX0_isTrue_1 : List UInt8 := [153, 0, 7, 4, 167, 0, 4, 3, 172]
abbrev dktX0_isTrue_1 : List UInt8 := dkwX0_isTrue_1 ++ []
def dkwX0_isTrue_0 : List UInt8 := [42, 27, 182, 1, 2, 154, 0, 7, 2, 167, 0, 23, 42, 27, 42, 180, 0, 142, 180, 0, 199, 182, 0, 202]
abbrev dktX0_isTrue_0 : List UInt8 := dkwX0_isTrue_0 ++ dktX0_isTrue_1
theorem dksX0_isTrue_0 : cX0_isTrue.data.toList.drop 0 = dktX0_isTrue_0 := by decide +kernel
theorem dksX0_isTrue_1 : cX0_isTrue.data.toList.drop 24 = dktX0_isTrue_1 := dk_seg dksX0_isTrue_0 24 rfl rfl
theorem dX0_isTrue_0 : decode cX0_isTrue 0 = .ok (.aload_n 0, 1) := dk_42 (dk_at dksX0_isTrue_0 0 rfl rfl)
theorem dX0_isTrue_1 : decode cX0_isTrue 1 = .ok (.iload_n 1, 1) := dk_27 (dk_at dksX0_isTrue_0 1 rfl rfl)
theorem dX0_isTrue_2 : decode cX0_isTrue 2 = .ok (.invokevirtual 258, 3) := dk_182 1 2 (dk_at dksX0_isTrue_0 2 rfl rfl)
theorem dX0_isTrue_5 : decode cX0_isTrue 5 = .ok (.ifCond .ne 7, 3) := dk_154 0 7 (dk_at dksX0_isTrue_0 5 rfl rfl)
theorem dX0_isTrue_8 : decode cX0_isTrue 8 = .ok (.iconst (-1), 1) := dk_2 (dk_at dksX0_isTrue_0 8 rfl rfl)
theorem dX0_isTrue_9 : decode cX0_isTrue 9 = .ok (.goto 23, 3) := dk_167 0 23 (dk_at dksX0_isTrue_0 9 rfl rfl)
theorem dX0_isTrue_12 : decode cX0_isTrue 12 = .ok (.aload_n 0, 1) := dk_42 (dk_at dksX0_isTrue_0 12 rfl rfl)
theorem dX0_isTrue_13 : decode cX0_isTrue 13 = .ok (.iload_n 1, 1) := dk_27 (dk_at dksX0_isTrue_0 13 rfl rfl)
theorem dX0_isTrue_14 : decode cX0_isTrue 14 = .ok (.aload_n 0, 1) := dk_42 (dk_at dksX0_isTrue_0 14 rfl rfl)
theorem dX0_isTrue_15 : decode cX0_isTrue 15 = .ok (.getfield 142, 3) := dk_180 0 142 (dk_at dksX0_isTrue_0 15 rfl rfl)
theorem dX0_isTrue_18 : decode cX0_isTrue 18 = .ok (.getfield 199, 3) := dk_180 0 199 (dk_at dksX0_isTrue_0 18 rfl rfl)
theorem dX0_isTrue_21 : decode cX0_isTrue 21 = .ok (.invokevirtual 202, 3) := dk_182 0 202 (dk_at dksX0_isTrue_0 21 rfl rfl)
theorem dX0_isTrue_24 : decode cX0_isTrue 24 = .ok (.ifCond .eq 7, 3) := dk_153 0 7 (dk_at dksX0_isTrue_1 0 rfl rfl)
theorem dX0_isTrue_27 : decode cX0_isTrue 27 = .ok (.iconst 1, 1) := dk_4 (dk_at dksX0_isTrue_1 3 rfl rfl)
theorem dX0_isTrue_28 : decode cX0_isTrue 28 = .ok (.goto 4, 3) := dk_167 0 4 (dk_at dksX0_isTrue_1 4 rfl rfl)
theorem dX0_isTrue_31 : decode cX0_isTrue 31 = .ok (.iconst 0, 1) := dk_3 (dk_at dksX0_isTrue_1 7 rfl rfl)
theorem dX0_isTrue_32 : decode cX0_isTrue 32 = .ok (.ireturn, 1) := dk_172 (dk_at dksX0_isTrue_1 8 rfl rfl)
abbrev cX0_isAsked : ByteArray := prog_1_method_14_code
def yX0_isAsked : MethodName := ⟨RX0, "isAsked", "(I)Z"⟩
def dkwX0_isAsked_0 : List UInt8 := [42, 180, 0, 142, 198, 0, 15, 42, 27, 182, 0, 176, 153, 0, 7, 4, 167, 0, 4, 3, 172]
abbrev dktX0_isAsked_0 : List UInt8 := dkwX0_isAsked_0 ++ []
theorem dksX0_isAsked_0 : cX0_isAsked.data.toList.drop 0 = dktX0_isAsked_0 := by decide +kernel
theorem dX0_isAsked_0 : decode cX0_isAsked 0 = .ok (.aload_n 0, 1) := dk_42 (dk_at dksX0_isAsked_0 0 rfl rfl)
theorem dX0_isAsked_1 : decode cX0_isAsked 1 = .ok (.getfield 142, 3) := dk_180 0 142 (dk_at dksX0_isAsked_0 1 rfl rfl)
theorem dX0_isAsked_4 : decode cX0_isAsked 4 = .ok (.ifnull 15, 3) := dk_198 0 15 (dk_at dksX0_isAsked_0 4 rfl rfl)
theorem dX0_isAsked_7 : decode cX0_isAsked 7 = .ok (.aload_n 0, 1) := dk_42 (dk_at dksX0_isAsked_0 7 rfl rfl)
theorem dX0_isAsked_8 : decode cX0_isAsked 8 = .ok (.iload_n 1, 1) := dk_27 (dk_at dksX0_isAsked_0 8 rfl rfl)
theorem dX0_isAsked_9 : decode cX0_isAsked 9 = .ok (.invokevirtual 176, 3) := dk_182 0 176 (dk_at dksX0_isAsked_0 9 rfl rfl)
theorem dX0_isAsked_12 : decode cX0_isAsked 12 = .ok (.ifCond .eq 7, 3) := dk_153 0 7 (dk_at dksX0_isAsked_0 12 rfl rfl)
theorem dX0_isAsked_15 : decode cX0_isAsked 15 = .ok (.iconst 1, 1) := dk_4 (dk_at dksX0_isAsked_0 15 rfl rfl)
theorem dX0_isAsked_16 : decode cX0_isAsked 16 = .ok (.goto 4, 3) := dk_167 0 4 (dk_at dksX0_isAsked_0 16 rfl rfl)
theorem dX0_isAsked_19 : decode cX0_isAsked 19 = .ok (.iconst 0, 1) := dk_3 (dk_at dksX0_isAsked_0 19 rfl rfl)
theorem dX0_isAsked_20 : decode cX0_isAsked 20 = .ok (.ireturn, 1) := dk_172 (dk_at dksX0_isAsked_0 20 rfl rfl)
abbrev cX0_knows : ByteArray := prog_1_method_31_code
def yX0_knows : MethodName := ⟨RX0, "knows", "(II)I"⟩
def dkwX0_knows_2 : List UInt8 := [167, 0, 4, 3, 172]
abbrev dktX0_knows_2 : List UInt8 := dkwX0_knows_2 ++ []
def dkwX0_knows_1 : List UInt8 := [42, 42, 180, 0, 142, 27, 2, 160, 0, 8, 16, 6, 167, 0, 4, 27, 28, 182, 0, 212, 153, 0, 7, 4]
abbrev dktX0_knows_1 : List UInt8 := dkwX0_knows_1 ++ dktX0_knows_2
def dkwX0_knows_0 : List UInt8 := [42, 28, 182, 1, 2, 153, 0, 16, 27, 2, 159, 0, 14, 42, 27, 182, 0, 222, 154, 0, 6, 16, 254, 172]
abbrev dktX0_knows_0 : List UInt8 := dkwX0_knows_0 ++ dktX0_knows_1
theorem dksX0_knows_0 : cX0_knows.data.toList.drop 0 = dktX0_knows_0 := by decide +kernel
theorem dksX0_knows_1 : cX0_knows.data.toList.drop 24 = dktX0_knows_1 := dk_seg dksX0_knows_0 24 rfl rfl
theorem dksX0_knows_2 : cX0_knows.data.toList.drop 48 = dktX0_knows_2 := dk_seg dksX0_knows_1 24 rfl rfl
theorem dX0_knows_0 : decode cX0_knows 0 = .ok (.aload_n 0, 1) := dk_42 (dk_at dksX0_knows_0 0 rfl rfl)
theorem dX0_knows_1 : decode cX0_knows 1 = .ok (.iload_n 2, 1) := dk_28 (dk_at dksX0_knows_0 1 rfl rfl)
theorem dX0_knows_2 : decode cX0_knows 2 = .ok (.invokevirtual 258, 3) := dk_182 1 2 (dk_at dksX0_knows_0 2 rfl rfl)
theorem dX0_knows_5 : decode cX0_knows 5 = .ok (.ifCond .eq 16, 3) := dk_153 0 16 (dk_at dksX0_knows_0 5 rfl rfl)
theorem dX0_knows_8 : decode cX0_knows 8 = .ok (.iload_n 1, 1) := dk_27 (dk_at dksX0_knows_0 8 rfl rfl)
theorem dX0_knows_9 : decode cX0_knows 9 = .ok (.iconst (-1), 1) := dk_2 (dk_at dksX0_knows_0 9 rfl rfl)
theorem dX0_knows_10 : decode cX0_knows 10 = .ok (.if_icmp .eq 14, 3) := dk_159 0 14 (dk_at dksX0_knows_0 10 rfl rfl)
theorem dX0_knows_13 : decode cX0_knows 13 = .ok (.aload_n 0, 1) := dk_42 (dk_at dksX0_knows_0 13 rfl rfl)
theorem dX0_knows_14 : decode cX0_knows 14 = .ok (.iload_n 1, 1) := dk_27 (dk_at dksX0_knows_0 14 rfl rfl)
theorem dX0_knows_15 : decode cX0_knows 15 = .ok (.invokevirtual 222, 3) := dk_182 0 222 (dk_at dksX0_knows_0 15 rfl rfl)
theorem dX0_knows_18 : decode cX0_knows 18 = .ok (.ifCond .ne 6, 3) := dk_154 0 6 (dk_at dksX0_knows_0 18 rfl rfl)
theorem dX0_knows_21 : decode cX0_knows 21 = .ok (.bipush (-2), 2) := dk_16 254 (dk_at dksX0_knows_0 21 rfl rfl)
theorem dX0_knows_23 : decode cX0_knows 23 = .ok (.ireturn, 1) := dk_172 (dk_at dksX0_knows_0 23 rfl rfl)
theorem dX0_knows_24 : decode cX0_knows 24 = .ok (.aload_n 0, 1) := dk_42 (dk_at dksX0_knows_1 0 rfl rfl)
theorem dX0_knows_25 : decode cX0_knows 25 = .ok (.aload_n 0, 1) := dk_42 (dk_at dksX0_knows_1 1 rfl rfl)
theorem dX0_knows_26 : decode cX0_knows 26 = .ok (.getfield 142, 3) := dk_180 0 142 (dk_at dksX0_knows_1 2 rfl rfl)
theorem dX0_knows_29 : decode cX0_knows 29 = .ok (.iload_n 1, 1) := dk_27 (dk_at dksX0_knows_1 5 rfl rfl)
theorem dX0_knows_30 : decode cX0_knows 30 = .ok (.iconst (-1), 1) := dk_2 (dk_at dksX0_knows_1 6 rfl rfl)
theorem dX0_knows_31 : decode cX0_knows 31 = .ok (.if_icmp .ne 8, 3) := dk_160 0 8 (dk_at dksX0_knows_1 7 rfl rfl)
theorem dX0_knows_34 : decode cX0_knows 34 = .ok (.bipush 6, 2) := dk_16 6 (dk_at dksX0_knows_1 10 rfl rfl)
theorem dX0_knows_36 : decode cX0_knows 36 = .ok (.goto 4, 3) := dk_167 0 4 (dk_at dksX0_knows_1 12 rfl rfl)
theorem dX0_knows_39 : decode cX0_knows 39 = .ok (.iload_n 1, 1) := dk_27 (dk_at dksX0_knows_1 15 rfl rfl)
theorem dX0_knows_40 : decode cX0_knows 40 = .ok (.iload_n 2, 1) := dk_28 (dk_at dksX0_knows_1 16 rfl rfl)
theorem dX0_knows_41 : decode cX0_knows 41 = .ok (.invokevirtual 212, 3) := dk_182 0 212 (dk_at dksX0_knows_1 17 rfl rfl)
theorem dX0_knows_44 : decode cX0_knows 44 = .ok (.ifCond .eq 7, 3) := dk_153 0 7 (dk_at dksX0_knows_1 20 rfl rfl)
theorem dX0_knows_47 : decode cX0_knows 47 = .ok (.iconst 1, 1) := dk_4 (dk_at dksX0_knows_1 23 rfl rfl)
theorem dX0_knows_48 : decode cX0_knows 48 = .ok (.goto 4, 3) := dk_167 0 4 (dk_at dksX0_knows_2 0 rfl rfl)
theorem dX0_knows_51 : decode cX0_knows 51 = .ok (.iconst 0, 1) := dk_3 (dk_at dksX0_knows_2 3 rfl rfl)
theorem dX0_knows_52 : decode cX0_knows 52 = .ok (.ireturn, 1) := dk_172 (dk_at dksX0_knows_2 4 rfl rfl)
abbrev cX0_isKnown : ByteArray := prog_1_method_19_code
def yX0_isKnown : MethodName := ⟨RX0, "isKnown", "(LTruthBridge$Gorge;II)Z"⟩
def dkwX0_isKnown_2 : List UInt8 := [167, 255, 213, 4, 172]
abbrev dktX0_isKnown_2 : List UInt8 := dkwX0_isKnown_2 ++ []
def dkwX0_isKnown_1 : List UInt8 := [7, 29, 104, 21, 4, 96, 47, 20, 0, 188, 131, 127, 9, 148, 153, 0, 5, 3, 172, 132, 4, 1]
abbrev dktX0_isKnown_1 : List UInt8 := dkwX0_isKnown_1 ++ dktX0_isKnown_2
def dkwX0_isKnown_0 : List UInt8 := [3, 54, 4, 21, 4, 7, 162, 0, 43, 43, 180, 0, 185, 7, 28, 104, 21, 4, 96, 47, 42, 180, 0, 9]
abbrev dktX0_isKnown_0 : List UInt8 := dkwX0_isKnown_0 ++ dktX0_isKnown_1
theorem dksX0_isKnown_0 : cX0_isKnown.data.toList.drop 0 = dktX0_isKnown_0 := by decide +kernel
theorem dksX0_isKnown_1 : cX0_isKnown.data.toList.drop 24 = dktX0_isKnown_1 := dk_seg dksX0_isKnown_0 24 rfl rfl
theorem dksX0_isKnown_2 : cX0_isKnown.data.toList.drop 46 = dktX0_isKnown_2 := dk_seg dksX0_isKnown_1 22 rfl rfl
theorem dX0_isKnown_0 : decode cX0_isKnown 0 = .ok (.iconst 0, 1) := dk_3 (dk_at dksX0_isKnown_0 0 rfl rfl)
theorem dX0_isKnown_1 : decode cX0_isKnown 1 = .ok (.istore 4, 2) := dk_54 4 (dk_at dksX0_isKnown_0 1 rfl rfl)
theorem dX0_isKnown_3 : decode cX0_isKnown 3 = .ok (.iload 4, 2) := dk_21 4 (dk_at dksX0_isKnown_0 3 rfl rfl)
theorem dX0_isKnown_5 : decode cX0_isKnown 5 = .ok (.iconst 4, 1) := dk_7 (dk_at dksX0_isKnown_0 5 rfl rfl)
theorem dX0_isKnown_6 : decode cX0_isKnown 6 = .ok (.if_icmp .ge 43, 3) := dk_162 0 43 (dk_at dksX0_isKnown_0 6 rfl rfl)
theorem dX0_isKnown_9 : decode cX0_isKnown 9 = .ok (.aload_n 1, 1) := dk_43 (dk_at dksX0_isKnown_0 9 rfl rfl)
theorem dX0_isKnown_10 : decode cX0_isKnown 10 = .ok (.getfield 185, 3) := dk_180 0 185 (dk_at dksX0_isKnown_0 10 rfl rfl)
theorem dX0_isKnown_13 : decode cX0_isKnown 13 = .ok (.iconst 4, 1) := dk_7 (dk_at dksX0_isKnown_0 13 rfl rfl)
theorem dX0_isKnown_14 : decode cX0_isKnown 14 = .ok (.iload_n 2, 1) := dk_28 (dk_at dksX0_isKnown_0 14 rfl rfl)
theorem dX0_isKnown_15 : decode cX0_isKnown 15 = .ok (.imul, 1) := dk_104 (dk_at dksX0_isKnown_0 15 rfl rfl)
theorem dX0_isKnown_16 : decode cX0_isKnown 16 = .ok (.iload 4, 2) := dk_21 4 (dk_at dksX0_isKnown_0 16 rfl rfl)
theorem dX0_isKnown_18 : decode cX0_isKnown 18 = .ok (.iadd, 1) := dk_96 (dk_at dksX0_isKnown_0 18 rfl rfl)
theorem dX0_isKnown_19 : decode cX0_isKnown 19 = .ok (.laload, 1) := dk_47 (dk_at dksX0_isKnown_0 19 rfl rfl)
theorem dX0_isKnown_20 : decode cX0_isKnown 20 = .ok (.aload_n 0, 1) := dk_42 (dk_at dksX0_isKnown_0 20 rfl rfl)
theorem dX0_isKnown_21 : decode cX0_isKnown 21 = .ok (.getfield 9, 3) := dk_180 0 9 (dk_at dksX0_isKnown_0 21 rfl rfl)
theorem dX0_isKnown_24 : decode cX0_isKnown 24 = .ok (.iconst 4, 1) := dk_7 (dk_at dksX0_isKnown_1 0 rfl rfl)
theorem dX0_isKnown_25 : decode cX0_isKnown 25 = .ok (.iload_n 3, 1) := dk_29 (dk_at dksX0_isKnown_1 1 rfl rfl)
theorem dX0_isKnown_26 : decode cX0_isKnown 26 = .ok (.imul, 1) := dk_104 (dk_at dksX0_isKnown_1 2 rfl rfl)
theorem dX0_isKnown_27 : decode cX0_isKnown 27 = .ok (.iload 4, 2) := dk_21 4 (dk_at dksX0_isKnown_1 3 rfl rfl)
theorem dX0_isKnown_29 : decode cX0_isKnown 29 = .ok (.iadd, 1) := dk_96 (dk_at dksX0_isKnown_1 5 rfl rfl)
theorem dX0_isKnown_30 : decode cX0_isKnown 30 = .ok (.laload, 1) := dk_47 (dk_at dksX0_isKnown_1 6 rfl rfl)
theorem dX0_isKnown_31 : decode cX0_isKnown 31 = .ok (.ldc2_w 188, 3) := dk_20 0 188 (dk_at dksX0_isKnown_1 7 rfl rfl)
theorem dX0_isKnown_34 : decode cX0_isKnown 34 = .ok (.lxor, 1) := dk_131 (dk_at dksX0_isKnown_1 10 rfl rfl)
theorem dX0_isKnown_35 : decode cX0_isKnown 35 = .ok (.land, 1) := dk_127 (dk_at dksX0_isKnown_1 11 rfl rfl)
theorem dX0_isKnown_36 : decode cX0_isKnown 36 = .ok (.lconst 0, 1) := dk_9 (dk_at dksX0_isKnown_1 12 rfl rfl)
theorem dX0_isKnown_37 : decode cX0_isKnown 37 = .ok (.lcmp, 1) := dk_148 (dk_at dksX0_isKnown_1 13 rfl rfl)
theorem dX0_isKnown_38 : decode cX0_isKnown 38 = .ok (.ifCond .eq 5, 3) := dk_153 0 5 (dk_at dksX0_isKnown_1 14 rfl rfl)
theorem dX0_isKnown_41 : decode cX0_isKnown 41 = .ok (.iconst 0, 1) := dk_3 (dk_at dksX0_isKnown_1 17 rfl rfl)
theorem dX0_isKnown_42 : decode cX0_isKnown 42 = .ok (.ireturn, 1) := dk_172 (dk_at dksX0_isKnown_1 18 rfl rfl)
theorem dX0_isKnown_43 : decode cX0_isKnown 43 = .ok (.iinc 4 1, 3) := dk_132 4 1 (dk_at dksX0_isKnown_1 19 rfl rfl)
theorem dX0_isKnown_46 : decode cX0_isKnown 46 = .ok (.goto (-43), 3) := dk_167 255 213 (dk_at dksX0_isKnown_2 0 rfl rfl)
theorem dX0_isKnown_49 : decode cX0_isKnown 49 = .ok (.iconst 1, 1) := dk_4 (dk_at dksX0_isKnown_2 3 rfl rfl)
theorem dX0_isKnown_50 : decode cX0_isKnown 50 = .ok (.ireturn, 1) := dk_172 (dk_at dksX0_isKnown_2 4 rfl rfl)
abbrev cX0_possible : ByteArray := prog_1_method_32_code
def yX0_possible : MethodName := ⟨RX0, "possible", "(II)I"⟩
def dkwX0_possible_2 : List UInt8 := [167, 0, 4, 3, 172]
abbrev dktX0_possible_2 : List UInt8 := dkwX0_possible_2 ++ []
def dkwX0_possible_1 : List UInt8 := [42, 180, 0, 142, 27, 2, 160, 0, 8, 16, 6, 167, 0, 4, 27, 28, 182, 1, 5, 153, 0, 7, 4]
abbrev dktX0_possible_1 : List UInt8 := dkwX0_possible_1 ++ dktX0_possible_2
def dkwX0_possible_0 : List UInt8 := [42, 28, 182, 0, 255, 153, 0, 16, 27, 2, 159, 0, 14, 42, 27, 182, 0, 222, 154, 0, 6, 16, 254, 172]
abbrev dktX0_possible_0 : List UInt8 := dkwX0_possible_0 ++ dktX0_possible_1
theorem dksX0_possible_0 : cX0_possible.data.toList.drop 0 = dktX0_possible_0 := by decide +kernel
theorem dksX0_possible_1 : cX0_possible.data.toList.drop 24 = dktX0_possible_1 := dk_seg dksX0_possible_0 24 rfl rfl
theorem dksX0_possible_2 : cX0_possible.data.toList.drop 47 = dktX0_possible_2 := dk_seg dksX0_possible_1 23 rfl rfl
theorem dX0_possible_0 : decode cX0_possible 0 = .ok (.aload_n 0, 1) := dk_42 (dk_at dksX0_possible_0 0 rfl rfl)
theorem dX0_possible_1 : decode cX0_possible 1 = .ok (.iload_n 2, 1) := dk_28 (dk_at dksX0_possible_0 1 rfl rfl)
theorem dX0_possible_2 : decode cX0_possible 2 = .ok (.invokevirtual 255, 3) := dk_182 0 255 (dk_at dksX0_possible_0 2 rfl rfl)
theorem dX0_possible_5 : decode cX0_possible 5 = .ok (.ifCond .eq 16, 3) := dk_153 0 16 (dk_at dksX0_possible_0 5 rfl rfl)
theorem dX0_possible_8 : decode cX0_possible 8 = .ok (.iload_n 1, 1) := dk_27 (dk_at dksX0_possible_0 8 rfl rfl)
theorem dX0_possible_9 : decode cX0_possible 9 = .ok (.iconst (-1), 1) := dk_2 (dk_at dksX0_possible_0 9 rfl rfl)
theorem dX0_possible_10 : decode cX0_possible 10 = .ok (.if_icmp .eq 14, 3) := dk_159 0 14 (dk_at dksX0_possible_0 10 rfl rfl)
theorem dX0_possible_13 : decode cX0_possible 13 = .ok (.aload_n 0, 1) := dk_42 (dk_at dksX0_possible_0 13 rfl rfl)
theorem dX0_possible_14 : decode cX0_possible 14 = .ok (.iload_n 1, 1) := dk_27 (dk_at dksX0_possible_0 14 rfl rfl)
theorem dX0_possible_15 : decode cX0_possible 15 = .ok (.invokevirtual 222, 3) := dk_182 0 222 (dk_at dksX0_possible_0 15 rfl rfl)
theorem dX0_possible_18 : decode cX0_possible 18 = .ok (.ifCond .ne 6, 3) := dk_154 0 6 (dk_at dksX0_possible_0 18 rfl rfl)
theorem dX0_possible_21 : decode cX0_possible 21 = .ok (.bipush (-2), 2) := dk_16 254 (dk_at dksX0_possible_0 21 rfl rfl)
theorem dX0_possible_23 : decode cX0_possible 23 = .ok (.ireturn, 1) := dk_172 (dk_at dksX0_possible_0 23 rfl rfl)
theorem dX0_possible_24 : decode cX0_possible 24 = .ok (.aload_n 0, 1) := dk_42 (dk_at dksX0_possible_1 0 rfl rfl)
theorem dX0_possible_25 : decode cX0_possible 25 = .ok (.getfield 142, 3) := dk_180 0 142 (dk_at dksX0_possible_1 1 rfl rfl)
theorem dX0_possible_28 : decode cX0_possible 28 = .ok (.iload_n 1, 1) := dk_27 (dk_at dksX0_possible_1 4 rfl rfl)
theorem dX0_possible_29 : decode cX0_possible 29 = .ok (.iconst (-1), 1) := dk_2 (dk_at dksX0_possible_1 5 rfl rfl)
theorem dX0_possible_30 : decode cX0_possible 30 = .ok (.if_icmp .ne 8, 3) := dk_160 0 8 (dk_at dksX0_possible_1 6 rfl rfl)
theorem dX0_possible_33 : decode cX0_possible 33 = .ok (.bipush 6, 2) := dk_16 6 (dk_at dksX0_possible_1 9 rfl rfl)
theorem dX0_possible_35 : decode cX0_possible 35 = .ok (.goto 4, 3) := dk_167 0 4 (dk_at dksX0_possible_1 11 rfl rfl)
theorem dX0_possible_38 : decode cX0_possible 38 = .ok (.iload_n 1, 1) := dk_27 (dk_at dksX0_possible_1 14 rfl rfl)
theorem dX0_possible_39 : decode cX0_possible 39 = .ok (.iload_n 2, 1) := dk_28 (dk_at dksX0_possible_1 15 rfl rfl)
theorem dX0_possible_40 : decode cX0_possible 40 = .ok (.invokevirtual 261, 3) := dk_182 1 5 (dk_at dksX0_possible_1 16 rfl rfl)
theorem dX0_possible_43 : decode cX0_possible 43 = .ok (.ifCond .eq 7, 3) := dk_153 0 7 (dk_at dksX0_possible_1 19 rfl rfl)
theorem dX0_possible_46 : decode cX0_possible 46 = .ok (.iconst 1, 1) := dk_4 (dk_at dksX0_possible_1 22 rfl rfl)
theorem dX0_possible_47 : decode cX0_possible 47 = .ok (.goto 4, 3) := dk_167 0 4 (dk_at dksX0_possible_2 0 rfl rfl)
theorem dX0_possible_50 : decode cX0_possible 50 = .ok (.iconst 0, 1) := dk_3 (dk_at dksX0_possible_2 3 rfl rfl)
theorem dX0_possible_51 : decode cX0_possible 51 = .ok (.ireturn, 1) := dk_172 (dk_at dksX0_possible_2 4 rfl rfl)
abbrev cX0_gain : ByteArray := prog_1_method_33_code
def yX0_gain : MethodName := ⟨RX0, "gain", "(I)I"⟩
def dkwX0_gain_0 : List UInt8 := [42, 27, 182, 1, 2, 153, 0, 15, 42, 42, 180, 0, 142, 27, 182, 0, 206, 167, 0, 4, 2, 172]
abbrev dktX0_gain_0 : List UInt8 := dkwX0_gain_0 ++ []
theorem dksX0_gain_0 : cX0_gain.data.toList.drop 0 = dktX0_gain_0 := by decide +kernel
theorem dX0_gain_0 : decode cX0_gain 0 = .ok (.aload_n 0, 1) := dk_42 (dk_at dksX0_gain_0 0 rfl rfl)
theorem dX0_gain_1 : decode cX0_gain 1 = .ok (.iload_n 1, 1) := dk_27 (dk_at dksX0_gain_0 1 rfl rfl)
theorem dX0_gain_2 : decode cX0_gain 2 = .ok (.invokevirtual 258, 3) := dk_182 1 2 (dk_at dksX0_gain_0 2 rfl rfl)
theorem dX0_gain_5 : decode cX0_gain 5 = .ok (.ifCond .eq 15, 3) := dk_153 0 15 (dk_at dksX0_gain_0 5 rfl rfl)
theorem dX0_gain_8 : decode cX0_gain 8 = .ok (.aload_n 0, 1) := dk_42 (dk_at dksX0_gain_0 8 rfl rfl)
theorem dX0_gain_9 : decode cX0_gain 9 = .ok (.aload_n 0, 1) := dk_42 (dk_at dksX0_gain_0 9 rfl rfl)
theorem dX0_gain_10 : decode cX0_gain 10 = .ok (.getfield 142, 3) := dk_180 0 142 (dk_at dksX0_gain_0 10 rfl rfl)
theorem dX0_gain_13 : decode cX0_gain 13 = .ok (.iload_n 1, 1) := dk_27 (dk_at dksX0_gain_0 13 rfl rfl)
theorem dX0_gain_14 : decode cX0_gain 14 = .ok (.invokevirtual 206, 3) := dk_182 0 206 (dk_at dksX0_gain_0 14 rfl rfl)
theorem dX0_gain_17 : decode cX0_gain 17 = .ok (.goto 4, 3) := dk_167 0 4 (dk_at dksX0_gain_0 17 rfl rfl)
theorem dX0_gain_20 : decode cX0_gain 20 = .ok (.iconst (-1), 1) := dk_2 (dk_at dksX0_gain_0 20 rfl rfl)
theorem dX0_gain_21 : decode cX0_gain 21 = .ok (.ireturn, 1) := dk_172 (dk_at dksX0_gain_0 21 rfl rfl)
abbrev cX0_gainOf : ByteArray := prog_1_method_21_code
def yX0_gainOf : MethodName := ⟨RX0, "gainOf", "(LTruthBridge$Gorge;I)I"⟩
def dkwX0_gainOf_2 : List UInt8 := [167, 255, 215, 29, 172]
abbrev dktX0_gainOf_2 : List UInt8 := dkwX0_gainOf_2 ++ []
def dkwX0_gainOf_1 : List UInt8 := [180, 0, 9, 7, 28, 104, 21, 4, 96, 47, 20, 0, 188, 131, 127, 184, 0, 190, 96, 62, 132, 4, 1]
abbrev dktX0_gainOf_1 : List UInt8 := dkwX0_gainOf_1 ++ dktX0_gainOf_2
def dkwX0_gainOf_0 : List UInt8 := [3, 62, 3, 54, 4, 21, 4, 7, 162, 0, 41, 29, 43, 180, 0, 185, 16, 24, 21, 4, 96, 47, 42]
abbrev dktX0_gainOf_0 : List UInt8 := dkwX0_gainOf_0 ++ dktX0_gainOf_1
theorem dksX0_gainOf_0 : cX0_gainOf.data.toList.drop 0 = dktX0_gainOf_0 := by decide +kernel
theorem dksX0_gainOf_1 : cX0_gainOf.data.toList.drop 23 = dktX0_gainOf_1 := dk_seg dksX0_gainOf_0 23 rfl rfl
theorem dksX0_gainOf_2 : cX0_gainOf.data.toList.drop 46 = dktX0_gainOf_2 := dk_seg dksX0_gainOf_1 23 rfl rfl
theorem dX0_gainOf_0 : decode cX0_gainOf 0 = .ok (.iconst 0, 1) := dk_3 (dk_at dksX0_gainOf_0 0 rfl rfl)
theorem dX0_gainOf_1 : decode cX0_gainOf 1 = .ok (.istore_n 3, 1) := dk_62 (dk_at dksX0_gainOf_0 1 rfl rfl)
theorem dX0_gainOf_2 : decode cX0_gainOf 2 = .ok (.iconst 0, 1) := dk_3 (dk_at dksX0_gainOf_0 2 rfl rfl)
theorem dX0_gainOf_3 : decode cX0_gainOf 3 = .ok (.istore 4, 2) := dk_54 4 (dk_at dksX0_gainOf_0 3 rfl rfl)
theorem dX0_gainOf_5 : decode cX0_gainOf 5 = .ok (.iload 4, 2) := dk_21 4 (dk_at dksX0_gainOf_0 5 rfl rfl)
theorem dX0_gainOf_7 : decode cX0_gainOf 7 = .ok (.iconst 4, 1) := dk_7 (dk_at dksX0_gainOf_0 7 rfl rfl)
theorem dX0_gainOf_8 : decode cX0_gainOf 8 = .ok (.if_icmp .ge 41, 3) := dk_162 0 41 (dk_at dksX0_gainOf_0 8 rfl rfl)
theorem dX0_gainOf_11 : decode cX0_gainOf 11 = .ok (.iload_n 3, 1) := dk_29 (dk_at dksX0_gainOf_0 11 rfl rfl)
theorem dX0_gainOf_12 : decode cX0_gainOf 12 = .ok (.aload_n 1, 1) := dk_43 (dk_at dksX0_gainOf_0 12 rfl rfl)
theorem dX0_gainOf_13 : decode cX0_gainOf 13 = .ok (.getfield 185, 3) := dk_180 0 185 (dk_at dksX0_gainOf_0 13 rfl rfl)
theorem dX0_gainOf_16 : decode cX0_gainOf 16 = .ok (.bipush 24, 2) := dk_16 24 (dk_at dksX0_gainOf_0 16 rfl rfl)
theorem dX0_gainOf_18 : decode cX0_gainOf 18 = .ok (.iload 4, 2) := dk_21 4 (dk_at dksX0_gainOf_0 18 rfl rfl)
theorem dX0_gainOf_20 : decode cX0_gainOf 20 = .ok (.iadd, 1) := dk_96 (dk_at dksX0_gainOf_0 20 rfl rfl)
theorem dX0_gainOf_21 : decode cX0_gainOf 21 = .ok (.laload, 1) := dk_47 (dk_at dksX0_gainOf_0 21 rfl rfl)
theorem dX0_gainOf_22 : decode cX0_gainOf 22 = .ok (.aload_n 0, 1) := dk_42 (dk_at dksX0_gainOf_0 22 rfl rfl)
theorem dX0_gainOf_23 : decode cX0_gainOf 23 = .ok (.getfield 9, 3) := dk_180 0 9 (dk_at dksX0_gainOf_1 0 rfl rfl)
theorem dX0_gainOf_26 : decode cX0_gainOf 26 = .ok (.iconst 4, 1) := dk_7 (dk_at dksX0_gainOf_1 3 rfl rfl)
theorem dX0_gainOf_27 : decode cX0_gainOf 27 = .ok (.iload_n 2, 1) := dk_28 (dk_at dksX0_gainOf_1 4 rfl rfl)
theorem dX0_gainOf_28 : decode cX0_gainOf 28 = .ok (.imul, 1) := dk_104 (dk_at dksX0_gainOf_1 5 rfl rfl)
theorem dX0_gainOf_29 : decode cX0_gainOf 29 = .ok (.iload 4, 2) := dk_21 4 (dk_at dksX0_gainOf_1 6 rfl rfl)
theorem dX0_gainOf_31 : decode cX0_gainOf 31 = .ok (.iadd, 1) := dk_96 (dk_at dksX0_gainOf_1 8 rfl rfl)
theorem dX0_gainOf_32 : decode cX0_gainOf 32 = .ok (.laload, 1) := dk_47 (dk_at dksX0_gainOf_1 9 rfl rfl)
theorem dX0_gainOf_33 : decode cX0_gainOf 33 = .ok (.ldc2_w 188, 3) := dk_20 0 188 (dk_at dksX0_gainOf_1 10 rfl rfl)
theorem dX0_gainOf_36 : decode cX0_gainOf 36 = .ok (.lxor, 1) := dk_131 (dk_at dksX0_gainOf_1 13 rfl rfl)
theorem dX0_gainOf_37 : decode cX0_gainOf 37 = .ok (.land, 1) := dk_127 (dk_at dksX0_gainOf_1 14 rfl rfl)
theorem dX0_gainOf_38 : decode cX0_gainOf 38 = .ok (.invokestatic 190, 3) := dk_184 0 190 (dk_at dksX0_gainOf_1 15 rfl rfl)
theorem dX0_gainOf_41 : decode cX0_gainOf 41 = .ok (.iadd, 1) := dk_96 (dk_at dksX0_gainOf_1 18 rfl rfl)
theorem dX0_gainOf_42 : decode cX0_gainOf 42 = .ok (.istore_n 3, 1) := dk_62 (dk_at dksX0_gainOf_1 19 rfl rfl)
theorem dX0_gainOf_43 : decode cX0_gainOf 43 = .ok (.iinc 4 1, 3) := dk_132 4 1 (dk_at dksX0_gainOf_1 20 rfl rfl)
theorem dX0_gainOf_46 : decode cX0_gainOf 46 = .ok (.goto (-41), 3) := dk_167 255 215 (dk_at dksX0_gainOf_2 0 rfl rfl)
theorem dX0_gainOf_49 : decode cX0_gainOf 49 = .ok (.iload_n 3, 1) := dk_29 (dk_at dksX0_gainOf_2 3 rfl rfl)
theorem dX0_gainOf_50 : decode cX0_gainOf 50 = .ok (.ireturn, 1) := dk_172 (dk_at dksX0_gainOf_2 4 rfl rfl)
abbrev cX0_shown : ByteArray := prog_1_method_34_code
def yX0_shown : MethodName := ⟨RX0, "shown", "(I)I"⟩
def dkwX0_shown_2 : List UInt8 := [132, 2, 1, 167, 255, 218, 16, 254, 172]
abbrev dktX0_shown_2 : List UInt8 := dkwX0_shown_2 ++ []
def dkwX0_shown_1 : List UInt8 := [180, 0, 142, 16, 6, 28, 182, 1, 5, 153, 0, 14, 42, 27, 28, 182, 0, 202, 154, 0, 5, 28, 172]
abbrev dktX0_shown_1 : List UInt8 := dkwX0_shown_1 ++ dktX0_shown_2
def dkwX0_shown_0 : List UInt8 := [42, 27, 182, 1, 2, 154, 0, 5, 2, 172, 3, 61, 28, 42, 180, 0, 142, 182, 0, 182, 162, 0, 33, 42]
abbrev dktX0_shown_0 : List UInt8 := dkwX0_shown_0 ++ dktX0_shown_1
theorem dksX0_shown_0 : cX0_shown.data.toList.drop 0 = dktX0_shown_0 := by decide +kernel
theorem dksX0_shown_1 : cX0_shown.data.toList.drop 24 = dktX0_shown_1 := dk_seg dksX0_shown_0 24 rfl rfl
theorem dksX0_shown_2 : cX0_shown.data.toList.drop 47 = dktX0_shown_2 := dk_seg dksX0_shown_1 23 rfl rfl
theorem dX0_shown_0 : decode cX0_shown 0 = .ok (.aload_n 0, 1) := dk_42 (dk_at dksX0_shown_0 0 rfl rfl)
theorem dX0_shown_1 : decode cX0_shown 1 = .ok (.iload_n 1, 1) := dk_27 (dk_at dksX0_shown_0 1 rfl rfl)
theorem dX0_shown_2 : decode cX0_shown 2 = .ok (.invokevirtual 258, 3) := dk_182 1 2 (dk_at dksX0_shown_0 2 rfl rfl)
theorem dX0_shown_5 : decode cX0_shown 5 = .ok (.ifCond .ne 5, 3) := dk_154 0 5 (dk_at dksX0_shown_0 5 rfl rfl)
theorem dX0_shown_8 : decode cX0_shown 8 = .ok (.iconst (-1), 1) := dk_2 (dk_at dksX0_shown_0 8 rfl rfl)
theorem dX0_shown_9 : decode cX0_shown 9 = .ok (.ireturn, 1) := dk_172 (dk_at dksX0_shown_0 9 rfl rfl)
theorem dX0_shown_10 : decode cX0_shown 10 = .ok (.iconst 0, 1) := dk_3 (dk_at dksX0_shown_0 10 rfl rfl)
theorem dX0_shown_11 : decode cX0_shown 11 = .ok (.istore_n 2, 1) := dk_61 (dk_at dksX0_shown_0 11 rfl rfl)
theorem dX0_shown_12 : decode cX0_shown 12 = .ok (.iload_n 2, 1) := dk_28 (dk_at dksX0_shown_0 12 rfl rfl)
theorem dX0_shown_13 : decode cX0_shown 13 = .ok (.aload_n 0, 1) := dk_42 (dk_at dksX0_shown_0 13 rfl rfl)
theorem dX0_shown_14 : decode cX0_shown 14 = .ok (.getfield 142, 3) := dk_180 0 142 (dk_at dksX0_shown_0 14 rfl rfl)
theorem dX0_shown_17 : decode cX0_shown 17 = .ok (.invokevirtual 182, 3) := dk_182 0 182 (dk_at dksX0_shown_0 17 rfl rfl)
theorem dX0_shown_20 : decode cX0_shown 20 = .ok (.if_icmp .ge 33, 3) := dk_162 0 33 (dk_at dksX0_shown_0 20 rfl rfl)
theorem dX0_shown_23 : decode cX0_shown 23 = .ok (.aload_n 0, 1) := dk_42 (dk_at dksX0_shown_0 23 rfl rfl)
theorem dX0_shown_24 : decode cX0_shown 24 = .ok (.getfield 142, 3) := dk_180 0 142 (dk_at dksX0_shown_1 0 rfl rfl)
theorem dX0_shown_27 : decode cX0_shown 27 = .ok (.bipush 6, 2) := dk_16 6 (dk_at dksX0_shown_1 3 rfl rfl)
theorem dX0_shown_29 : decode cX0_shown 29 = .ok (.iload_n 2, 1) := dk_28 (dk_at dksX0_shown_1 5 rfl rfl)
theorem dX0_shown_30 : decode cX0_shown 30 = .ok (.invokevirtual 261, 3) := dk_182 1 5 (dk_at dksX0_shown_1 6 rfl rfl)
theorem dX0_shown_33 : decode cX0_shown 33 = .ok (.ifCond .eq 14, 3) := dk_153 0 14 (dk_at dksX0_shown_1 9 rfl rfl)
theorem dX0_shown_36 : decode cX0_shown 36 = .ok (.aload_n 0, 1) := dk_42 (dk_at dksX0_shown_1 12 rfl rfl)
theorem dX0_shown_37 : decode cX0_shown 37 = .ok (.iload_n 1, 1) := dk_27 (dk_at dksX0_shown_1 13 rfl rfl)
theorem dX0_shown_38 : decode cX0_shown 38 = .ok (.iload_n 2, 1) := dk_28 (dk_at dksX0_shown_1 14 rfl rfl)
theorem dX0_shown_39 : decode cX0_shown 39 = .ok (.invokevirtual 202, 3) := dk_182 0 202 (dk_at dksX0_shown_1 15 rfl rfl)
theorem dX0_shown_42 : decode cX0_shown 42 = .ok (.ifCond .ne 5, 3) := dk_154 0 5 (dk_at dksX0_shown_1 18 rfl rfl)
theorem dX0_shown_45 : decode cX0_shown 45 = .ok (.iload_n 2, 1) := dk_28 (dk_at dksX0_shown_1 21 rfl rfl)
theorem dX0_shown_46 : decode cX0_shown 46 = .ok (.ireturn, 1) := dk_172 (dk_at dksX0_shown_1 22 rfl rfl)
theorem dX0_shown_47 : decode cX0_shown 47 = .ok (.iinc 2 1, 3) := dk_132 2 1 (dk_at dksX0_shown_2 0 rfl rfl)
theorem dX0_shown_50 : decode cX0_shown 50 = .ok (.goto (-38), 3) := dk_167 255 218 (dk_at dksX0_shown_2 3 rfl rfl)
theorem dX0_shown_53 : decode cX0_shown 53 = .ok (.bipush (-2), 2) := dk_16 254 (dk_at dksX0_shown_2 6 rfl rfl)
theorem dX0_shown_55 : decode cX0_shown 55 = .ok (.ireturn, 1) := dk_172 (dk_at dksX0_shown_2 8 rfl rfl)
abbrev cX0_undo : ByteArray := prog_1_method_36_code
def yX0_undo : MethodName := ⟨RX0, "undo", "()I"⟩
def dkwX0_undo_2 : List UInt8 := [180, 0, 142, 180, 1, 8, 172]
abbrev dktX0_undo_2 : List UInt8 := dkwX0_undo_2 ++ []
def dkwX0_undo_1 : List UInt8 := [89, 180, 1, 8, 4, 100, 181, 1, 8, 42, 180, 0, 142, 42, 180, 0, 142, 180, 1, 8, 182, 1, 25, 42]
abbrev dktX0_undo_1 : List UInt8 := dkwX0_undo_1 ++ dktX0_undo_2
def dkwX0_undo_0 : List UInt8 := [42, 180, 0, 142, 198, 0, 13, 42, 180, 0, 142, 180, 1, 8, 154, 0, 6, 16, 254, 172, 42, 180, 0, 142]
abbrev dktX0_undo_0 : List UInt8 := dkwX0_undo_0 ++ dktX0_undo_1
theorem dksX0_undo_0 : cX0_undo.data.toList.drop 0 = dktX0_undo_0 := by decide +kernel
theorem dksX0_undo_1 : cX0_undo.data.toList.drop 24 = dktX0_undo_1 := dk_seg dksX0_undo_0 24 rfl rfl
theorem dksX0_undo_2 : cX0_undo.data.toList.drop 48 = dktX0_undo_2 := dk_seg dksX0_undo_1 24 rfl rfl
theorem dX0_undo_0 : decode cX0_undo 0 = .ok (.aload_n 0, 1) := dk_42 (dk_at dksX0_undo_0 0 rfl rfl)
theorem dX0_undo_1 : decode cX0_undo 1 = .ok (.getfield 142, 3) := dk_180 0 142 (dk_at dksX0_undo_0 1 rfl rfl)
theorem dX0_undo_4 : decode cX0_undo 4 = .ok (.ifnull 13, 3) := dk_198 0 13 (dk_at dksX0_undo_0 4 rfl rfl)
theorem dX0_undo_7 : decode cX0_undo 7 = .ok (.aload_n 0, 1) := dk_42 (dk_at dksX0_undo_0 7 rfl rfl)
theorem dX0_undo_8 : decode cX0_undo 8 = .ok (.getfield 142, 3) := dk_180 0 142 (dk_at dksX0_undo_0 8 rfl rfl)
theorem dX0_undo_11 : decode cX0_undo 11 = .ok (.getfield 264, 3) := dk_180 1 8 (dk_at dksX0_undo_0 11 rfl rfl)
theorem dX0_undo_14 : decode cX0_undo 14 = .ok (.ifCond .ne 6, 3) := dk_154 0 6 (dk_at dksX0_undo_0 14 rfl rfl)
theorem dX0_undo_17 : decode cX0_undo 17 = .ok (.bipush (-2), 2) := dk_16 254 (dk_at dksX0_undo_0 17 rfl rfl)
theorem dX0_undo_19 : decode cX0_undo 19 = .ok (.ireturn, 1) := dk_172 (dk_at dksX0_undo_0 19 rfl rfl)
theorem dX0_undo_20 : decode cX0_undo 20 = .ok (.aload_n 0, 1) := dk_42 (dk_at dksX0_undo_0 20 rfl rfl)
theorem dX0_undo_21 : decode cX0_undo 21 = .ok (.getfield 142, 3) := dk_180 0 142 (dk_at dksX0_undo_0 21 rfl rfl)
theorem dX0_undo_24 : decode cX0_undo 24 = .ok (.dup, 1) := dk_89 (dk_at dksX0_undo_1 0 rfl rfl)
theorem dX0_undo_25 : decode cX0_undo 25 = .ok (.getfield 264, 3) := dk_180 1 8 (dk_at dksX0_undo_1 1 rfl rfl)
theorem dX0_undo_28 : decode cX0_undo 28 = .ok (.iconst 1, 1) := dk_4 (dk_at dksX0_undo_1 4 rfl rfl)
theorem dX0_undo_29 : decode cX0_undo 29 = .ok (.isub, 1) := dk_100 (dk_at dksX0_undo_1 5 rfl rfl)
theorem dX0_undo_30 : decode cX0_undo 30 = .ok (.putfield 264, 3) := dk_181 1 8 (dk_at dksX0_undo_1 6 rfl rfl)
theorem dX0_undo_33 : decode cX0_undo 33 = .ok (.aload_n 0, 1) := dk_42 (dk_at dksX0_undo_1 9 rfl rfl)
theorem dX0_undo_34 : decode cX0_undo 34 = .ok (.getfield 142, 3) := dk_180 0 142 (dk_at dksX0_undo_1 10 rfl rfl)
theorem dX0_undo_37 : decode cX0_undo 37 = .ok (.aload_n 0, 1) := dk_42 (dk_at dksX0_undo_1 13 rfl rfl)
theorem dX0_undo_38 : decode cX0_undo 38 = .ok (.getfield 142, 3) := dk_180 0 142 (dk_at dksX0_undo_1 14 rfl rfl)
theorem dX0_undo_41 : decode cX0_undo 41 = .ok (.getfield 264, 3) := dk_180 1 8 (dk_at dksX0_undo_1 17 rfl rfl)
theorem dX0_undo_44 : decode cX0_undo 44 = .ok (.invokevirtual 281, 3) := dk_182 1 25 (dk_at dksX0_undo_1 20 rfl rfl)
theorem dX0_undo_47 : decode cX0_undo 47 = .ok (.aload_n 0, 1) := dk_42 (dk_at dksX0_undo_1 23 rfl rfl)
theorem dX0_undo_48 : decode cX0_undo 48 = .ok (.getfield 142, 3) := dk_180 0 142 (dk_at dksX0_undo_2 0 rfl rfl)
theorem dX0_undo_51 : decode cX0_undo 51 = .ok (.getfield 264, 3) := dk_180 1 8 (dk_at dksX0_undo_2 3 rfl rfl)
theorem dX0_undo_54 : decode cX0_undo 54 = .ok (.ireturn, 1) := dk_172 (dk_at dksX0_undo_2 6 rfl rfl)
abbrev cX0_cross : ByteArray := prog_1_method_38_code
def yX0_cross : MethodName := ⟨RX0, "cross", "(II)I"⟩
def dkwX0_cross_1 : List UInt8 := [46, 4, 160, 0, 5, 2, 172, 42, 182, 1, 32, 42, 42, 180, 0, 142, 27, 28, 182, 1, 35, 172]
abbrev dktX0_cross_1 : List UInt8 := dkwX0_cross_1 ++ []
def dkwX0_cross_0 : List UInt8 := [42, 27, 182, 0, 222, 153, 0, 24, 42, 28, 182, 0, 176, 153, 0, 16, 42, 180, 0, 142, 180, 0, 196, 27]
abbrev dktX0_cross_0 : List UInt8 := dkwX0_cross_0 ++ dktX0_cross_1
theorem dksX0_cross_0 : cX0_cross.data.toList.drop 0 = dktX0_cross_0 := by decide +kernel
theorem dksX0_cross_1 : cX0_cross.data.toList.drop 24 = dktX0_cross_1 := dk_seg dksX0_cross_0 24 rfl rfl
theorem dX0_cross_0 : decode cX0_cross 0 = .ok (.aload_n 0, 1) := dk_42 (dk_at dksX0_cross_0 0 rfl rfl)
theorem dX0_cross_1 : decode cX0_cross 1 = .ok (.iload_n 1, 1) := dk_27 (dk_at dksX0_cross_0 1 rfl rfl)
theorem dX0_cross_2 : decode cX0_cross 2 = .ok (.invokevirtual 222, 3) := dk_182 0 222 (dk_at dksX0_cross_0 2 rfl rfl)
theorem dX0_cross_5 : decode cX0_cross 5 = .ok (.ifCond .eq 24, 3) := dk_153 0 24 (dk_at dksX0_cross_0 5 rfl rfl)
theorem dX0_cross_8 : decode cX0_cross 8 = .ok (.aload_n 0, 1) := dk_42 (dk_at dksX0_cross_0 8 rfl rfl)
theorem dX0_cross_9 : decode cX0_cross 9 = .ok (.iload_n 2, 1) := dk_28 (dk_at dksX0_cross_0 9 rfl rfl)
theorem dX0_cross_10 : decode cX0_cross 10 = .ok (.invokevirtual 176, 3) := dk_182 0 176 (dk_at dksX0_cross_0 10 rfl rfl)
theorem dX0_cross_13 : decode cX0_cross 13 = .ok (.ifCond .eq 16, 3) := dk_153 0 16 (dk_at dksX0_cross_0 13 rfl rfl)
theorem dX0_cross_16 : decode cX0_cross 16 = .ok (.aload_n 0, 1) := dk_42 (dk_at dksX0_cross_0 16 rfl rfl)
theorem dX0_cross_17 : decode cX0_cross 17 = .ok (.getfield 142, 3) := dk_180 0 142 (dk_at dksX0_cross_0 17 rfl rfl)
theorem dX0_cross_20 : decode cX0_cross 20 = .ok (.getfield 196, 3) := dk_180 0 196 (dk_at dksX0_cross_0 20 rfl rfl)
theorem dX0_cross_23 : decode cX0_cross 23 = .ok (.iload_n 1, 1) := dk_27 (dk_at dksX0_cross_0 23 rfl rfl)
theorem dX0_cross_24 : decode cX0_cross 24 = .ok (.iaload, 1) := dk_46 (dk_at dksX0_cross_1 0 rfl rfl)
theorem dX0_cross_25 : decode cX0_cross 25 = .ok (.iconst 1, 1) := dk_4 (dk_at dksX0_cross_1 1 rfl rfl)
theorem dX0_cross_26 : decode cX0_cross 26 = .ok (.if_icmp .ne 5, 3) := dk_160 0 5 (dk_at dksX0_cross_1 2 rfl rfl)
theorem dX0_cross_29 : decode cX0_cross 29 = .ok (.iconst (-1), 1) := dk_2 (dk_at dksX0_cross_1 5 rfl rfl)
theorem dX0_cross_30 : decode cX0_cross 30 = .ok (.ireturn, 1) := dk_172 (dk_at dksX0_cross_1 6 rfl rfl)
theorem dX0_cross_31 : decode cX0_cross 31 = .ok (.aload_n 0, 1) := dk_42 (dk_at dksX0_cross_1 7 rfl rfl)
theorem dX0_cross_32 : decode cX0_cross 32 = .ok (.invokevirtual 288, 3) := dk_182 1 32 (dk_at dksX0_cross_1 8 rfl rfl)
theorem dX0_cross_35 : decode cX0_cross 35 = .ok (.aload_n 0, 1) := dk_42 (dk_at dksX0_cross_1 11 rfl rfl)
theorem dX0_cross_36 : decode cX0_cross 36 = .ok (.aload_n 0, 1) := dk_42 (dk_at dksX0_cross_1 12 rfl rfl)
theorem dX0_cross_37 : decode cX0_cross 37 = .ok (.getfield 142, 3) := dk_180 0 142 (dk_at dksX0_cross_1 13 rfl rfl)
theorem dX0_cross_40 : decode cX0_cross 40 = .ok (.iload_n 1, 1) := dk_27 (dk_at dksX0_cross_1 16 rfl rfl)
theorem dX0_cross_41 : decode cX0_cross 41 = .ok (.iload_n 2, 1) := dk_28 (dk_at dksX0_cross_1 17 rfl rfl)
theorem dX0_cross_42 : decode cX0_cross 42 = .ok (.invokevirtual 291, 3) := dk_182 1 35 (dk_at dksX0_cross_1 18 rfl rfl)
theorem dX0_cross_45 : decode cX0_cross 45 = .ok (.ireturn, 1) := dk_172 (dk_at dksX0_cross_1 21 rfl rfl)
abbrev cX0_keepsAct : ByteArray := prog_1_method_35_code
def yX0_keepsAct : MethodName := ⟨RX0, "keepsAct", "()V"⟩
def dkwX0_keepsAct_4 : List UInt8 := [180, 1, 8, 4, 96, 181, 1, 8, 177]
abbrev dktX0_keepsAct_4 : List UInt8 := dkwX0_keepsAct_4 ++ []
def dkwX0_keepsAct_3 : List UInt8 := [181, 1, 8, 42, 180, 0, 142, 42, 180, 0, 142, 180, 1, 8, 182, 1, 23, 42, 180, 0, 142, 89]
abbrev dktX0_keepsAct_3 : List UInt8 := dkwX0_keepsAct_3 ++ dktX0_keepsAct_4
def dkwX0_keepsAct_2 : List UInt8 := [180, 0, 142, 180, 1, 20, 3, 17, 2, 20, 184, 1, 14, 42, 180, 0, 142, 89, 180, 1, 8, 4, 100]
abbrev dktX0_keepsAct_2 : List UInt8 := dkwX0_keepsAct_2 ++ dktX0_keepsAct_3
def dkwX0_keepsAct_1 : List UInt8 := [180, 0, 142, 180, 1, 11, 3, 17, 1, 124, 184, 1, 14, 42, 180, 0, 142, 180, 1, 20, 16, 28, 42]
abbrev dktX0_keepsAct_1 : List UInt8 := dkwX0_keepsAct_1 ++ dktX0_keepsAct_2
def dkwX0_keepsAct_0 : List UInt8 := [42, 180, 0, 142, 180, 1, 8, 16, 20, 160, 0, 62, 42, 180, 0, 142, 180, 1, 11, 16, 20, 42]
abbrev dktX0_keepsAct_0 : List UInt8 := dkwX0_keepsAct_0 ++ dktX0_keepsAct_1
theorem dksX0_keepsAct_0 : cX0_keepsAct.data.toList.drop 0 = dktX0_keepsAct_0 := by decide +kernel
theorem dksX0_keepsAct_1 : cX0_keepsAct.data.toList.drop 22 = dktX0_keepsAct_1 := dk_seg dksX0_keepsAct_0 22 rfl rfl
theorem dksX0_keepsAct_2 : cX0_keepsAct.data.toList.drop 45 = dktX0_keepsAct_2 := dk_seg dksX0_keepsAct_1 23 rfl rfl
theorem dksX0_keepsAct_3 : cX0_keepsAct.data.toList.drop 68 = dktX0_keepsAct_3 := dk_seg dksX0_keepsAct_2 23 rfl rfl
theorem dksX0_keepsAct_4 : cX0_keepsAct.data.toList.drop 90 = dktX0_keepsAct_4 := dk_seg dksX0_keepsAct_3 22 rfl rfl
theorem dX0_keepsAct_0 : decode cX0_keepsAct 0 = .ok (.aload_n 0, 1) := dk_42 (dk_at dksX0_keepsAct_0 0 rfl rfl)
theorem dX0_keepsAct_1 : decode cX0_keepsAct 1 = .ok (.getfield 142, 3) := dk_180 0 142 (dk_at dksX0_keepsAct_0 1 rfl rfl)
theorem dX0_keepsAct_4 : decode cX0_keepsAct 4 = .ok (.getfield 264, 3) := dk_180 1 8 (dk_at dksX0_keepsAct_0 4 rfl rfl)
theorem dX0_keepsAct_7 : decode cX0_keepsAct 7 = .ok (.bipush 20, 2) := dk_16 20 (dk_at dksX0_keepsAct_0 7 rfl rfl)
theorem dX0_keepsAct_9 : decode cX0_keepsAct 9 = .ok (.if_icmp .ne 62, 3) := dk_160 0 62 (dk_at dksX0_keepsAct_0 9 rfl rfl)
theorem dX0_keepsAct_12 : decode cX0_keepsAct 12 = .ok (.aload_n 0, 1) := dk_42 (dk_at dksX0_keepsAct_0 12 rfl rfl)
theorem dX0_keepsAct_13 : decode cX0_keepsAct 13 = .ok (.getfield 142, 3) := dk_180 0 142 (dk_at dksX0_keepsAct_0 13 rfl rfl)
theorem dX0_keepsAct_16 : decode cX0_keepsAct 16 = .ok (.getfield 267, 3) := dk_180 1 11 (dk_at dksX0_keepsAct_0 16 rfl rfl)
theorem dX0_keepsAct_19 : decode cX0_keepsAct 19 = .ok (.bipush 20, 2) := dk_16 20 (dk_at dksX0_keepsAct_0 19 rfl rfl)
theorem dX0_keepsAct_21 : decode cX0_keepsAct 21 = .ok (.aload_n 0, 1) := dk_42 (dk_at dksX0_keepsAct_0 21 rfl rfl)
theorem dX0_keepsAct_22 : decode cX0_keepsAct 22 = .ok (.getfield 142, 3) := dk_180 0 142 (dk_at dksX0_keepsAct_1 0 rfl rfl)
theorem dX0_keepsAct_25 : decode cX0_keepsAct 25 = .ok (.getfield 267, 3) := dk_180 1 11 (dk_at dksX0_keepsAct_1 3 rfl rfl)
theorem dX0_keepsAct_28 : decode cX0_keepsAct 28 = .ok (.iconst 0, 1) := dk_3 (dk_at dksX0_keepsAct_1 6 rfl rfl)
theorem dX0_keepsAct_29 : decode cX0_keepsAct 29 = .ok (.sipush 380, 3) := dk_17 1 124 (dk_at dksX0_keepsAct_1 7 rfl rfl)
theorem dX0_keepsAct_32 : decode cX0_keepsAct 32 = .ok (.invokestatic 270, 3) := dk_184 1 14 (dk_at dksX0_keepsAct_1 10 rfl rfl)
theorem dX0_keepsAct_35 : decode cX0_keepsAct 35 = .ok (.aload_n 0, 1) := dk_42 (dk_at dksX0_keepsAct_1 13 rfl rfl)
theorem dX0_keepsAct_36 : decode cX0_keepsAct 36 = .ok (.getfield 142, 3) := dk_180 0 142 (dk_at dksX0_keepsAct_1 14 rfl rfl)
theorem dX0_keepsAct_39 : decode cX0_keepsAct 39 = .ok (.getfield 276, 3) := dk_180 1 20 (dk_at dksX0_keepsAct_1 17 rfl rfl)
theorem dX0_keepsAct_42 : decode cX0_keepsAct 42 = .ok (.bipush 28, 2) := dk_16 28 (dk_at dksX0_keepsAct_1 20 rfl rfl)
theorem dX0_keepsAct_44 : decode cX0_keepsAct 44 = .ok (.aload_n 0, 1) := dk_42 (dk_at dksX0_keepsAct_1 22 rfl rfl)
theorem dX0_keepsAct_45 : decode cX0_keepsAct 45 = .ok (.getfield 142, 3) := dk_180 0 142 (dk_at dksX0_keepsAct_2 0 rfl rfl)
theorem dX0_keepsAct_48 : decode cX0_keepsAct 48 = .ok (.getfield 276, 3) := dk_180 1 20 (dk_at dksX0_keepsAct_2 3 rfl rfl)
theorem dX0_keepsAct_51 : decode cX0_keepsAct 51 = .ok (.iconst 0, 1) := dk_3 (dk_at dksX0_keepsAct_2 6 rfl rfl)
theorem dX0_keepsAct_52 : decode cX0_keepsAct 52 = .ok (.sipush 532, 3) := dk_17 2 20 (dk_at dksX0_keepsAct_2 7 rfl rfl)
theorem dX0_keepsAct_55 : decode cX0_keepsAct 55 = .ok (.invokestatic 270, 3) := dk_184 1 14 (dk_at dksX0_keepsAct_2 10 rfl rfl)
theorem dX0_keepsAct_58 : decode cX0_keepsAct 58 = .ok (.aload_n 0, 1) := dk_42 (dk_at dksX0_keepsAct_2 13 rfl rfl)
theorem dX0_keepsAct_59 : decode cX0_keepsAct 59 = .ok (.getfield 142, 3) := dk_180 0 142 (dk_at dksX0_keepsAct_2 14 rfl rfl)
theorem dX0_keepsAct_62 : decode cX0_keepsAct 62 = .ok (.dup, 1) := dk_89 (dk_at dksX0_keepsAct_2 17 rfl rfl)
theorem dX0_keepsAct_63 : decode cX0_keepsAct 63 = .ok (.getfield 264, 3) := dk_180 1 8 (dk_at dksX0_keepsAct_2 18 rfl rfl)
theorem dX0_keepsAct_66 : decode cX0_keepsAct 66 = .ok (.iconst 1, 1) := dk_4 (dk_at dksX0_keepsAct_2 21 rfl rfl)
theorem dX0_keepsAct_67 : decode cX0_keepsAct 67 = .ok (.isub, 1) := dk_100 (dk_at dksX0_keepsAct_2 22 rfl rfl)
theorem dX0_keepsAct_68 : decode cX0_keepsAct 68 = .ok (.putfield 264, 3) := dk_181 1 8 (dk_at dksX0_keepsAct_3 0 rfl rfl)
theorem dX0_keepsAct_71 : decode cX0_keepsAct 71 = .ok (.aload_n 0, 1) := dk_42 (dk_at dksX0_keepsAct_3 3 rfl rfl)
theorem dX0_keepsAct_72 : decode cX0_keepsAct 72 = .ok (.getfield 142, 3) := dk_180 0 142 (dk_at dksX0_keepsAct_3 4 rfl rfl)
theorem dX0_keepsAct_75 : decode cX0_keepsAct 75 = .ok (.aload_n 0, 1) := dk_42 (dk_at dksX0_keepsAct_3 7 rfl rfl)
theorem dX0_keepsAct_76 : decode cX0_keepsAct 76 = .ok (.getfield 142, 3) := dk_180 0 142 (dk_at dksX0_keepsAct_3 8 rfl rfl)
theorem dX0_keepsAct_79 : decode cX0_keepsAct 79 = .ok (.getfield 264, 3) := dk_180 1 8 (dk_at dksX0_keepsAct_3 11 rfl rfl)
theorem dX0_keepsAct_82 : decode cX0_keepsAct 82 = .ok (.invokevirtual 279, 3) := dk_182 1 23 (dk_at dksX0_keepsAct_3 14 rfl rfl)
theorem dX0_keepsAct_85 : decode cX0_keepsAct 85 = .ok (.aload_n 0, 1) := dk_42 (dk_at dksX0_keepsAct_3 17 rfl rfl)
theorem dX0_keepsAct_86 : decode cX0_keepsAct 86 = .ok (.getfield 142, 3) := dk_180 0 142 (dk_at dksX0_keepsAct_3 18 rfl rfl)
theorem dX0_keepsAct_89 : decode cX0_keepsAct 89 = .ok (.dup, 1) := dk_89 (dk_at dksX0_keepsAct_3 21 rfl rfl)
theorem dX0_keepsAct_90 : decode cX0_keepsAct 90 = .ok (.getfield 264, 3) := dk_180 1 8 (dk_at dksX0_keepsAct_4 0 rfl rfl)
theorem dX0_keepsAct_93 : decode cX0_keepsAct 93 = .ok (.iconst 1, 1) := dk_4 (dk_at dksX0_keepsAct_4 3 rfl rfl)
theorem dX0_keepsAct_94 : decode cX0_keepsAct 94 = .ok (.iadd, 1) := dk_96 (dk_at dksX0_keepsAct_4 4 rfl rfl)
theorem dX0_keepsAct_95 : decode cX0_keepsAct 95 = .ok (.putfield 264, 3) := dk_181 1 8 (dk_at dksX0_keepsAct_4 5 rfl rfl)
theorem dX0_keepsAct_98 : decode cX0_keepsAct 98 = .ok (.return_, 1) := dk_177 (dk_at dksX0_keepsAct_4 8 rfl rfl)
abbrev cX0_crosses : ByteArray := prog_1_method_37_code
def yX0_crosses : MethodName := ⟨RX0, "crosses", "(LTruthBridge$Gorge;II)I"⟩
def dkwX0_crosses_4 : List UInt8 := [180, 0, 225, 28, 4, 43, 180, 0, 225, 28, 46, 100, 79, 21, 5, 153, 0, 7, 6, 167, 0, 4, 5, 172]
abbrev dktX0_crosses_4 : List UInt8 := dkwX0_crosses_4 ++ []
def dkwX0_crosses_3 : List UInt8 := [161, 0, 7, 4, 167, 0, 4, 3, 54, 5, 42, 43, 16, 6, 29, 182, 1, 28, 21, 5, 153, 0, 17, 43]
abbrev dktX0_crosses_3 : List UInt8 := dkwX0_crosses_3 ++ dktX0_crosses_4
def dkwX0_crosses_2 : List UInt8 := [182, 0, 202, 153, 0, 7, 4, 167, 0, 4, 3, 172, 42, 43, 29, 182, 0, 206, 43, 180, 0, 210, 28, 46]
abbrev dktX0_crosses_2 : List UInt8 := dkwX0_crosses_2 ++ dktX0_crosses_3
def dkwX0_crosses_1 : List UInt8 := [182, 0, 202, 153, 0, 8, 21, 4, 154, 0, 28, 43, 180, 0, 196, 28, 4, 79, 42, 29, 43, 180, 0, 199]
abbrev dktX0_crosses_1 : List UInt8 := dkwX0_crosses_1 ++ dktX0_crosses_2
def dkwX0_crosses_0 : List UInt8 := [42, 43, 16, 6, 29, 182, 0, 212, 154, 0, 7, 4, 167, 0, 4, 3, 54, 4, 42, 29, 43, 180, 0, 199]
abbrev dktX0_crosses_0 : List UInt8 := dkwX0_crosses_0 ++ dktX0_crosses_1
theorem dksX0_crosses_0 : cX0_crosses.data.toList.drop 0 = dktX0_crosses_0 := by decide +kernel
theorem dksX0_crosses_1 : cX0_crosses.data.toList.drop 24 = dktX0_crosses_1 := dk_seg dksX0_crosses_0 24 rfl rfl
theorem dksX0_crosses_2 : cX0_crosses.data.toList.drop 48 = dktX0_crosses_2 := dk_seg dksX0_crosses_1 24 rfl rfl
theorem dksX0_crosses_3 : cX0_crosses.data.toList.drop 72 = dktX0_crosses_3 := dk_seg dksX0_crosses_2 24 rfl rfl
theorem dksX0_crosses_4 : cX0_crosses.data.toList.drop 96 = dktX0_crosses_4 := dk_seg dksX0_crosses_3 24 rfl rfl
theorem dX0_crosses_0 : decode cX0_crosses 0 = .ok (.aload_n 0, 1) := dk_42 (dk_at dksX0_crosses_0 0 rfl rfl)
theorem dX0_crosses_1 : decode cX0_crosses 1 = .ok (.aload_n 1, 1) := dk_43 (dk_at dksX0_crosses_0 1 rfl rfl)
theorem dX0_crosses_2 : decode cX0_crosses 2 = .ok (.bipush 6, 2) := dk_16 6 (dk_at dksX0_crosses_0 2 rfl rfl)
theorem dX0_crosses_4 : decode cX0_crosses 4 = .ok (.iload_n 3, 1) := dk_29 (dk_at dksX0_crosses_0 4 rfl rfl)
theorem dX0_crosses_5 : decode cX0_crosses 5 = .ok (.invokevirtual 212, 3) := dk_182 0 212 (dk_at dksX0_crosses_0 5 rfl rfl)
theorem dX0_crosses_8 : decode cX0_crosses 8 = .ok (.ifCond .ne 7, 3) := dk_154 0 7 (dk_at dksX0_crosses_0 8 rfl rfl)
theorem dX0_crosses_11 : decode cX0_crosses 11 = .ok (.iconst 1, 1) := dk_4 (dk_at dksX0_crosses_0 11 rfl rfl)
theorem dX0_crosses_12 : decode cX0_crosses 12 = .ok (.goto 4, 3) := dk_167 0 4 (dk_at dksX0_crosses_0 12 rfl rfl)
theorem dX0_crosses_15 : decode cX0_crosses 15 = .ok (.iconst 0, 1) := dk_3 (dk_at dksX0_crosses_0 15 rfl rfl)
theorem dX0_crosses_16 : decode cX0_crosses 16 = .ok (.istore 4, 2) := dk_54 4 (dk_at dksX0_crosses_0 16 rfl rfl)
theorem dX0_crosses_18 : decode cX0_crosses 18 = .ok (.aload_n 0, 1) := dk_42 (dk_at dksX0_crosses_0 18 rfl rfl)
theorem dX0_crosses_19 : decode cX0_crosses 19 = .ok (.iload_n 3, 1) := dk_29 (dk_at dksX0_crosses_0 19 rfl rfl)
theorem dX0_crosses_20 : decode cX0_crosses 20 = .ok (.aload_n 1, 1) := dk_43 (dk_at dksX0_crosses_0 20 rfl rfl)
theorem dX0_crosses_21 : decode cX0_crosses 21 = .ok (.getfield 199, 3) := dk_180 0 199 (dk_at dksX0_crosses_0 21 rfl rfl)
theorem dX0_crosses_24 : decode cX0_crosses 24 = .ok (.invokevirtual 202, 3) := dk_182 0 202 (dk_at dksX0_crosses_1 0 rfl rfl)
theorem dX0_crosses_27 : decode cX0_crosses 27 = .ok (.ifCond .eq 8, 3) := dk_153 0 8 (dk_at dksX0_crosses_1 3 rfl rfl)
theorem dX0_crosses_30 : decode cX0_crosses 30 = .ok (.iload 4, 2) := dk_21 4 (dk_at dksX0_crosses_1 6 rfl rfl)
theorem dX0_crosses_32 : decode cX0_crosses 32 = .ok (.ifCond .ne 28, 3) := dk_154 0 28 (dk_at dksX0_crosses_1 8 rfl rfl)
theorem dX0_crosses_35 : decode cX0_crosses 35 = .ok (.aload_n 1, 1) := dk_43 (dk_at dksX0_crosses_1 11 rfl rfl)
theorem dX0_crosses_36 : decode cX0_crosses 36 = .ok (.getfield 196, 3) := dk_180 0 196 (dk_at dksX0_crosses_1 12 rfl rfl)
theorem dX0_crosses_39 : decode cX0_crosses 39 = .ok (.iload_n 2, 1) := dk_28 (dk_at dksX0_crosses_1 15 rfl rfl)
theorem dX0_crosses_40 : decode cX0_crosses 40 = .ok (.iconst 1, 1) := dk_4 (dk_at dksX0_crosses_1 16 rfl rfl)
theorem dX0_crosses_41 : decode cX0_crosses 41 = .ok (.iastore, 1) := dk_79 (dk_at dksX0_crosses_1 17 rfl rfl)
theorem dX0_crosses_42 : decode cX0_crosses 42 = .ok (.aload_n 0, 1) := dk_42 (dk_at dksX0_crosses_1 18 rfl rfl)
theorem dX0_crosses_43 : decode cX0_crosses 43 = .ok (.iload_n 3, 1) := dk_29 (dk_at dksX0_crosses_1 19 rfl rfl)
theorem dX0_crosses_44 : decode cX0_crosses 44 = .ok (.aload_n 1, 1) := dk_43 (dk_at dksX0_crosses_1 20 rfl rfl)
theorem dX0_crosses_45 : decode cX0_crosses 45 = .ok (.getfield 199, 3) := dk_180 0 199 (dk_at dksX0_crosses_1 21 rfl rfl)
theorem dX0_crosses_48 : decode cX0_crosses 48 = .ok (.invokevirtual 202, 3) := dk_182 0 202 (dk_at dksX0_crosses_2 0 rfl rfl)
theorem dX0_crosses_51 : decode cX0_crosses 51 = .ok (.ifCond .eq 7, 3) := dk_153 0 7 (dk_at dksX0_crosses_2 3 rfl rfl)
theorem dX0_crosses_54 : decode cX0_crosses 54 = .ok (.iconst 1, 1) := dk_4 (dk_at dksX0_crosses_2 6 rfl rfl)
theorem dX0_crosses_55 : decode cX0_crosses 55 = .ok (.goto 4, 3) := dk_167 0 4 (dk_at dksX0_crosses_2 7 rfl rfl)
theorem dX0_crosses_58 : decode cX0_crosses 58 = .ok (.iconst 0, 1) := dk_3 (dk_at dksX0_crosses_2 10 rfl rfl)
theorem dX0_crosses_59 : decode cX0_crosses 59 = .ok (.ireturn, 1) := dk_172 (dk_at dksX0_crosses_2 11 rfl rfl)
theorem dX0_crosses_60 : decode cX0_crosses 60 = .ok (.aload_n 0, 1) := dk_42 (dk_at dksX0_crosses_2 12 rfl rfl)
theorem dX0_crosses_61 : decode cX0_crosses 61 = .ok (.aload_n 1, 1) := dk_43 (dk_at dksX0_crosses_2 13 rfl rfl)
theorem dX0_crosses_62 : decode cX0_crosses 62 = .ok (.iload_n 3, 1) := dk_29 (dk_at dksX0_crosses_2 14 rfl rfl)
theorem dX0_crosses_63 : decode cX0_crosses 63 = .ok (.invokevirtual 206, 3) := dk_182 0 206 (dk_at dksX0_crosses_2 15 rfl rfl)
theorem dX0_crosses_66 : decode cX0_crosses 66 = .ok (.aload_n 1, 1) := dk_43 (dk_at dksX0_crosses_2 18 rfl rfl)
theorem dX0_crosses_67 : decode cX0_crosses 67 = .ok (.getfield 210, 3) := dk_180 0 210 (dk_at dksX0_crosses_2 19 rfl rfl)
theorem dX0_crosses_70 : decode cX0_crosses 70 = .ok (.iload_n 2, 1) := dk_28 (dk_at dksX0_crosses_2 22 rfl rfl)
theorem dX0_crosses_71 : decode cX0_crosses 71 = .ok (.iaload, 1) := dk_46 (dk_at dksX0_crosses_2 23 rfl rfl)
theorem dX0_crosses_72 : decode cX0_crosses 72 = .ok (.if_icmp .lt 7, 3) := dk_161 0 7 (dk_at dksX0_crosses_3 0 rfl rfl)
theorem dX0_crosses_75 : decode cX0_crosses 75 = .ok (.iconst 1, 1) := dk_4 (dk_at dksX0_crosses_3 3 rfl rfl)
theorem dX0_crosses_76 : decode cX0_crosses 76 = .ok (.goto 4, 3) := dk_167 0 4 (dk_at dksX0_crosses_3 4 rfl rfl)
theorem dX0_crosses_79 : decode cX0_crosses 79 = .ok (.iconst 0, 1) := dk_3 (dk_at dksX0_crosses_3 7 rfl rfl)
theorem dX0_crosses_80 : decode cX0_crosses 80 = .ok (.istore 5, 2) := dk_54 5 (dk_at dksX0_crosses_3 8 rfl rfl)
theorem dX0_crosses_82 : decode cX0_crosses 82 = .ok (.aload_n 0, 1) := dk_42 (dk_at dksX0_crosses_3 10 rfl rfl)
theorem dX0_crosses_83 : decode cX0_crosses 83 = .ok (.aload_n 1, 1) := dk_43 (dk_at dksX0_crosses_3 11 rfl rfl)
theorem dX0_crosses_84 : decode cX0_crosses 84 = .ok (.bipush 6, 2) := dk_16 6 (dk_at dksX0_crosses_3 12 rfl rfl)
theorem dX0_crosses_86 : decode cX0_crosses 86 = .ok (.iload_n 3, 1) := dk_29 (dk_at dksX0_crosses_3 14 rfl rfl)
theorem dX0_crosses_87 : decode cX0_crosses 87 = .ok (.invokevirtual 284, 3) := dk_182 1 28 (dk_at dksX0_crosses_3 15 rfl rfl)
theorem dX0_crosses_90 : decode cX0_crosses 90 = .ok (.iload 5, 2) := dk_21 5 (dk_at dksX0_crosses_3 18 rfl rfl)
theorem dX0_crosses_92 : decode cX0_crosses 92 = .ok (.ifCond .eq 17, 3) := dk_153 0 17 (dk_at dksX0_crosses_3 20 rfl rfl)
theorem dX0_crosses_95 : decode cX0_crosses 95 = .ok (.aload_n 1, 1) := dk_43 (dk_at dksX0_crosses_3 23 rfl rfl)
theorem dX0_crosses_96 : decode cX0_crosses 96 = .ok (.getfield 225, 3) := dk_180 0 225 (dk_at dksX0_crosses_4 0 rfl rfl)
theorem dX0_crosses_99 : decode cX0_crosses 99 = .ok (.iload_n 2, 1) := dk_28 (dk_at dksX0_crosses_4 3 rfl rfl)
theorem dX0_crosses_100 : decode cX0_crosses 100 = .ok (.iconst 1, 1) := dk_4 (dk_at dksX0_crosses_4 4 rfl rfl)
theorem dX0_crosses_101 : decode cX0_crosses 101 = .ok (.aload_n 1, 1) := dk_43 (dk_at dksX0_crosses_4 5 rfl rfl)
theorem dX0_crosses_102 : decode cX0_crosses 102 = .ok (.getfield 225, 3) := dk_180 0 225 (dk_at dksX0_crosses_4 6 rfl rfl)
theorem dX0_crosses_105 : decode cX0_crosses 105 = .ok (.iload_n 2, 1) := dk_28 (dk_at dksX0_crosses_4 9 rfl rfl)
theorem dX0_crosses_106 : decode cX0_crosses 106 = .ok (.iaload, 1) := dk_46 (dk_at dksX0_crosses_4 10 rfl rfl)
theorem dX0_crosses_107 : decode cX0_crosses 107 = .ok (.isub, 1) := dk_100 (dk_at dksX0_crosses_4 11 rfl rfl)
theorem dX0_crosses_108 : decode cX0_crosses 108 = .ok (.iastore, 1) := dk_79 (dk_at dksX0_crosses_4 12 rfl rfl)
theorem dX0_crosses_109 : decode cX0_crosses 109 = .ok (.iload 5, 2) := dk_21 5 (dk_at dksX0_crosses_4 13 rfl rfl)
theorem dX0_crosses_111 : decode cX0_crosses 111 = .ok (.ifCond .eq 7, 3) := dk_153 0 7 (dk_at dksX0_crosses_4 15 rfl rfl)
theorem dX0_crosses_114 : decode cX0_crosses 114 = .ok (.iconst 3, 1) := dk_6 (dk_at dksX0_crosses_4 18 rfl rfl)
theorem dX0_crosses_115 : decode cX0_crosses 115 = .ok (.goto 4, 3) := dk_167 0 4 (dk_at dksX0_crosses_4 19 rfl rfl)
theorem dX0_crosses_118 : decode cX0_crosses 118 = .ok (.iconst 2, 1) := dk_5 (dk_at dksX0_crosses_4 22 rfl rfl)
theorem dX0_crosses_119 : decode cX0_crosses 119 = .ok (.ireturn, 1) := dk_172 (dk_at dksX0_crosses_4 23 rfl rfl)
abbrev cX0_isTold : ByteArray := prog_1_method_20_code
def yX0_isTold : MethodName := ⟨RX0, "isTold", "(LTruthBridge$Gorge;II)V"⟩
def dkwX0_isTold_1 : List UInt8 := [180, 0, 9, 7, 29, 104, 21, 4, 96, 47, 127, 80, 132, 4, 1, 167, 255, 222, 177]
abbrev dktX0_isTold_1 : List UInt8 := dkwX0_isTold_1 ++ []
def dkwX0_isTold_0 : List UInt8 := [3, 54, 4, 21, 4, 7, 162, 0, 34, 43, 180, 0, 185, 7, 28, 104, 21, 4, 96, 92, 47, 42]
abbrev dktX0_isTold_0 : List UInt8 := dkwX0_isTold_0 ++ dktX0_isTold_1
theorem dksX0_isTold_0 : cX0_isTold.data.toList.drop 0 = dktX0_isTold_0 := by decide +kernel
theorem dksX0_isTold_1 : cX0_isTold.data.toList.drop 22 = dktX0_isTold_1 := dk_seg dksX0_isTold_0 22 rfl rfl
theorem dX0_isTold_0 : decode cX0_isTold 0 = .ok (.iconst 0, 1) := dk_3 (dk_at dksX0_isTold_0 0 rfl rfl)
theorem dX0_isTold_1 : decode cX0_isTold 1 = .ok (.istore 4, 2) := dk_54 4 (dk_at dksX0_isTold_0 1 rfl rfl)
theorem dX0_isTold_3 : decode cX0_isTold 3 = .ok (.iload 4, 2) := dk_21 4 (dk_at dksX0_isTold_0 3 rfl rfl)
theorem dX0_isTold_5 : decode cX0_isTold 5 = .ok (.iconst 4, 1) := dk_7 (dk_at dksX0_isTold_0 5 rfl rfl)
theorem dX0_isTold_6 : decode cX0_isTold 6 = .ok (.if_icmp .ge 34, 3) := dk_162 0 34 (dk_at dksX0_isTold_0 6 rfl rfl)
theorem dX0_isTold_9 : decode cX0_isTold 9 = .ok (.aload_n 1, 1) := dk_43 (dk_at dksX0_isTold_0 9 rfl rfl)
theorem dX0_isTold_10 : decode cX0_isTold 10 = .ok (.getfield 185, 3) := dk_180 0 185 (dk_at dksX0_isTold_0 10 rfl rfl)
theorem dX0_isTold_13 : decode cX0_isTold 13 = .ok (.iconst 4, 1) := dk_7 (dk_at dksX0_isTold_0 13 rfl rfl)
theorem dX0_isTold_14 : decode cX0_isTold 14 = .ok (.iload_n 2, 1) := dk_28 (dk_at dksX0_isTold_0 14 rfl rfl)
theorem dX0_isTold_15 : decode cX0_isTold 15 = .ok (.imul, 1) := dk_104 (dk_at dksX0_isTold_0 15 rfl rfl)
theorem dX0_isTold_16 : decode cX0_isTold 16 = .ok (.iload 4, 2) := dk_21 4 (dk_at dksX0_isTold_0 16 rfl rfl)
theorem dX0_isTold_18 : decode cX0_isTold 18 = .ok (.iadd, 1) := dk_96 (dk_at dksX0_isTold_0 18 rfl rfl)
theorem dX0_isTold_19 : decode cX0_isTold 19 = .ok (.dup2, 1) := dk_92 (dk_at dksX0_isTold_0 19 rfl rfl)
theorem dX0_isTold_20 : decode cX0_isTold 20 = .ok (.laload, 1) := dk_47 (dk_at dksX0_isTold_0 20 rfl rfl)
theorem dX0_isTold_21 : decode cX0_isTold 21 = .ok (.aload_n 0, 1) := dk_42 (dk_at dksX0_isTold_0 21 rfl rfl)
theorem dX0_isTold_22 : decode cX0_isTold 22 = .ok (.getfield 9, 3) := dk_180 0 9 (dk_at dksX0_isTold_1 0 rfl rfl)
theorem dX0_isTold_25 : decode cX0_isTold 25 = .ok (.iconst 4, 1) := dk_7 (dk_at dksX0_isTold_1 3 rfl rfl)
theorem dX0_isTold_26 : decode cX0_isTold 26 = .ok (.iload_n 3, 1) := dk_29 (dk_at dksX0_isTold_1 4 rfl rfl)
theorem dX0_isTold_27 : decode cX0_isTold 27 = .ok (.imul, 1) := dk_104 (dk_at dksX0_isTold_1 5 rfl rfl)
theorem dX0_isTold_28 : decode cX0_isTold 28 = .ok (.iload 4, 2) := dk_21 4 (dk_at dksX0_isTold_1 6 rfl rfl)
theorem dX0_isTold_30 : decode cX0_isTold 30 = .ok (.iadd, 1) := dk_96 (dk_at dksX0_isTold_1 8 rfl rfl)
theorem dX0_isTold_31 : decode cX0_isTold 31 = .ok (.laload, 1) := dk_47 (dk_at dksX0_isTold_1 9 rfl rfl)
theorem dX0_isTold_32 : decode cX0_isTold 32 = .ok (.land, 1) := dk_127 (dk_at dksX0_isTold_1 10 rfl rfl)
theorem dX0_isTold_33 : decode cX0_isTold 33 = .ok (.lastore, 1) := dk_80 (dk_at dksX0_isTold_1 11 rfl rfl)
theorem dX0_isTold_34 : decode cX0_isTold 34 = .ok (.iinc 4 1, 3) := dk_132 4 1 (dk_at dksX0_isTold_1 12 rfl rfl)
theorem dX0_isTold_37 : decode cX0_isTold 37 = .ok (.goto (-34), 3) := dk_167 255 222 (dk_at dksX0_isTold_1 15 rfl rfl)
theorem dX0_isTold_40 : decode cX0_isTold 40 = .ok (.return_, 1) := dk_177 (dk_at dksX0_isTold_1 18 rfl rfl)
abbrev cX0_tell : ByteArray := prog_1_method_39_code
def yX0_tell : MethodName := ⟨RX0, "tell", "(III)I"⟩
def dkwX0_tell_4 : List UInt8 := [42, 182, 1, 32, 42, 42, 180, 0, 142, 28, 29, 182, 1, 28, 42, 180, 0, 142, 28, 182, 0, 233, 172]
abbrev dktX0_tell_4 : List UInt8 := dkwX0_tell_4 ++ []
def dkwX0_tell_3 : List UInt8 := [180, 0, 196, 28, 46, 4, 159, 0, 16, 42, 42, 180, 0, 142, 27, 29, 182, 0, 212, 154, 0, 5, 2, 172]
abbrev dktX0_tell_3 : List UInt8 := dkwX0_tell_3 ++ dktX0_tell_4
def dkwX0_tell_2 : List UInt8 := [159, 0, 5, 2, 172, 42, 180, 0, 142, 180, 0, 196, 27, 46, 4, 159, 0, 29, 42, 180, 0, 142]
abbrev dktX0_tell_2 : List UInt8 := dkwX0_tell_2 ++ dktX0_tell_3
def dkwX0_tell_1 : List UInt8 := [182, 0, 176, 153, 0, 24, 42, 180, 0, 142, 180, 0, 225, 27, 46, 42, 180, 0, 142, 180, 0, 225, 28, 46]
abbrev dktX0_tell_1 : List UInt8 := dkwX0_tell_1 ++ dktX0_tell_2
def dkwX0_tell_0 : List UInt8 := [42, 27, 182, 0, 222, 153, 0, 45, 42, 28, 182, 0, 222, 153, 0, 37, 27, 28, 159, 0, 32, 42, 29]
abbrev dktX0_tell_0 : List UInt8 := dkwX0_tell_0 ++ dktX0_tell_1
theorem dksX0_tell_0 : cX0_tell.data.toList.drop 0 = dktX0_tell_0 := by decide +kernel
theorem dksX0_tell_1 : cX0_tell.data.toList.drop 23 = dktX0_tell_1 := dk_seg dksX0_tell_0 23 rfl rfl
theorem dksX0_tell_2 : cX0_tell.data.toList.drop 47 = dktX0_tell_2 := dk_seg dksX0_tell_1 24 rfl rfl
theorem dksX0_tell_3 : cX0_tell.data.toList.drop 69 = dktX0_tell_3 := dk_seg dksX0_tell_2 22 rfl rfl
theorem dksX0_tell_4 : cX0_tell.data.toList.drop 93 = dktX0_tell_4 := dk_seg dksX0_tell_3 24 rfl rfl
theorem dX0_tell_0 : decode cX0_tell 0 = .ok (.aload_n 0, 1) := dk_42 (dk_at dksX0_tell_0 0 rfl rfl)
theorem dX0_tell_1 : decode cX0_tell 1 = .ok (.iload_n 1, 1) := dk_27 (dk_at dksX0_tell_0 1 rfl rfl)
theorem dX0_tell_2 : decode cX0_tell 2 = .ok (.invokevirtual 222, 3) := dk_182 0 222 (dk_at dksX0_tell_0 2 rfl rfl)
theorem dX0_tell_5 : decode cX0_tell 5 = .ok (.ifCond .eq 45, 3) := dk_153 0 45 (dk_at dksX0_tell_0 5 rfl rfl)
theorem dX0_tell_8 : decode cX0_tell 8 = .ok (.aload_n 0, 1) := dk_42 (dk_at dksX0_tell_0 8 rfl rfl)
theorem dX0_tell_9 : decode cX0_tell 9 = .ok (.iload_n 2, 1) := dk_28 (dk_at dksX0_tell_0 9 rfl rfl)
theorem dX0_tell_10 : decode cX0_tell 10 = .ok (.invokevirtual 222, 3) := dk_182 0 222 (dk_at dksX0_tell_0 10 rfl rfl)
theorem dX0_tell_13 : decode cX0_tell 13 = .ok (.ifCond .eq 37, 3) := dk_153 0 37 (dk_at dksX0_tell_0 13 rfl rfl)
theorem dX0_tell_16 : decode cX0_tell 16 = .ok (.iload_n 1, 1) := dk_27 (dk_at dksX0_tell_0 16 rfl rfl)
theorem dX0_tell_17 : decode cX0_tell 17 = .ok (.iload_n 2, 1) := dk_28 (dk_at dksX0_tell_0 17 rfl rfl)
theorem dX0_tell_18 : decode cX0_tell 18 = .ok (.if_icmp .eq 32, 3) := dk_159 0 32 (dk_at dksX0_tell_0 18 rfl rfl)
theorem dX0_tell_21 : decode cX0_tell 21 = .ok (.aload_n 0, 1) := dk_42 (dk_at dksX0_tell_0 21 rfl rfl)
theorem dX0_tell_22 : decode cX0_tell 22 = .ok (.iload_n 3, 1) := dk_29 (dk_at dksX0_tell_0 22 rfl rfl)
theorem dX0_tell_23 : decode cX0_tell 23 = .ok (.invokevirtual 176, 3) := dk_182 0 176 (dk_at dksX0_tell_1 0 rfl rfl)
theorem dX0_tell_26 : decode cX0_tell 26 = .ok (.ifCond .eq 24, 3) := dk_153 0 24 (dk_at dksX0_tell_1 3 rfl rfl)
theorem dX0_tell_29 : decode cX0_tell 29 = .ok (.aload_n 0, 1) := dk_42 (dk_at dksX0_tell_1 6 rfl rfl)
theorem dX0_tell_30 : decode cX0_tell 30 = .ok (.getfield 142, 3) := dk_180 0 142 (dk_at dksX0_tell_1 7 rfl rfl)
theorem dX0_tell_33 : decode cX0_tell 33 = .ok (.getfield 225, 3) := dk_180 0 225 (dk_at dksX0_tell_1 10 rfl rfl)
theorem dX0_tell_36 : decode cX0_tell 36 = .ok (.iload_n 1, 1) := dk_27 (dk_at dksX0_tell_1 13 rfl rfl)
theorem dX0_tell_37 : decode cX0_tell 37 = .ok (.iaload, 1) := dk_46 (dk_at dksX0_tell_1 14 rfl rfl)
theorem dX0_tell_38 : decode cX0_tell 38 = .ok (.aload_n 0, 1) := dk_42 (dk_at dksX0_tell_1 15 rfl rfl)
theorem dX0_tell_39 : decode cX0_tell 39 = .ok (.getfield 142, 3) := dk_180 0 142 (dk_at dksX0_tell_1 16 rfl rfl)
theorem dX0_tell_42 : decode cX0_tell 42 = .ok (.getfield 225, 3) := dk_180 0 225 (dk_at dksX0_tell_1 19 rfl rfl)
theorem dX0_tell_45 : decode cX0_tell 45 = .ok (.iload_n 2, 1) := dk_28 (dk_at dksX0_tell_1 22 rfl rfl)
theorem dX0_tell_46 : decode cX0_tell 46 = .ok (.iaload, 1) := dk_46 (dk_at dksX0_tell_1 23 rfl rfl)
theorem dX0_tell_47 : decode cX0_tell 47 = .ok (.if_icmp .eq 5, 3) := dk_159 0 5 (dk_at dksX0_tell_2 0 rfl rfl)
theorem dX0_tell_50 : decode cX0_tell 50 = .ok (.iconst (-1), 1) := dk_2 (dk_at dksX0_tell_2 3 rfl rfl)
theorem dX0_tell_51 : decode cX0_tell 51 = .ok (.ireturn, 1) := dk_172 (dk_at dksX0_tell_2 4 rfl rfl)
theorem dX0_tell_52 : decode cX0_tell 52 = .ok (.aload_n 0, 1) := dk_42 (dk_at dksX0_tell_2 5 rfl rfl)
theorem dX0_tell_53 : decode cX0_tell 53 = .ok (.getfield 142, 3) := dk_180 0 142 (dk_at dksX0_tell_2 6 rfl rfl)
theorem dX0_tell_56 : decode cX0_tell 56 = .ok (.getfield 196, 3) := dk_180 0 196 (dk_at dksX0_tell_2 9 rfl rfl)
theorem dX0_tell_59 : decode cX0_tell 59 = .ok (.iload_n 1, 1) := dk_27 (dk_at dksX0_tell_2 12 rfl rfl)
theorem dX0_tell_60 : decode cX0_tell 60 = .ok (.iaload, 1) := dk_46 (dk_at dksX0_tell_2 13 rfl rfl)
theorem dX0_tell_61 : decode cX0_tell 61 = .ok (.iconst 1, 1) := dk_4 (dk_at dksX0_tell_2 14 rfl rfl)
theorem dX0_tell_62 : decode cX0_tell 62 = .ok (.if_icmp .eq 29, 3) := dk_159 0 29 (dk_at dksX0_tell_2 15 rfl rfl)
theorem dX0_tell_65 : decode cX0_tell 65 = .ok (.aload_n 0, 1) := dk_42 (dk_at dksX0_tell_2 18 rfl rfl)
theorem dX0_tell_66 : decode cX0_tell 66 = .ok (.getfield 142, 3) := dk_180 0 142 (dk_at dksX0_tell_2 19 rfl rfl)
theorem dX0_tell_69 : decode cX0_tell 69 = .ok (.getfield 196, 3) := dk_180 0 196 (dk_at dksX0_tell_3 0 rfl rfl)
theorem dX0_tell_72 : decode cX0_tell 72 = .ok (.iload_n 2, 1) := dk_28 (dk_at dksX0_tell_3 3 rfl rfl)
theorem dX0_tell_73 : decode cX0_tell 73 = .ok (.iaload, 1) := dk_46 (dk_at dksX0_tell_3 4 rfl rfl)
theorem dX0_tell_74 : decode cX0_tell 74 = .ok (.iconst 1, 1) := dk_4 (dk_at dksX0_tell_3 5 rfl rfl)
theorem dX0_tell_75 : decode cX0_tell 75 = .ok (.if_icmp .eq 16, 3) := dk_159 0 16 (dk_at dksX0_tell_3 6 rfl rfl)
theorem dX0_tell_78 : decode cX0_tell 78 = .ok (.aload_n 0, 1) := dk_42 (dk_at dksX0_tell_3 9 rfl rfl)
theorem dX0_tell_79 : decode cX0_tell 79 = .ok (.aload_n 0, 1) := dk_42 (dk_at dksX0_tell_3 10 rfl rfl)
theorem dX0_tell_80 : decode cX0_tell 80 = .ok (.getfield 142, 3) := dk_180 0 142 (dk_at dksX0_tell_3 11 rfl rfl)
theorem dX0_tell_83 : decode cX0_tell 83 = .ok (.iload_n 1, 1) := dk_27 (dk_at dksX0_tell_3 14 rfl rfl)
theorem dX0_tell_84 : decode cX0_tell 84 = .ok (.iload_n 3, 1) := dk_29 (dk_at dksX0_tell_3 15 rfl rfl)
theorem dX0_tell_85 : decode cX0_tell 85 = .ok (.invokevirtual 212, 3) := dk_182 0 212 (dk_at dksX0_tell_3 16 rfl rfl)
theorem dX0_tell_88 : decode cX0_tell 88 = .ok (.ifCond .ne 5, 3) := dk_154 0 5 (dk_at dksX0_tell_3 19 rfl rfl)
theorem dX0_tell_91 : decode cX0_tell 91 = .ok (.iconst (-1), 1) := dk_2 (dk_at dksX0_tell_3 22 rfl rfl)
theorem dX0_tell_92 : decode cX0_tell 92 = .ok (.ireturn, 1) := dk_172 (dk_at dksX0_tell_3 23 rfl rfl)
theorem dX0_tell_93 : decode cX0_tell 93 = .ok (.aload_n 0, 1) := dk_42 (dk_at dksX0_tell_4 0 rfl rfl)
theorem dX0_tell_94 : decode cX0_tell 94 = .ok (.invokevirtual 288, 3) := dk_182 1 32 (dk_at dksX0_tell_4 1 rfl rfl)
theorem dX0_tell_97 : decode cX0_tell 97 = .ok (.aload_n 0, 1) := dk_42 (dk_at dksX0_tell_4 4 rfl rfl)
theorem dX0_tell_98 : decode cX0_tell 98 = .ok (.aload_n 0, 1) := dk_42 (dk_at dksX0_tell_4 5 rfl rfl)
theorem dX0_tell_99 : decode cX0_tell 99 = .ok (.getfield 142, 3) := dk_180 0 142 (dk_at dksX0_tell_4 6 rfl rfl)
theorem dX0_tell_102 : decode cX0_tell 102 = .ok (.iload_n 2, 1) := dk_28 (dk_at dksX0_tell_4 9 rfl rfl)
theorem dX0_tell_103 : decode cX0_tell 103 = .ok (.iload_n 3, 1) := dk_29 (dk_at dksX0_tell_4 10 rfl rfl)
theorem dX0_tell_104 : decode cX0_tell 104 = .ok (.invokevirtual 284, 3) := dk_182 1 28 (dk_at dksX0_tell_4 11 rfl rfl)
theorem dX0_tell_107 : decode cX0_tell 107 = .ok (.aload_n 0, 1) := dk_42 (dk_at dksX0_tell_4 14 rfl rfl)
theorem dX0_tell_108 : decode cX0_tell 108 = .ok (.getfield 142, 3) := dk_180 0 142 (dk_at dksX0_tell_4 15 rfl rfl)
theorem dX0_tell_111 : decode cX0_tell 111 = .ok (.iload_n 2, 1) := dk_28 (dk_at dksX0_tell_4 18 rfl rfl)
theorem dX0_tell_112 : decode cX0_tell 112 = .ok (.invokevirtual 233, 3) := dk_182 0 233 (dk_at dksX0_tell_4 19 rfl rfl)
theorem dX0_tell_115 : decode cX0_tell 115 = .ok (.ireturn, 1) := dk_172 (dk_at dksX0_tell_4 22 rfl rfl)
abbrev cX0_look : ByteArray := prog_1_method_40_code
def yX0_look : MethodName := ⟨RX0, "look", "(II)I"⟩
def dkwX0_look_5 : List UInt8 := [153, 0, 7, 4, 167, 0, 4, 3, 172]
abbrev dktX0_look_5 : List UInt8 := dkwX0_look_5 ++ []
def dkwX0_look_4 : List UInt8 := [28, 46, 182, 1, 39, 42, 180, 0, 142, 180, 0, 199, 42, 180, 0, 142, 180, 0, 249, 28, 46, 184, 0, 243]
abbrev dktX0_look_4 : List UInt8 := dkwX0_look_4 ++ dktX0_look_5
def dkwX0_look_3 : List UInt8 := [42, 180, 0, 142, 180, 0, 252, 28, 46, 104, 96, 79, 42, 180, 0, 142, 27, 42, 180, 0, 142, 180, 0, 249]
abbrev dktX0_look_3 : List UInt8 := dkwX0_look_3 ++ dktX0_look_4
def dkwX0_look_2 : List UInt8 := [104, 96, 16, 24, 164, 0, 5, 2, 172, 42, 182, 1, 32, 42, 180, 0, 142, 180, 0, 230, 27, 92, 46, 5]
abbrev dktX0_look_2 : List UInt8 := dkwX0_look_2 ++ dktX0_look_3
def dkwX0_look_1 : List UInt8 := [46, 4, 159, 0, 29, 42, 180, 0, 142, 180, 0, 230, 27, 46, 5, 42, 180, 0, 142, 180, 0, 252, 28, 46]
abbrev dktX0_look_1 : List UInt8 := dkwX0_look_1 ++ dktX0_look_2
def dkwX0_look_0 : List UInt8 := [42, 27, 182, 0, 222, 153, 0, 50, 42, 28, 182, 0, 246, 153, 0, 42, 42, 180, 0, 142, 180, 0, 196, 27]
abbrev dktX0_look_0 : List UInt8 := dkwX0_look_0 ++ dktX0_look_1
theorem dksX0_look_0 : cX0_look.data.toList.drop 0 = dktX0_look_0 := by decide +kernel
theorem dksX0_look_1 : cX0_look.data.toList.drop 24 = dktX0_look_1 := dk_seg dksX0_look_0 24 rfl rfl
theorem dksX0_look_2 : cX0_look.data.toList.drop 48 = dktX0_look_2 := dk_seg dksX0_look_1 24 rfl rfl
theorem dksX0_look_3 : cX0_look.data.toList.drop 72 = dktX0_look_3 := dk_seg dksX0_look_2 24 rfl rfl
theorem dksX0_look_4 : cX0_look.data.toList.drop 96 = dktX0_look_4 := dk_seg dksX0_look_3 24 rfl rfl
theorem dksX0_look_5 : cX0_look.data.toList.drop 120 = dktX0_look_5 := dk_seg dksX0_look_4 24 rfl rfl
theorem dX0_look_0 : decode cX0_look 0 = .ok (.aload_n 0, 1) := dk_42 (dk_at dksX0_look_0 0 rfl rfl)
theorem dX0_look_1 : decode cX0_look 1 = .ok (.iload_n 1, 1) := dk_27 (dk_at dksX0_look_0 1 rfl rfl)
theorem dX0_look_2 : decode cX0_look 2 = .ok (.invokevirtual 222, 3) := dk_182 0 222 (dk_at dksX0_look_0 2 rfl rfl)
theorem dX0_look_5 : decode cX0_look 5 = .ok (.ifCond .eq 50, 3) := dk_153 0 50 (dk_at dksX0_look_0 5 rfl rfl)
theorem dX0_look_8 : decode cX0_look 8 = .ok (.aload_n 0, 1) := dk_42 (dk_at dksX0_look_0 8 rfl rfl)
theorem dX0_look_9 : decode cX0_look 9 = .ok (.iload_n 2, 1) := dk_28 (dk_at dksX0_look_0 9 rfl rfl)
theorem dX0_look_10 : decode cX0_look 10 = .ok (.invokevirtual 246, 3) := dk_182 0 246 (dk_at dksX0_look_0 10 rfl rfl)
theorem dX0_look_13 : decode cX0_look 13 = .ok (.ifCond .eq 42, 3) := dk_153 0 42 (dk_at dksX0_look_0 13 rfl rfl)
theorem dX0_look_16 : decode cX0_look 16 = .ok (.aload_n 0, 1) := dk_42 (dk_at dksX0_look_0 16 rfl rfl)
theorem dX0_look_17 : decode cX0_look 17 = .ok (.getfield 142, 3) := dk_180 0 142 (dk_at dksX0_look_0 17 rfl rfl)
theorem dX0_look_20 : decode cX0_look 20 = .ok (.getfield 196, 3) := dk_180 0 196 (dk_at dksX0_look_0 20 rfl rfl)
theorem dX0_look_23 : decode cX0_look 23 = .ok (.iload_n 1, 1) := dk_27 (dk_at dksX0_look_0 23 rfl rfl)
theorem dX0_look_24 : decode cX0_look 24 = .ok (.iaload, 1) := dk_46 (dk_at dksX0_look_1 0 rfl rfl)
theorem dX0_look_25 : decode cX0_look 25 = .ok (.iconst 1, 1) := dk_4 (dk_at dksX0_look_1 1 rfl rfl)
theorem dX0_look_26 : decode cX0_look 26 = .ok (.if_icmp .eq 29, 3) := dk_159 0 29 (dk_at dksX0_look_1 2 rfl rfl)
theorem dX0_look_29 : decode cX0_look 29 = .ok (.aload_n 0, 1) := dk_42 (dk_at dksX0_look_1 5 rfl rfl)
theorem dX0_look_30 : decode cX0_look 30 = .ok (.getfield 142, 3) := dk_180 0 142 (dk_at dksX0_look_1 6 rfl rfl)
theorem dX0_look_33 : decode cX0_look 33 = .ok (.getfield 230, 3) := dk_180 0 230 (dk_at dksX0_look_1 9 rfl rfl)
theorem dX0_look_36 : decode cX0_look 36 = .ok (.iload_n 1, 1) := dk_27 (dk_at dksX0_look_1 12 rfl rfl)
theorem dX0_look_37 : decode cX0_look 37 = .ok (.iaload, 1) := dk_46 (dk_at dksX0_look_1 13 rfl rfl)
theorem dX0_look_38 : decode cX0_look 38 = .ok (.iconst 2, 1) := dk_5 (dk_at dksX0_look_1 14 rfl rfl)
theorem dX0_look_39 : decode cX0_look 39 = .ok (.aload_n 0, 1) := dk_42 (dk_at dksX0_look_1 15 rfl rfl)
theorem dX0_look_40 : decode cX0_look 40 = .ok (.getfield 142, 3) := dk_180 0 142 (dk_at dksX0_look_1 16 rfl rfl)
theorem dX0_look_43 : decode cX0_look 43 = .ok (.getfield 252, 3) := dk_180 0 252 (dk_at dksX0_look_1 19 rfl rfl)
theorem dX0_look_46 : decode cX0_look 46 = .ok (.iload_n 2, 1) := dk_28 (dk_at dksX0_look_1 22 rfl rfl)
theorem dX0_look_47 : decode cX0_look 47 = .ok (.iaload, 1) := dk_46 (dk_at dksX0_look_1 23 rfl rfl)
theorem dX0_look_48 : decode cX0_look 48 = .ok (.imul, 1) := dk_104 (dk_at dksX0_look_2 0 rfl rfl)
theorem dX0_look_49 : decode cX0_look 49 = .ok (.iadd, 1) := dk_96 (dk_at dksX0_look_2 1 rfl rfl)
theorem dX0_look_50 : decode cX0_look 50 = .ok (.bipush 24, 2) := dk_16 24 (dk_at dksX0_look_2 2 rfl rfl)
theorem dX0_look_52 : decode cX0_look 52 = .ok (.if_icmp .le 5, 3) := dk_164 0 5 (dk_at dksX0_look_2 4 rfl rfl)
theorem dX0_look_55 : decode cX0_look 55 = .ok (.iconst (-1), 1) := dk_2 (dk_at dksX0_look_2 7 rfl rfl)
theorem dX0_look_56 : decode cX0_look 56 = .ok (.ireturn, 1) := dk_172 (dk_at dksX0_look_2 8 rfl rfl)
theorem dX0_look_57 : decode cX0_look 57 = .ok (.aload_n 0, 1) := dk_42 (dk_at dksX0_look_2 9 rfl rfl)
theorem dX0_look_58 : decode cX0_look 58 = .ok (.invokevirtual 288, 3) := dk_182 1 32 (dk_at dksX0_look_2 10 rfl rfl)
theorem dX0_look_61 : decode cX0_look 61 = .ok (.aload_n 0, 1) := dk_42 (dk_at dksX0_look_2 13 rfl rfl)
theorem dX0_look_62 : decode cX0_look 62 = .ok (.getfield 142, 3) := dk_180 0 142 (dk_at dksX0_look_2 14 rfl rfl)
theorem dX0_look_65 : decode cX0_look 65 = .ok (.getfield 230, 3) := dk_180 0 230 (dk_at dksX0_look_2 17 rfl rfl)
theorem dX0_look_68 : decode cX0_look 68 = .ok (.iload_n 1, 1) := dk_27 (dk_at dksX0_look_2 20 rfl rfl)
theorem dX0_look_69 : decode cX0_look 69 = .ok (.dup2, 1) := dk_92 (dk_at dksX0_look_2 21 rfl rfl)
theorem dX0_look_70 : decode cX0_look 70 = .ok (.iaload, 1) := dk_46 (dk_at dksX0_look_2 22 rfl rfl)
theorem dX0_look_71 : decode cX0_look 71 = .ok (.iconst 2, 1) := dk_5 (dk_at dksX0_look_2 23 rfl rfl)
theorem dX0_look_72 : decode cX0_look 72 = .ok (.aload_n 0, 1) := dk_42 (dk_at dksX0_look_3 0 rfl rfl)
theorem dX0_look_73 : decode cX0_look 73 = .ok (.getfield 142, 3) := dk_180 0 142 (dk_at dksX0_look_3 1 rfl rfl)
theorem dX0_look_76 : decode cX0_look 76 = .ok (.getfield 252, 3) := dk_180 0 252 (dk_at dksX0_look_3 4 rfl rfl)
theorem dX0_look_79 : decode cX0_look 79 = .ok (.iload_n 2, 1) := dk_28 (dk_at dksX0_look_3 7 rfl rfl)
theorem dX0_look_80 : decode cX0_look 80 = .ok (.iaload, 1) := dk_46 (dk_at dksX0_look_3 8 rfl rfl)
theorem dX0_look_81 : decode cX0_look 81 = .ok (.imul, 1) := dk_104 (dk_at dksX0_look_3 9 rfl rfl)
theorem dX0_look_82 : decode cX0_look 82 = .ok (.iadd, 1) := dk_96 (dk_at dksX0_look_3 10 rfl rfl)
theorem dX0_look_83 : decode cX0_look 83 = .ok (.iastore, 1) := dk_79 (dk_at dksX0_look_3 11 rfl rfl)
theorem dX0_look_84 : decode cX0_look 84 = .ok (.aload_n 0, 1) := dk_42 (dk_at dksX0_look_3 12 rfl rfl)
theorem dX0_look_85 : decode cX0_look 85 = .ok (.getfield 142, 3) := dk_180 0 142 (dk_at dksX0_look_3 13 rfl rfl)
theorem dX0_look_88 : decode cX0_look 88 = .ok (.iload_n 1, 1) := dk_27 (dk_at dksX0_look_3 16 rfl rfl)
theorem dX0_look_89 : decode cX0_look 89 = .ok (.aload_n 0, 1) := dk_42 (dk_at dksX0_look_3 17 rfl rfl)
theorem dX0_look_90 : decode cX0_look 90 = .ok (.getfield 142, 3) := dk_180 0 142 (dk_at dksX0_look_3 18 rfl rfl)
theorem dX0_look_93 : decode cX0_look 93 = .ok (.getfield 249, 3) := dk_180 0 249 (dk_at dksX0_look_3 21 rfl rfl)
theorem dX0_look_96 : decode cX0_look 96 = .ok (.iload_n 2, 1) := dk_28 (dk_at dksX0_look_4 0 rfl rfl)
theorem dX0_look_97 : decode cX0_look 97 = .ok (.iaload, 1) := dk_46 (dk_at dksX0_look_4 1 rfl rfl)
theorem dX0_look_98 : decode cX0_look 98 = .ok (.invokevirtual 295, 3) := dk_182 1 39 (dk_at dksX0_look_4 2 rfl rfl)
theorem dX0_look_101 : decode cX0_look 101 = .ok (.aload_n 0, 1) := dk_42 (dk_at dksX0_look_4 5 rfl rfl)
theorem dX0_look_102 : decode cX0_look 102 = .ok (.getfield 142, 3) := dk_180 0 142 (dk_at dksX0_look_4 6 rfl rfl)
theorem dX0_look_105 : decode cX0_look 105 = .ok (.getfield 199, 3) := dk_180 0 199 (dk_at dksX0_look_4 9 rfl rfl)
theorem dX0_look_108 : decode cX0_look 108 = .ok (.aload_n 0, 1) := dk_42 (dk_at dksX0_look_4 12 rfl rfl)
theorem dX0_look_109 : decode cX0_look 109 = .ok (.getfield 142, 3) := dk_180 0 142 (dk_at dksX0_look_4 13 rfl rfl)
theorem dX0_look_112 : decode cX0_look 112 = .ok (.getfield 249, 3) := dk_180 0 249 (dk_at dksX0_look_4 16 rfl rfl)
theorem dX0_look_115 : decode cX0_look 115 = .ok (.iload_n 2, 1) := dk_28 (dk_at dksX0_look_4 19 rfl rfl)
theorem dX0_look_116 : decode cX0_look 116 = .ok (.iaload, 1) := dk_46 (dk_at dksX0_look_4 20 rfl rfl)
theorem dX0_look_117 : decode cX0_look 117 = .ok (.invokestatic 243, 3) := dk_184 0 243 (dk_at dksX0_look_4 21 rfl rfl)
theorem dX0_look_120 : decode cX0_look 120 = .ok (.ifCond .eq 7, 3) := dk_153 0 7 (dk_at dksX0_look_5 0 rfl rfl)
theorem dX0_look_123 : decode cX0_look 123 = .ok (.iconst 1, 1) := dk_4 (dk_at dksX0_look_5 3 rfl rfl)
theorem dX0_look_124 : decode cX0_look 124 = .ok (.goto 4, 3) := dk_167 0 4 (dk_at dksX0_look_5 4 rfl rfl)
theorem dX0_look_127 : decode cX0_look 127 = .ok (.iconst 0, 1) := dk_3 (dk_at dksX0_look_5 7 rfl rfl)
theorem dX0_look_128 : decode cX0_look 128 = .ok (.ireturn, 1) := dk_172 (dk_at dksX0_look_5 8 rfl rfl)
abbrev cX0_midnight : ByteArray := prog_1_method_41_code
def yX0_midnight : MethodName := ⟨RX0, "midnight", "()I"⟩
def dkwX0_midnight_1 : List UInt8 := [182, 1, 32, 42, 180, 0, 142, 182, 1, 45, 42, 180, 0, 142, 180, 1, 43, 172]
abbrev dktX0_midnight_1 : List UInt8 := dkwX0_midnight_1 ++ []
def dkwX0_midnight_0 : List UInt8 := [42, 180, 0, 142, 198, 0, 16, 42, 180, 0, 142, 180, 1, 43, 17, 39, 15, 160, 0, 5, 2, 172, 42]
abbrev dktX0_midnight_0 : List UInt8 := dkwX0_midnight_0 ++ dktX0_midnight_1
theorem dksX0_midnight_0 : cX0_midnight.data.toList.drop 0 = dktX0_midnight_0 := by decide +kernel
theorem dksX0_midnight_1 : cX0_midnight.data.toList.drop 23 = dktX0_midnight_1 := dk_seg dksX0_midnight_0 23 rfl rfl
theorem dX0_midnight_0 : decode cX0_midnight 0 = .ok (.aload_n 0, 1) := dk_42 (dk_at dksX0_midnight_0 0 rfl rfl)
theorem dX0_midnight_1 : decode cX0_midnight 1 = .ok (.getfield 142, 3) := dk_180 0 142 (dk_at dksX0_midnight_0 1 rfl rfl)
theorem dX0_midnight_4 : decode cX0_midnight 4 = .ok (.ifnull 16, 3) := dk_198 0 16 (dk_at dksX0_midnight_0 4 rfl rfl)
theorem dX0_midnight_7 : decode cX0_midnight 7 = .ok (.aload_n 0, 1) := dk_42 (dk_at dksX0_midnight_0 7 rfl rfl)
theorem dX0_midnight_8 : decode cX0_midnight 8 = .ok (.getfield 142, 3) := dk_180 0 142 (dk_at dksX0_midnight_0 8 rfl rfl)
theorem dX0_midnight_11 : decode cX0_midnight 11 = .ok (.getfield 299, 3) := dk_180 1 43 (dk_at dksX0_midnight_0 11 rfl rfl)
theorem dX0_midnight_14 : decode cX0_midnight 14 = .ok (.sipush 9999, 3) := dk_17 39 15 (dk_at dksX0_midnight_0 14 rfl rfl)
theorem dX0_midnight_17 : decode cX0_midnight 17 = .ok (.if_icmp .ne 5, 3) := dk_160 0 5 (dk_at dksX0_midnight_0 17 rfl rfl)
theorem dX0_midnight_20 : decode cX0_midnight 20 = .ok (.iconst (-1), 1) := dk_2 (dk_at dksX0_midnight_0 20 rfl rfl)
theorem dX0_midnight_21 : decode cX0_midnight 21 = .ok (.ireturn, 1) := dk_172 (dk_at dksX0_midnight_0 21 rfl rfl)
theorem dX0_midnight_22 : decode cX0_midnight 22 = .ok (.aload_n 0, 1) := dk_42 (dk_at dksX0_midnight_0 22 rfl rfl)
theorem dX0_midnight_23 : decode cX0_midnight 23 = .ok (.invokevirtual 288, 3) := dk_182 1 32 (dk_at dksX0_midnight_1 0 rfl rfl)
theorem dX0_midnight_26 : decode cX0_midnight 26 = .ok (.aload_n 0, 1) := dk_42 (dk_at dksX0_midnight_1 3 rfl rfl)
theorem dX0_midnight_27 : decode cX0_midnight 27 = .ok (.getfield 142, 3) := dk_180 0 142 (dk_at dksX0_midnight_1 4 rfl rfl)
theorem dX0_midnight_30 : decode cX0_midnight 30 = .ok (.invokevirtual 301, 3) := dk_182 1 45 (dk_at dksX0_midnight_1 7 rfl rfl)
theorem dX0_midnight_33 : decode cX0_midnight 33 = .ok (.aload_n 0, 1) := dk_42 (dk_at dksX0_midnight_1 10 rfl rfl)
theorem dX0_midnight_34 : decode cX0_midnight 34 = .ok (.getfield 142, 3) := dk_180 0 142 (dk_at dksX0_midnight_1 11 rfl rfl)
theorem dX0_midnight_37 : decode cX0_midnight 37 = .ok (.getfield 299, 3) := dk_180 1 43 (dk_at dksX0_midnight_1 14 rfl rfl)
theorem dX0_midnight_40 : decode cX0_midnight 40 = .ok (.ireturn, 1) := dk_172 (dk_at dksX0_midnight_1 17 rfl rfl)
abbrev cX0_run : ByteArray := prog_1_method_46_code
def yX0_run : MethodName := ⟨RX0, "run", "(II)I"⟩
def dkwX0_run_3 : List UInt8 := [182, 1, 72, 96, 62, 132, 4, 1, 167, 255, 234, 29, 172]
abbrev dktX0_run_3 : List UInt8 := dkwX0_run_3 ++ []
def dkwX0_run_2 : List UInt8 := [3, 181, 1, 8, 3, 62, 3, 54, 4, 21, 4, 28, 162, 0, 22, 29, 42, 42, 180, 0, 84, 27, 50]
abbrev dktX0_run_2 : List UInt8 := dkwX0_run_2 ++ dktX0_run_3
def dkwX0_run_1 : List UInt8 := [153, 0, 18, 42, 180, 0, 142, 180, 1, 43, 28, 96, 17, 39, 15, 164, 0, 5, 2, 172, 42, 180, 0, 142]
abbrev dktX0_run_1 : List UInt8 := dkwX0_run_1 ++ dktX0_run_2
def dkwX0_run_0 : List UInt8 := [42, 180, 0, 142, 198, 0, 38, 42, 27, 182, 1, 63, 153, 0, 30, 28, 133, 10, 20, 1, 66, 184, 1, 68]
abbrev dktX0_run_0 : List UInt8 := dkwX0_run_0 ++ dktX0_run_1
theorem dksX0_run_0 : cX0_run.data.toList.drop 0 = dktX0_run_0 := by decide +kernel
theorem dksX0_run_1 : cX0_run.data.toList.drop 24 = dktX0_run_1 := dk_seg dksX0_run_0 24 rfl rfl
theorem dksX0_run_2 : cX0_run.data.toList.drop 48 = dktX0_run_2 := dk_seg dksX0_run_1 24 rfl rfl
theorem dksX0_run_3 : cX0_run.data.toList.drop 71 = dktX0_run_3 := dk_seg dksX0_run_2 23 rfl rfl
theorem dX0_run_0 : decode cX0_run 0 = .ok (.aload_n 0, 1) := dk_42 (dk_at dksX0_run_0 0 rfl rfl)
theorem dX0_run_1 : decode cX0_run 1 = .ok (.getfield 142, 3) := dk_180 0 142 (dk_at dksX0_run_0 1 rfl rfl)
theorem dX0_run_4 : decode cX0_run 4 = .ok (.ifnull 38, 3) := dk_198 0 38 (dk_at dksX0_run_0 4 rfl rfl)
theorem dX0_run_7 : decode cX0_run 7 = .ok (.aload_n 0, 1) := dk_42 (dk_at dksX0_run_0 7 rfl rfl)
theorem dX0_run_8 : decode cX0_run 8 = .ok (.iload_n 1, 1) := dk_27 (dk_at dksX0_run_0 8 rfl rfl)
theorem dX0_run_9 : decode cX0_run 9 = .ok (.invokevirtual 319, 3) := dk_182 1 63 (dk_at dksX0_run_0 9 rfl rfl)
theorem dX0_run_12 : decode cX0_run 12 = .ok (.ifCond .eq 30, 3) := dk_153 0 30 (dk_at dksX0_run_0 12 rfl rfl)
theorem dX0_run_15 : decode cX0_run 15 = .ok (.iload_n 2, 1) := dk_28 (dk_at dksX0_run_0 15 rfl rfl)
theorem dX0_run_16 : decode cX0_run 16 = .ok (.i2l, 1) := dk_133 (dk_at dksX0_run_0 16 rfl rfl)
theorem dX0_run_17 : decode cX0_run 17 = .ok (.lconst 1, 1) := dk_10 (dk_at dksX0_run_0 17 rfl rfl)
theorem dX0_run_18 : decode cX0_run 18 = .ok (.ldc2_w 322, 3) := dk_20 1 66 (dk_at dksX0_run_0 18 rfl rfl)
theorem dX0_run_21 : decode cX0_run 21 = .ok (.invokestatic 324, 3) := dk_184 1 68 (dk_at dksX0_run_0 21 rfl rfl)
theorem dX0_run_24 : decode cX0_run 24 = .ok (.ifCond .eq 18, 3) := dk_153 0 18 (dk_at dksX0_run_1 0 rfl rfl)
theorem dX0_run_27 : decode cX0_run 27 = .ok (.aload_n 0, 1) := dk_42 (dk_at dksX0_run_1 3 rfl rfl)
theorem dX0_run_28 : decode cX0_run 28 = .ok (.getfield 142, 3) := dk_180 0 142 (dk_at dksX0_run_1 4 rfl rfl)
theorem dX0_run_31 : decode cX0_run 31 = .ok (.getfield 299, 3) := dk_180 1 43 (dk_at dksX0_run_1 7 rfl rfl)
theorem dX0_run_34 : decode cX0_run 34 = .ok (.iload_n 2, 1) := dk_28 (dk_at dksX0_run_1 10 rfl rfl)
theorem dX0_run_35 : decode cX0_run 35 = .ok (.iadd, 1) := dk_96 (dk_at dksX0_run_1 11 rfl rfl)
theorem dX0_run_36 : decode cX0_run 36 = .ok (.sipush 9999, 3) := dk_17 39 15 (dk_at dksX0_run_1 12 rfl rfl)
theorem dX0_run_39 : decode cX0_run 39 = .ok (.if_icmp .le 5, 3) := dk_164 0 5 (dk_at dksX0_run_1 15 rfl rfl)
theorem dX0_run_42 : decode cX0_run 42 = .ok (.iconst (-1), 1) := dk_2 (dk_at dksX0_run_1 18 rfl rfl)
theorem dX0_run_43 : decode cX0_run 43 = .ok (.ireturn, 1) := dk_172 (dk_at dksX0_run_1 19 rfl rfl)
theorem dX0_run_44 : decode cX0_run 44 = .ok (.aload_n 0, 1) := dk_42 (dk_at dksX0_run_1 20 rfl rfl)
theorem dX0_run_45 : decode cX0_run 45 = .ok (.getfield 142, 3) := dk_180 0 142 (dk_at dksX0_run_1 21 rfl rfl)
theorem dX0_run_48 : decode cX0_run 48 = .ok (.iconst 0, 1) := dk_3 (dk_at dksX0_run_2 0 rfl rfl)
theorem dX0_run_49 : decode cX0_run 49 = .ok (.putfield 264, 3) := dk_181 1 8 (dk_at dksX0_run_2 1 rfl rfl)
theorem dX0_run_52 : decode cX0_run 52 = .ok (.iconst 0, 1) := dk_3 (dk_at dksX0_run_2 4 rfl rfl)
theorem dX0_run_53 : decode cX0_run 53 = .ok (.istore_n 3, 1) := dk_62 (dk_at dksX0_run_2 5 rfl rfl)
theorem dX0_run_54 : decode cX0_run 54 = .ok (.iconst 0, 1) := dk_3 (dk_at dksX0_run_2 6 rfl rfl)
theorem dX0_run_55 : decode cX0_run 55 = .ok (.istore 4, 2) := dk_54 4 (dk_at dksX0_run_2 7 rfl rfl)
theorem dX0_run_57 : decode cX0_run 57 = .ok (.iload 4, 2) := dk_21 4 (dk_at dksX0_run_2 9 rfl rfl)
theorem dX0_run_59 : decode cX0_run 59 = .ok (.iload_n 2, 1) := dk_28 (dk_at dksX0_run_2 11 rfl rfl)
theorem dX0_run_60 : decode cX0_run 60 = .ok (.if_icmp .ge 22, 3) := dk_162 0 22 (dk_at dksX0_run_2 12 rfl rfl)
theorem dX0_run_63 : decode cX0_run 63 = .ok (.iload_n 3, 1) := dk_29 (dk_at dksX0_run_2 15 rfl rfl)
theorem dX0_run_64 : decode cX0_run 64 = .ok (.aload_n 0, 1) := dk_42 (dk_at dksX0_run_2 16 rfl rfl)
theorem dX0_run_65 : decode cX0_run 65 = .ok (.aload_n 0, 1) := dk_42 (dk_at dksX0_run_2 17 rfl rfl)
theorem dX0_run_66 : decode cX0_run 66 = .ok (.getfield 84, 3) := dk_180 0 84 (dk_at dksX0_run_2 18 rfl rfl)
theorem dX0_run_69 : decode cX0_run 69 = .ok (.iload_n 1, 1) := dk_27 (dk_at dksX0_run_2 21 rfl rfl)
theorem dX0_run_70 : decode cX0_run 70 = .ok (.aaload, 1) := dk_50 (dk_at dksX0_run_2 22 rfl rfl)
theorem dX0_run_71 : decode cX0_run 71 = .ok (.invokevirtual 328, 3) := dk_182 1 72 (dk_at dksX0_run_3 0 rfl rfl)
theorem dX0_run_74 : decode cX0_run 74 = .ok (.iadd, 1) := dk_96 (dk_at dksX0_run_3 3 rfl rfl)
theorem dX0_run_75 : decode cX0_run 75 = .ok (.istore_n 3, 1) := dk_62 (dk_at dksX0_run_3 4 rfl rfl)
theorem dX0_run_76 : decode cX0_run 76 = .ok (.iinc 4 1, 3) := dk_132 4 1 (dk_at dksX0_run_3 5 rfl rfl)
theorem dX0_run_79 : decode cX0_run 79 = .ok (.goto (-22), 3) := dk_167 255 234 (dk_at dksX0_run_3 8 rfl rfl)
theorem dX0_run_82 : decode cX0_run 82 = .ok (.iload_n 3, 1) := dk_29 (dk_at dksX0_run_3 11 rfl rfl)
theorem dX0_run_83 : decode cX0_run 83 = .ok (.ireturn, 1) := dk_172 (dk_at dksX0_run_3 12 rfl rfl)
abbrev cX0_isRule : ByteArray := prog_1_method_12_code
def yX0_isRule : MethodName := ⟨RX0, "isRule", "(I)Z"⟩
def dkwX0_isRule_0 : List UInt8 := [27, 155, 0, 15, 27, 42, 180, 0, 169, 162, 0, 7, 4, 167, 0, 4, 3, 172]
abbrev dktX0_isRule_0 : List UInt8 := dkwX0_isRule_0 ++ []
theorem dksX0_isRule_0 : cX0_isRule.data.toList.drop 0 = dktX0_isRule_0 := by decide +kernel
theorem dX0_isRule_0 : decode cX0_isRule 0 = .ok (.iload_n 1, 1) := dk_27 (dk_at dksX0_isRule_0 0 rfl rfl)
theorem dX0_isRule_1 : decode cX0_isRule 1 = .ok (.ifCond .lt 15, 3) := dk_155 0 15 (dk_at dksX0_isRule_0 1 rfl rfl)
theorem dX0_isRule_4 : decode cX0_isRule 4 = .ok (.iload_n 1, 1) := dk_27 (dk_at dksX0_isRule_0 4 rfl rfl)
theorem dX0_isRule_5 : decode cX0_isRule 5 = .ok (.aload_n 0, 1) := dk_42 (dk_at dksX0_isRule_0 5 rfl rfl)
theorem dX0_isRule_6 : decode cX0_isRule 6 = .ok (.getfield 169, 3) := dk_180 0 169 (dk_at dksX0_isRule_0 6 rfl rfl)
theorem dX0_isRule_9 : decode cX0_isRule 9 = .ok (.if_icmp .ge 7, 3) := dk_162 0 7 (dk_at dksX0_isRule_0 9 rfl rfl)
theorem dX0_isRule_12 : decode cX0_isRule 12 = .ok (.iconst 1, 1) := dk_4 (dk_at dksX0_isRule_0 12 rfl rfl)
theorem dX0_isRule_13 : decode cX0_isRule 13 = .ok (.goto 4, 3) := dk_167 0 4 (dk_at dksX0_isRule_0 13 rfl rfl)
theorem dX0_isRule_16 : decode cX0_isRule 16 = .ok (.iconst 0, 1) := dk_3 (dk_at dksX0_isRule_0 16 rfl rfl)
theorem dX0_isRule_17 : decode cX0_isRule 17 = .ok (.ireturn, 1) := dk_172 (dk_at dksX0_isRule_0 17 rfl rfl)
abbrev cX0_dayBy : ByteArray := prog_1_method_45_code
def yX0_dayBy : MethodName := ⟨RX0, "dayBy", "(LTruthBridge$Rule;)I"⟩
def dkwX0_dayBy_3 : List UInt8 := [180, 0, 142, 182, 1, 45, 28, 172]
abbrev dktX0_dayBy_3 : List UInt8 := dkwX0_dayBy_3 ++ []
def dkwX0_dayBy_2 : List UInt8 := [180, 0, 142, 29, 21, 4, 182, 1, 35, 6, 160, 0, 6, 132, 2, 1, 132, 3, 1, 167, 255, 193, 42]
abbrev dktX0_dayBy_2 : List UInt8 := dkwX0_dayBy_2 ++ dktX0_dayBy_3
def dkwX0_dayBy_1 : List UInt8 := [4, 160, 0, 7, 2, 167, 0, 9, 42, 43, 29, 182, 1, 59, 54, 4, 21, 4, 2, 159, 0, 21, 42, 42]
abbrev dktX0_dayBy_1 : List UInt8 := dkwX0_dayBy_1 ++ dktX0_dayBy_2
def dkwX0_dayBy_0 : List UInt8 := [3, 61, 3, 62, 29, 42, 180, 0, 142, 180, 0, 145, 162, 0, 58, 42, 180, 0, 142, 180, 0, 196, 29, 46]
abbrev dktX0_dayBy_0 : List UInt8 := dkwX0_dayBy_0 ++ dktX0_dayBy_1
theorem dksX0_dayBy_0 : cX0_dayBy.data.toList.drop 0 = dktX0_dayBy_0 := by decide +kernel
theorem dksX0_dayBy_1 : cX0_dayBy.data.toList.drop 24 = dktX0_dayBy_1 := dk_seg dksX0_dayBy_0 24 rfl rfl
theorem dksX0_dayBy_2 : cX0_dayBy.data.toList.drop 48 = dktX0_dayBy_2 := dk_seg dksX0_dayBy_1 24 rfl rfl
theorem dksX0_dayBy_3 : cX0_dayBy.data.toList.drop 71 = dktX0_dayBy_3 := dk_seg dksX0_dayBy_2 23 rfl rfl
theorem dX0_dayBy_0 : decode cX0_dayBy 0 = .ok (.iconst 0, 1) := dk_3 (dk_at dksX0_dayBy_0 0 rfl rfl)
theorem dX0_dayBy_1 : decode cX0_dayBy 1 = .ok (.istore_n 2, 1) := dk_61 (dk_at dksX0_dayBy_0 1 rfl rfl)
theorem dX0_dayBy_2 : decode cX0_dayBy 2 = .ok (.iconst 0, 1) := dk_3 (dk_at dksX0_dayBy_0 2 rfl rfl)
theorem dX0_dayBy_3 : decode cX0_dayBy 3 = .ok (.istore_n 3, 1) := dk_62 (dk_at dksX0_dayBy_0 3 rfl rfl)
theorem dX0_dayBy_4 : decode cX0_dayBy 4 = .ok (.iload_n 3, 1) := dk_29 (dk_at dksX0_dayBy_0 4 rfl rfl)
theorem dX0_dayBy_5 : decode cX0_dayBy 5 = .ok (.aload_n 0, 1) := dk_42 (dk_at dksX0_dayBy_0 5 rfl rfl)
theorem dX0_dayBy_6 : decode cX0_dayBy 6 = .ok (.getfield 142, 3) := dk_180 0 142 (dk_at dksX0_dayBy_0 6 rfl rfl)
theorem dX0_dayBy_9 : decode cX0_dayBy 9 = .ok (.getfield 145, 3) := dk_180 0 145 (dk_at dksX0_dayBy_0 9 rfl rfl)
theorem dX0_dayBy_12 : decode cX0_dayBy 12 = .ok (.if_icmp .ge 58, 3) := dk_162 0 58 (dk_at dksX0_dayBy_0 12 rfl rfl)
theorem dX0_dayBy_15 : decode cX0_dayBy 15 = .ok (.aload_n 0, 1) := dk_42 (dk_at dksX0_dayBy_0 15 rfl rfl)
theorem dX0_dayBy_16 : decode cX0_dayBy 16 = .ok (.getfield 142, 3) := dk_180 0 142 (dk_at dksX0_dayBy_0 16 rfl rfl)
theorem dX0_dayBy_19 : decode cX0_dayBy 19 = .ok (.getfield 196, 3) := dk_180 0 196 (dk_at dksX0_dayBy_0 19 rfl rfl)
theorem dX0_dayBy_22 : decode cX0_dayBy 22 = .ok (.iload_n 3, 1) := dk_29 (dk_at dksX0_dayBy_0 22 rfl rfl)
theorem dX0_dayBy_23 : decode cX0_dayBy 23 = .ok (.iaload, 1) := dk_46 (dk_at dksX0_dayBy_0 23 rfl rfl)
theorem dX0_dayBy_24 : decode cX0_dayBy 24 = .ok (.iconst 1, 1) := dk_4 (dk_at dksX0_dayBy_1 0 rfl rfl)
theorem dX0_dayBy_25 : decode cX0_dayBy 25 = .ok (.if_icmp .ne 7, 3) := dk_160 0 7 (dk_at dksX0_dayBy_1 1 rfl rfl)
theorem dX0_dayBy_28 : decode cX0_dayBy 28 = .ok (.iconst (-1), 1) := dk_2 (dk_at dksX0_dayBy_1 4 rfl rfl)
theorem dX0_dayBy_29 : decode cX0_dayBy 29 = .ok (.goto 9, 3) := dk_167 0 9 (dk_at dksX0_dayBy_1 5 rfl rfl)
theorem dX0_dayBy_32 : decode cX0_dayBy 32 = .ok (.aload_n 0, 1) := dk_42 (dk_at dksX0_dayBy_1 8 rfl rfl)
theorem dX0_dayBy_33 : decode cX0_dayBy 33 = .ok (.aload_n 1, 1) := dk_43 (dk_at dksX0_dayBy_1 9 rfl rfl)
theorem dX0_dayBy_34 : decode cX0_dayBy 34 = .ok (.iload_n 3, 1) := dk_29 (dk_at dksX0_dayBy_1 10 rfl rfl)
theorem dX0_dayBy_35 : decode cX0_dayBy 35 = .ok (.invokevirtual 315, 3) := dk_182 1 59 (dk_at dksX0_dayBy_1 11 rfl rfl)
theorem dX0_dayBy_38 : decode cX0_dayBy 38 = .ok (.istore 4, 2) := dk_54 4 (dk_at dksX0_dayBy_1 14 rfl rfl)
theorem dX0_dayBy_40 : decode cX0_dayBy 40 = .ok (.iload 4, 2) := dk_21 4 (dk_at dksX0_dayBy_1 16 rfl rfl)
theorem dX0_dayBy_42 : decode cX0_dayBy 42 = .ok (.iconst (-1), 1) := dk_2 (dk_at dksX0_dayBy_1 18 rfl rfl)
theorem dX0_dayBy_43 : decode cX0_dayBy 43 = .ok (.if_icmp .eq 21, 3) := dk_159 0 21 (dk_at dksX0_dayBy_1 19 rfl rfl)
theorem dX0_dayBy_46 : decode cX0_dayBy 46 = .ok (.aload_n 0, 1) := dk_42 (dk_at dksX0_dayBy_1 22 rfl rfl)
theorem dX0_dayBy_47 : decode cX0_dayBy 47 = .ok (.aload_n 0, 1) := dk_42 (dk_at dksX0_dayBy_1 23 rfl rfl)
theorem dX0_dayBy_48 : decode cX0_dayBy 48 = .ok (.getfield 142, 3) := dk_180 0 142 (dk_at dksX0_dayBy_2 0 rfl rfl)
theorem dX0_dayBy_51 : decode cX0_dayBy 51 = .ok (.iload_n 3, 1) := dk_29 (dk_at dksX0_dayBy_2 3 rfl rfl)
theorem dX0_dayBy_52 : decode cX0_dayBy 52 = .ok (.iload 4, 2) := dk_21 4 (dk_at dksX0_dayBy_2 4 rfl rfl)
theorem dX0_dayBy_54 : decode cX0_dayBy 54 = .ok (.invokevirtual 291, 3) := dk_182 1 35 (dk_at dksX0_dayBy_2 6 rfl rfl)
theorem dX0_dayBy_57 : decode cX0_dayBy 57 = .ok (.iconst 3, 1) := dk_6 (dk_at dksX0_dayBy_2 9 rfl rfl)
theorem dX0_dayBy_58 : decode cX0_dayBy 58 = .ok (.if_icmp .ne 6, 3) := dk_160 0 6 (dk_at dksX0_dayBy_2 10 rfl rfl)
theorem dX0_dayBy_61 : decode cX0_dayBy 61 = .ok (.iinc 2 1, 3) := dk_132 2 1 (dk_at dksX0_dayBy_2 13 rfl rfl)
theorem dX0_dayBy_64 : decode cX0_dayBy 64 = .ok (.iinc 3 1, 3) := dk_132 3 1 (dk_at dksX0_dayBy_2 16 rfl rfl)
theorem dX0_dayBy_67 : decode cX0_dayBy 67 = .ok (.goto (-63), 3) := dk_167 255 193 (dk_at dksX0_dayBy_2 19 rfl rfl)
theorem dX0_dayBy_70 : decode cX0_dayBy 70 = .ok (.aload_n 0, 1) := dk_42 (dk_at dksX0_dayBy_2 22 rfl rfl)
theorem dX0_dayBy_71 : decode cX0_dayBy 71 = .ok (.getfield 142, 3) := dk_180 0 142 (dk_at dksX0_dayBy_3 0 rfl rfl)
theorem dX0_dayBy_74 : decode cX0_dayBy 74 = .ok (.invokevirtual 301, 3) := dk_182 1 45 (dk_at dksX0_dayBy_3 3 rfl rfl)
theorem dX0_dayBy_77 : decode cX0_dayBy 77 = .ok (.iload_n 2, 1) := dk_28 (dk_at dksX0_dayBy_3 6 rfl rfl)
theorem dX0_dayBy_78 : decode cX0_dayBy 78 = .ok (.ireturn, 1) := dk_172 (dk_at dksX0_dayBy_3 7 rfl rfl)
abbrev cX0_sayingBy : ByteArray := prog_1_method_44_code
def yX0_sayingBy : MethodName := ⟨RX0, "sayingBy", "(LTruthBridge$Rule;I)I"⟩
def dkwX0_sayingBy_2 : List UInt8 := [55, 4, 132, 6, 1, 167, 255, 213, 29, 172]
abbrev dktX0_sayingBy_2 : List UInt8 := dkwX0_sayingBy_2 ++ []
def dkwX0_sayingBy_1 : List UInt8 := [182, 1, 51, 182, 1, 55, 55, 7, 22, 7, 22, 4, 148, 157, 0, 6, 167, 0, 10, 21, 6, 62, 22, 7]
abbrev dktX0_sayingBy_1 : List UInt8 := dkwX0_sayingBy_1 ++ dktX0_sayingBy_2
def dkwX0_sayingBy_0 : List UInt8 := [2, 62, 9, 55, 4, 3, 54, 6, 21, 6, 42, 180, 0, 158, 162, 0, 40, 43, 42, 28, 21, 6]
abbrev dktX0_sayingBy_0 : List UInt8 := dkwX0_sayingBy_0 ++ dktX0_sayingBy_1
theorem dksX0_sayingBy_0 : cX0_sayingBy.data.toList.drop 0 = dktX0_sayingBy_0 := by decide +kernel
theorem dksX0_sayingBy_1 : cX0_sayingBy.data.toList.drop 22 = dktX0_sayingBy_1 := dk_seg dksX0_sayingBy_0 22 rfl rfl
theorem dksX0_sayingBy_2 : cX0_sayingBy.data.toList.drop 46 = dktX0_sayingBy_2 := dk_seg dksX0_sayingBy_1 24 rfl rfl
theorem dX0_sayingBy_0 : decode cX0_sayingBy 0 = .ok (.iconst (-1), 1) := dk_2 (dk_at dksX0_sayingBy_0 0 rfl rfl)
theorem dX0_sayingBy_1 : decode cX0_sayingBy 1 = .ok (.istore_n 3, 1) := dk_62 (dk_at dksX0_sayingBy_0 1 rfl rfl)
theorem dX0_sayingBy_2 : decode cX0_sayingBy 2 = .ok (.lconst 0, 1) := dk_9 (dk_at dksX0_sayingBy_0 2 rfl rfl)
theorem dX0_sayingBy_3 : decode cX0_sayingBy 3 = .ok (.lstore 4, 2) := dk_55 4 (dk_at dksX0_sayingBy_0 3 rfl rfl)
theorem dX0_sayingBy_5 : decode cX0_sayingBy 5 = .ok (.iconst 0, 1) := dk_3 (dk_at dksX0_sayingBy_0 5 rfl rfl)
theorem dX0_sayingBy_6 : decode cX0_sayingBy 6 = .ok (.istore 6, 2) := dk_54 6 (dk_at dksX0_sayingBy_0 6 rfl rfl)
theorem dX0_sayingBy_8 : decode cX0_sayingBy 8 = .ok (.iload 6, 2) := dk_21 6 (dk_at dksX0_sayingBy_0 8 rfl rfl)
theorem dX0_sayingBy_10 : decode cX0_sayingBy 10 = .ok (.aload_n 0, 1) := dk_42 (dk_at dksX0_sayingBy_0 10 rfl rfl)
theorem dX0_sayingBy_11 : decode cX0_sayingBy 11 = .ok (.getfield 158, 3) := dk_180 0 158 (dk_at dksX0_sayingBy_0 11 rfl rfl)
theorem dX0_sayingBy_14 : decode cX0_sayingBy 14 = .ok (.if_icmp .ge 40, 3) := dk_162 0 40 (dk_at dksX0_sayingBy_0 14 rfl rfl)
theorem dX0_sayingBy_17 : decode cX0_sayingBy 17 = .ok (.aload_n 1, 1) := dk_43 (dk_at dksX0_sayingBy_0 17 rfl rfl)
theorem dX0_sayingBy_18 : decode cX0_sayingBy 18 = .ok (.aload_n 0, 1) := dk_42 (dk_at dksX0_sayingBy_0 18 rfl rfl)
theorem dX0_sayingBy_19 : decode cX0_sayingBy 19 = .ok (.iload_n 2, 1) := dk_28 (dk_at dksX0_sayingBy_0 19 rfl rfl)
theorem dX0_sayingBy_20 : decode cX0_sayingBy 20 = .ok (.iload 6, 2) := dk_21 6 (dk_at dksX0_sayingBy_0 20 rfl rfl)
theorem dX0_sayingBy_22 : decode cX0_sayingBy 22 = .ok (.invokevirtual 307, 3) := dk_182 1 51 (dk_at dksX0_sayingBy_1 0 rfl rfl)
theorem dX0_sayingBy_25 : decode cX0_sayingBy 25 = .ok (.invokevirtual 311, 3) := dk_182 1 55 (dk_at dksX0_sayingBy_1 3 rfl rfl)
theorem dX0_sayingBy_28 : decode cX0_sayingBy 28 = .ok (.lstore 7, 2) := dk_55 7 (dk_at dksX0_sayingBy_1 6 rfl rfl)
theorem dX0_sayingBy_30 : decode cX0_sayingBy 30 = .ok (.lload 7, 2) := dk_22 7 (dk_at dksX0_sayingBy_1 8 rfl rfl)
theorem dX0_sayingBy_32 : decode cX0_sayingBy 32 = .ok (.lload 4, 2) := dk_22 4 (dk_at dksX0_sayingBy_1 10 rfl rfl)
theorem dX0_sayingBy_34 : decode cX0_sayingBy 34 = .ok (.lcmp, 1) := dk_148 (dk_at dksX0_sayingBy_1 12 rfl rfl)
theorem dX0_sayingBy_35 : decode cX0_sayingBy 35 = .ok (.ifCond .gt 6, 3) := dk_157 0 6 (dk_at dksX0_sayingBy_1 13 rfl rfl)
theorem dX0_sayingBy_38 : decode cX0_sayingBy 38 = .ok (.goto 10, 3) := dk_167 0 10 (dk_at dksX0_sayingBy_1 16 rfl rfl)
theorem dX0_sayingBy_41 : decode cX0_sayingBy 41 = .ok (.iload 6, 2) := dk_21 6 (dk_at dksX0_sayingBy_1 19 rfl rfl)
theorem dX0_sayingBy_43 : decode cX0_sayingBy 43 = .ok (.istore_n 3, 1) := dk_62 (dk_at dksX0_sayingBy_1 21 rfl rfl)
theorem dX0_sayingBy_44 : decode cX0_sayingBy 44 = .ok (.lload 7, 2) := dk_22 7 (dk_at dksX0_sayingBy_1 22 rfl rfl)
theorem dX0_sayingBy_46 : decode cX0_sayingBy 46 = .ok (.lstore 4, 2) := dk_55 4 (dk_at dksX0_sayingBy_2 0 rfl rfl)
theorem dX0_sayingBy_48 : decode cX0_sayingBy 48 = .ok (.iinc 6 1, 3) := dk_132 6 1 (dk_at dksX0_sayingBy_2 2 rfl rfl)
theorem dX0_sayingBy_51 : decode cX0_sayingBy 51 = .ok (.goto (-43), 3) := dk_167 255 213 (dk_at dksX0_sayingBy_2 5 rfl rfl)
theorem dX0_sayingBy_54 : decode cX0_sayingBy 54 = .ok (.iload_n 3, 1) := dk_29 (dk_at dksX0_sayingBy_2 8 rfl rfl)
theorem dX0_sayingBy_55 : decode cX0_sayingBy 55 = .ok (.ireturn, 1) := dk_172 (dk_at dksX0_sayingBy_2 9 rfl rfl)
abbrev cX0_wordsOf : ByteArray := prog_1_method_43_code
def yX0_wordsOf : MethodName := ⟨RX0, "wordsOf", "(II)[J"⟩
def dkwX0_wordsOf_6 : List UInt8 := [16, 9, 42, 180, 0, 142, 180, 0, 227, 27, 46, 133, 80, 42, 180, 0, 88, 176]
abbrev dktX0_wordsOf_6 : List UInt8 := dkwX0_wordsOf_6 ++ []
def dkwX0_wordsOf_5 : List UInt8 := [182, 1, 48, 133, 80, 42, 180, 0, 88, 16, 8, 42, 180, 0, 142, 180, 1, 43, 133, 80, 42, 180, 0, 88]
abbrev dktX0_wordsOf_5 : List UInt8 := dkwX0_wordsOf_5 ++ dktX0_wordsOf_6
def dkwX0_wordsOf_4 : List UInt8 := [180, 0, 142, 16, 6, 182, 0, 233, 133, 80, 42, 180, 0, 88, 16, 7, 42, 42, 180, 0, 142, 27]
abbrev dktX0_wordsOf_4 : List UInt8 := dkwX0_wordsOf_4 ++ dktX0_wordsOf_5
def dkwX0_wordsOf_3 : List UInt8 := [42, 180, 0, 88, 8, 42, 42, 180, 0, 142, 28, 182, 0, 206, 133, 80, 42, 180, 0, 88, 16, 6, 42]
abbrev dktX0_wordsOf_3 : List UInt8 := dkwX0_wordsOf_3 ++ dktX0_wordsOf_4
def dkwX0_wordsOf_2 : List UInt8 := [42, 180, 0, 88, 7, 42, 42, 180, 0, 142, 27, 28, 182, 0, 212, 153, 0, 7, 10, 167, 0, 4, 9, 80]
abbrev dktX0_wordsOf_2 : List UInt8 := dkwX0_wordsOf_2 ++ dktX0_wordsOf_3
def dkwX0_wordsOf_1 : List UInt8 := [42, 180, 0, 88, 5, 42, 180, 0, 142, 180, 0, 210, 27, 46, 133, 80, 42, 180, 0, 88, 6, 28, 133, 80]
abbrev dktX0_wordsOf_1 : List UInt8 := dkwX0_wordsOf_1 ++ dktX0_wordsOf_2
def dkwX0_wordsOf_0 : List UInt8 := [42, 180, 0, 88, 3, 27, 133, 80, 42, 180, 0, 88, 4, 42, 180, 0, 142, 180, 0, 225, 27, 46, 133, 80]
abbrev dktX0_wordsOf_0 : List UInt8 := dkwX0_wordsOf_0 ++ dktX0_wordsOf_1
theorem dksX0_wordsOf_0 : cX0_wordsOf.data.toList.drop 0 = dktX0_wordsOf_0 := by decide +kernel
theorem dksX0_wordsOf_1 : cX0_wordsOf.data.toList.drop 24 = dktX0_wordsOf_1 := dk_seg dksX0_wordsOf_0 24 rfl rfl
theorem dksX0_wordsOf_2 : cX0_wordsOf.data.toList.drop 48 = dktX0_wordsOf_2 := dk_seg dksX0_wordsOf_1 24 rfl rfl
theorem dksX0_wordsOf_3 : cX0_wordsOf.data.toList.drop 72 = dktX0_wordsOf_3 := dk_seg dksX0_wordsOf_2 24 rfl rfl
theorem dksX0_wordsOf_4 : cX0_wordsOf.data.toList.drop 95 = dktX0_wordsOf_4 := dk_seg dksX0_wordsOf_3 23 rfl rfl
theorem dksX0_wordsOf_5 : cX0_wordsOf.data.toList.drop 117 = dktX0_wordsOf_5 := dk_seg dksX0_wordsOf_4 22 rfl rfl
theorem dksX0_wordsOf_6 : cX0_wordsOf.data.toList.drop 141 = dktX0_wordsOf_6 := dk_seg dksX0_wordsOf_5 24 rfl rfl
theorem dX0_wordsOf_0 : decode cX0_wordsOf 0 = .ok (.aload_n 0, 1) := dk_42 (dk_at dksX0_wordsOf_0 0 rfl rfl)
theorem dX0_wordsOf_1 : decode cX0_wordsOf 1 = .ok (.getfield 88, 3) := dk_180 0 88 (dk_at dksX0_wordsOf_0 1 rfl rfl)
theorem dX0_wordsOf_4 : decode cX0_wordsOf 4 = .ok (.iconst 0, 1) := dk_3 (dk_at dksX0_wordsOf_0 4 rfl rfl)
theorem dX0_wordsOf_5 : decode cX0_wordsOf 5 = .ok (.iload_n 1, 1) := dk_27 (dk_at dksX0_wordsOf_0 5 rfl rfl)
theorem dX0_wordsOf_6 : decode cX0_wordsOf 6 = .ok (.i2l, 1) := dk_133 (dk_at dksX0_wordsOf_0 6 rfl rfl)
theorem dX0_wordsOf_7 : decode cX0_wordsOf 7 = .ok (.lastore, 1) := dk_80 (dk_at dksX0_wordsOf_0 7 rfl rfl)
theorem dX0_wordsOf_8 : decode cX0_wordsOf 8 = .ok (.aload_n 0, 1) := dk_42 (dk_at dksX0_wordsOf_0 8 rfl rfl)
theorem dX0_wordsOf_9 : decode cX0_wordsOf 9 = .ok (.getfield 88, 3) := dk_180 0 88 (dk_at dksX0_wordsOf_0 9 rfl rfl)
theorem dX0_wordsOf_12 : decode cX0_wordsOf 12 = .ok (.iconst 1, 1) := dk_4 (dk_at dksX0_wordsOf_0 12 rfl rfl)
theorem dX0_wordsOf_13 : decode cX0_wordsOf 13 = .ok (.aload_n 0, 1) := dk_42 (dk_at dksX0_wordsOf_0 13 rfl rfl)
theorem dX0_wordsOf_14 : decode cX0_wordsOf 14 = .ok (.getfield 142, 3) := dk_180 0 142 (dk_at dksX0_wordsOf_0 14 rfl rfl)
theorem dX0_wordsOf_17 : decode cX0_wordsOf 17 = .ok (.getfield 225, 3) := dk_180 0 225 (dk_at dksX0_wordsOf_0 17 rfl rfl)
theorem dX0_wordsOf_20 : decode cX0_wordsOf 20 = .ok (.iload_n 1, 1) := dk_27 (dk_at dksX0_wordsOf_0 20 rfl rfl)
theorem dX0_wordsOf_21 : decode cX0_wordsOf 21 = .ok (.iaload, 1) := dk_46 (dk_at dksX0_wordsOf_0 21 rfl rfl)
theorem dX0_wordsOf_22 : decode cX0_wordsOf 22 = .ok (.i2l, 1) := dk_133 (dk_at dksX0_wordsOf_0 22 rfl rfl)
theorem dX0_wordsOf_23 : decode cX0_wordsOf 23 = .ok (.lastore, 1) := dk_80 (dk_at dksX0_wordsOf_0 23 rfl rfl)
theorem dX0_wordsOf_24 : decode cX0_wordsOf 24 = .ok (.aload_n 0, 1) := dk_42 (dk_at dksX0_wordsOf_1 0 rfl rfl)
theorem dX0_wordsOf_25 : decode cX0_wordsOf 25 = .ok (.getfield 88, 3) := dk_180 0 88 (dk_at dksX0_wordsOf_1 1 rfl rfl)
theorem dX0_wordsOf_28 : decode cX0_wordsOf 28 = .ok (.iconst 2, 1) := dk_5 (dk_at dksX0_wordsOf_1 4 rfl rfl)
theorem dX0_wordsOf_29 : decode cX0_wordsOf 29 = .ok (.aload_n 0, 1) := dk_42 (dk_at dksX0_wordsOf_1 5 rfl rfl)
theorem dX0_wordsOf_30 : decode cX0_wordsOf 30 = .ok (.getfield 142, 3) := dk_180 0 142 (dk_at dksX0_wordsOf_1 6 rfl rfl)
theorem dX0_wordsOf_33 : decode cX0_wordsOf 33 = .ok (.getfield 210, 3) := dk_180 0 210 (dk_at dksX0_wordsOf_1 9 rfl rfl)
theorem dX0_wordsOf_36 : decode cX0_wordsOf 36 = .ok (.iload_n 1, 1) := dk_27 (dk_at dksX0_wordsOf_1 12 rfl rfl)
theorem dX0_wordsOf_37 : decode cX0_wordsOf 37 = .ok (.iaload, 1) := dk_46 (dk_at dksX0_wordsOf_1 13 rfl rfl)
theorem dX0_wordsOf_38 : decode cX0_wordsOf 38 = .ok (.i2l, 1) := dk_133 (dk_at dksX0_wordsOf_1 14 rfl rfl)
theorem dX0_wordsOf_39 : decode cX0_wordsOf 39 = .ok (.lastore, 1) := dk_80 (dk_at dksX0_wordsOf_1 15 rfl rfl)
theorem dX0_wordsOf_40 : decode cX0_wordsOf 40 = .ok (.aload_n 0, 1) := dk_42 (dk_at dksX0_wordsOf_1 16 rfl rfl)
theorem dX0_wordsOf_41 : decode cX0_wordsOf 41 = .ok (.getfield 88, 3) := dk_180 0 88 (dk_at dksX0_wordsOf_1 17 rfl rfl)
theorem dX0_wordsOf_44 : decode cX0_wordsOf 44 = .ok (.iconst 3, 1) := dk_6 (dk_at dksX0_wordsOf_1 20 rfl rfl)
theorem dX0_wordsOf_45 : decode cX0_wordsOf 45 = .ok (.iload_n 2, 1) := dk_28 (dk_at dksX0_wordsOf_1 21 rfl rfl)
theorem dX0_wordsOf_46 : decode cX0_wordsOf 46 = .ok (.i2l, 1) := dk_133 (dk_at dksX0_wordsOf_1 22 rfl rfl)
theorem dX0_wordsOf_47 : decode cX0_wordsOf 47 = .ok (.lastore, 1) := dk_80 (dk_at dksX0_wordsOf_1 23 rfl rfl)
theorem dX0_wordsOf_48 : decode cX0_wordsOf 48 = .ok (.aload_n 0, 1) := dk_42 (dk_at dksX0_wordsOf_2 0 rfl rfl)
theorem dX0_wordsOf_49 : decode cX0_wordsOf 49 = .ok (.getfield 88, 3) := dk_180 0 88 (dk_at dksX0_wordsOf_2 1 rfl rfl)
theorem dX0_wordsOf_52 : decode cX0_wordsOf 52 = .ok (.iconst 4, 1) := dk_7 (dk_at dksX0_wordsOf_2 4 rfl rfl)
theorem dX0_wordsOf_53 : decode cX0_wordsOf 53 = .ok (.aload_n 0, 1) := dk_42 (dk_at dksX0_wordsOf_2 5 rfl rfl)
theorem dX0_wordsOf_54 : decode cX0_wordsOf 54 = .ok (.aload_n 0, 1) := dk_42 (dk_at dksX0_wordsOf_2 6 rfl rfl)
theorem dX0_wordsOf_55 : decode cX0_wordsOf 55 = .ok (.getfield 142, 3) := dk_180 0 142 (dk_at dksX0_wordsOf_2 7 rfl rfl)
theorem dX0_wordsOf_58 : decode cX0_wordsOf 58 = .ok (.iload_n 1, 1) := dk_27 (dk_at dksX0_wordsOf_2 10 rfl rfl)
theorem dX0_wordsOf_59 : decode cX0_wordsOf 59 = .ok (.iload_n 2, 1) := dk_28 (dk_at dksX0_wordsOf_2 11 rfl rfl)
theorem dX0_wordsOf_60 : decode cX0_wordsOf 60 = .ok (.invokevirtual 212, 3) := dk_182 0 212 (dk_at dksX0_wordsOf_2 12 rfl rfl)
theorem dX0_wordsOf_63 : decode cX0_wordsOf 63 = .ok (.ifCond .eq 7, 3) := dk_153 0 7 (dk_at dksX0_wordsOf_2 15 rfl rfl)
theorem dX0_wordsOf_66 : decode cX0_wordsOf 66 = .ok (.lconst 1, 1) := dk_10 (dk_at dksX0_wordsOf_2 18 rfl rfl)
theorem dX0_wordsOf_67 : decode cX0_wordsOf 67 = .ok (.goto 4, 3) := dk_167 0 4 (dk_at dksX0_wordsOf_2 19 rfl rfl)
theorem dX0_wordsOf_70 : decode cX0_wordsOf 70 = .ok (.lconst 0, 1) := dk_9 (dk_at dksX0_wordsOf_2 22 rfl rfl)
theorem dX0_wordsOf_71 : decode cX0_wordsOf 71 = .ok (.lastore, 1) := dk_80 (dk_at dksX0_wordsOf_2 23 rfl rfl)
theorem dX0_wordsOf_72 : decode cX0_wordsOf 72 = .ok (.aload_n 0, 1) := dk_42 (dk_at dksX0_wordsOf_3 0 rfl rfl)
theorem dX0_wordsOf_73 : decode cX0_wordsOf 73 = .ok (.getfield 88, 3) := dk_180 0 88 (dk_at dksX0_wordsOf_3 1 rfl rfl)
theorem dX0_wordsOf_76 : decode cX0_wordsOf 76 = .ok (.iconst 5, 1) := dk_8 (dk_at dksX0_wordsOf_3 4 rfl rfl)
theorem dX0_wordsOf_77 : decode cX0_wordsOf 77 = .ok (.aload_n 0, 1) := dk_42 (dk_at dksX0_wordsOf_3 5 rfl rfl)
theorem dX0_wordsOf_78 : decode cX0_wordsOf 78 = .ok (.aload_n 0, 1) := dk_42 (dk_at dksX0_wordsOf_3 6 rfl rfl)
theorem dX0_wordsOf_79 : decode cX0_wordsOf 79 = .ok (.getfield 142, 3) := dk_180 0 142 (dk_at dksX0_wordsOf_3 7 rfl rfl)
theorem dX0_wordsOf_82 : decode cX0_wordsOf 82 = .ok (.iload_n 2, 1) := dk_28 (dk_at dksX0_wordsOf_3 10 rfl rfl)
theorem dX0_wordsOf_83 : decode cX0_wordsOf 83 = .ok (.invokevirtual 206, 3) := dk_182 0 206 (dk_at dksX0_wordsOf_3 11 rfl rfl)
theorem dX0_wordsOf_86 : decode cX0_wordsOf 86 = .ok (.i2l, 1) := dk_133 (dk_at dksX0_wordsOf_3 14 rfl rfl)
theorem dX0_wordsOf_87 : decode cX0_wordsOf 87 = .ok (.lastore, 1) := dk_80 (dk_at dksX0_wordsOf_3 15 rfl rfl)
theorem dX0_wordsOf_88 : decode cX0_wordsOf 88 = .ok (.aload_n 0, 1) := dk_42 (dk_at dksX0_wordsOf_3 16 rfl rfl)
theorem dX0_wordsOf_89 : decode cX0_wordsOf 89 = .ok (.getfield 88, 3) := dk_180 0 88 (dk_at dksX0_wordsOf_3 17 rfl rfl)
theorem dX0_wordsOf_92 : decode cX0_wordsOf 92 = .ok (.bipush 6, 2) := dk_16 6 (dk_at dksX0_wordsOf_3 20 rfl rfl)
theorem dX0_wordsOf_94 : decode cX0_wordsOf 94 = .ok (.aload_n 0, 1) := dk_42 (dk_at dksX0_wordsOf_3 22 rfl rfl)
theorem dX0_wordsOf_95 : decode cX0_wordsOf 95 = .ok (.getfield 142, 3) := dk_180 0 142 (dk_at dksX0_wordsOf_4 0 rfl rfl)
theorem dX0_wordsOf_98 : decode cX0_wordsOf 98 = .ok (.bipush 6, 2) := dk_16 6 (dk_at dksX0_wordsOf_4 3 rfl rfl)
theorem dX0_wordsOf_100 : decode cX0_wordsOf 100 = .ok (.invokevirtual 233, 3) := dk_182 0 233 (dk_at dksX0_wordsOf_4 5 rfl rfl)
theorem dX0_wordsOf_103 : decode cX0_wordsOf 103 = .ok (.i2l, 1) := dk_133 (dk_at dksX0_wordsOf_4 8 rfl rfl)
theorem dX0_wordsOf_104 : decode cX0_wordsOf 104 = .ok (.lastore, 1) := dk_80 (dk_at dksX0_wordsOf_4 9 rfl rfl)
theorem dX0_wordsOf_105 : decode cX0_wordsOf 105 = .ok (.aload_n 0, 1) := dk_42 (dk_at dksX0_wordsOf_4 10 rfl rfl)
theorem dX0_wordsOf_106 : decode cX0_wordsOf 106 = .ok (.getfield 88, 3) := dk_180 0 88 (dk_at dksX0_wordsOf_4 11 rfl rfl)
theorem dX0_wordsOf_109 : decode cX0_wordsOf 109 = .ok (.bipush 7, 2) := dk_16 7 (dk_at dksX0_wordsOf_4 14 rfl rfl)
theorem dX0_wordsOf_111 : decode cX0_wordsOf 111 = .ok (.aload_n 0, 1) := dk_42 (dk_at dksX0_wordsOf_4 16 rfl rfl)
theorem dX0_wordsOf_112 : decode cX0_wordsOf 112 = .ok (.aload_n 0, 1) := dk_42 (dk_at dksX0_wordsOf_4 17 rfl rfl)
theorem dX0_wordsOf_113 : decode cX0_wordsOf 113 = .ok (.getfield 142, 3) := dk_180 0 142 (dk_at dksX0_wordsOf_4 18 rfl rfl)
theorem dX0_wordsOf_116 : decode cX0_wordsOf 116 = .ok (.iload_n 1, 1) := dk_27 (dk_at dksX0_wordsOf_4 21 rfl rfl)
theorem dX0_wordsOf_117 : decode cX0_wordsOf 117 = .ok (.invokevirtual 304, 3) := dk_182 1 48 (dk_at dksX0_wordsOf_5 0 rfl rfl)
theorem dX0_wordsOf_120 : decode cX0_wordsOf 120 = .ok (.i2l, 1) := dk_133 (dk_at dksX0_wordsOf_5 3 rfl rfl)
theorem dX0_wordsOf_121 : decode cX0_wordsOf 121 = .ok (.lastore, 1) := dk_80 (dk_at dksX0_wordsOf_5 4 rfl rfl)
theorem dX0_wordsOf_122 : decode cX0_wordsOf 122 = .ok (.aload_n 0, 1) := dk_42 (dk_at dksX0_wordsOf_5 5 rfl rfl)
theorem dX0_wordsOf_123 : decode cX0_wordsOf 123 = .ok (.getfield 88, 3) := dk_180 0 88 (dk_at dksX0_wordsOf_5 6 rfl rfl)
theorem dX0_wordsOf_126 : decode cX0_wordsOf 126 = .ok (.bipush 8, 2) := dk_16 8 (dk_at dksX0_wordsOf_5 9 rfl rfl)
theorem dX0_wordsOf_128 : decode cX0_wordsOf 128 = .ok (.aload_n 0, 1) := dk_42 (dk_at dksX0_wordsOf_5 11 rfl rfl)
theorem dX0_wordsOf_129 : decode cX0_wordsOf 129 = .ok (.getfield 142, 3) := dk_180 0 142 (dk_at dksX0_wordsOf_5 12 rfl rfl)
theorem dX0_wordsOf_132 : decode cX0_wordsOf 132 = .ok (.getfield 299, 3) := dk_180 1 43 (dk_at dksX0_wordsOf_5 15 rfl rfl)
theorem dX0_wordsOf_135 : decode cX0_wordsOf 135 = .ok (.i2l, 1) := dk_133 (dk_at dksX0_wordsOf_5 18 rfl rfl)
theorem dX0_wordsOf_136 : decode cX0_wordsOf 136 = .ok (.lastore, 1) := dk_80 (dk_at dksX0_wordsOf_5 19 rfl rfl)
theorem dX0_wordsOf_137 : decode cX0_wordsOf 137 = .ok (.aload_n 0, 1) := dk_42 (dk_at dksX0_wordsOf_5 20 rfl rfl)
theorem dX0_wordsOf_138 : decode cX0_wordsOf 138 = .ok (.getfield 88, 3) := dk_180 0 88 (dk_at dksX0_wordsOf_5 21 rfl rfl)
theorem dX0_wordsOf_141 : decode cX0_wordsOf 141 = .ok (.bipush 9, 2) := dk_16 9 (dk_at dksX0_wordsOf_6 0 rfl rfl)
theorem dX0_wordsOf_143 : decode cX0_wordsOf 143 = .ok (.aload_n 0, 1) := dk_42 (dk_at dksX0_wordsOf_6 2 rfl rfl)
theorem dX0_wordsOf_144 : decode cX0_wordsOf 144 = .ok (.getfield 142, 3) := dk_180 0 142 (dk_at dksX0_wordsOf_6 3 rfl rfl)
theorem dX0_wordsOf_147 : decode cX0_wordsOf 147 = .ok (.getfield 227, 3) := dk_180 0 227 (dk_at dksX0_wordsOf_6 6 rfl rfl)
theorem dX0_wordsOf_150 : decode cX0_wordsOf 150 = .ok (.iload_n 1, 1) := dk_27 (dk_at dksX0_wordsOf_6 9 rfl rfl)
theorem dX0_wordsOf_151 : decode cX0_wordsOf 151 = .ok (.iaload, 1) := dk_46 (dk_at dksX0_wordsOf_6 10 rfl rfl)
theorem dX0_wordsOf_152 : decode cX0_wordsOf 152 = .ok (.i2l, 1) := dk_133 (dk_at dksX0_wordsOf_6 11 rfl rfl)
theorem dX0_wordsOf_153 : decode cX0_wordsOf 153 = .ok (.lastore, 1) := dk_80 (dk_at dksX0_wordsOf_6 12 rfl rfl)
theorem dX0_wordsOf_154 : decode cX0_wordsOf 154 = .ok (.aload_n 0, 1) := dk_42 (dk_at dksX0_wordsOf_6 13 rfl rfl)
theorem dX0_wordsOf_155 : decode cX0_wordsOf 155 = .ok (.getfield 88, 3) := dk_180 0 88 (dk_at dksX0_wordsOf_6 14 rfl rfl)
theorem dX0_wordsOf_158 : decode cX0_wordsOf 158 = .ok (.areturn, 1) := dk_176 (dk_at dksX0_wordsOf_6 17 rfl rfl)
abbrev cX0_othersWith : ByteArray := prog_1_method_42_code
def yX0_othersWith : MethodName := ⟨RX0, "othersWith", "(LTruthBridge$Gorge;I)I"⟩
def dkwX0_othersWith_2 : List UInt8 := [132, 4, 1, 167, 255, 214, 29, 172]
abbrev dktX0_othersWith_2 : List UInt8 := dkwX0_othersWith_2 ++ []
def dkwX0_othersWith_1 : List UInt8 := [180, 0, 225, 21, 4, 46, 43, 180, 0, 225, 28, 46, 160, 0, 7, 4, 167, 0, 4, 3, 96, 62]
abbrev dktX0_othersWith_1 : List UInt8 := dkwX0_othersWith_1 ++ dktX0_othersWith_2
def dkwX0_othersWith_0 : List UInt8 := [3, 62, 3, 54, 4, 21, 4, 43, 180, 0, 145, 162, 0, 39, 29, 21, 4, 28, 159, 0, 23, 43]
abbrev dktX0_othersWith_0 : List UInt8 := dkwX0_othersWith_0 ++ dktX0_othersWith_1
theorem dksX0_othersWith_0 : cX0_othersWith.data.toList.drop 0 = dktX0_othersWith_0 := by decide +kernel
theorem dksX0_othersWith_1 : cX0_othersWith.data.toList.drop 22 = dktX0_othersWith_1 := dk_seg dksX0_othersWith_0 22 rfl rfl
theorem dksX0_othersWith_2 : cX0_othersWith.data.toList.drop 44 = dktX0_othersWith_2 := dk_seg dksX0_othersWith_1 22 rfl rfl
theorem dX0_othersWith_0 : decode cX0_othersWith 0 = .ok (.iconst 0, 1) := dk_3 (dk_at dksX0_othersWith_0 0 rfl rfl)
theorem dX0_othersWith_1 : decode cX0_othersWith 1 = .ok (.istore_n 3, 1) := dk_62 (dk_at dksX0_othersWith_0 1 rfl rfl)
theorem dX0_othersWith_2 : decode cX0_othersWith 2 = .ok (.iconst 0, 1) := dk_3 (dk_at dksX0_othersWith_0 2 rfl rfl)
theorem dX0_othersWith_3 : decode cX0_othersWith 3 = .ok (.istore 4, 2) := dk_54 4 (dk_at dksX0_othersWith_0 3 rfl rfl)
theorem dX0_othersWith_5 : decode cX0_othersWith 5 = .ok (.iload 4, 2) := dk_21 4 (dk_at dksX0_othersWith_0 5 rfl rfl)
theorem dX0_othersWith_7 : decode cX0_othersWith 7 = .ok (.aload_n 1, 1) := dk_43 (dk_at dksX0_othersWith_0 7 rfl rfl)
theorem dX0_othersWith_8 : decode cX0_othersWith 8 = .ok (.getfield 145, 3) := dk_180 0 145 (dk_at dksX0_othersWith_0 8 rfl rfl)
theorem dX0_othersWith_11 : decode cX0_othersWith 11 = .ok (.if_icmp .ge 39, 3) := dk_162 0 39 (dk_at dksX0_othersWith_0 11 rfl rfl)
theorem dX0_othersWith_14 : decode cX0_othersWith 14 = .ok (.iload_n 3, 1) := dk_29 (dk_at dksX0_othersWith_0 14 rfl rfl)
theorem dX0_othersWith_15 : decode cX0_othersWith 15 = .ok (.iload 4, 2) := dk_21 4 (dk_at dksX0_othersWith_0 15 rfl rfl)
theorem dX0_othersWith_17 : decode cX0_othersWith 17 = .ok (.iload_n 2, 1) := dk_28 (dk_at dksX0_othersWith_0 17 rfl rfl)
theorem dX0_othersWith_18 : decode cX0_othersWith 18 = .ok (.if_icmp .eq 23, 3) := dk_159 0 23 (dk_at dksX0_othersWith_0 18 rfl rfl)
theorem dX0_othersWith_21 : decode cX0_othersWith 21 = .ok (.aload_n 1, 1) := dk_43 (dk_at dksX0_othersWith_0 21 rfl rfl)
theorem dX0_othersWith_22 : decode cX0_othersWith 22 = .ok (.getfield 225, 3) := dk_180 0 225 (dk_at dksX0_othersWith_1 0 rfl rfl)
theorem dX0_othersWith_25 : decode cX0_othersWith 25 = .ok (.iload 4, 2) := dk_21 4 (dk_at dksX0_othersWith_1 3 rfl rfl)
theorem dX0_othersWith_27 : decode cX0_othersWith 27 = .ok (.iaload, 1) := dk_46 (dk_at dksX0_othersWith_1 5 rfl rfl)
theorem dX0_othersWith_28 : decode cX0_othersWith 28 = .ok (.aload_n 1, 1) := dk_43 (dk_at dksX0_othersWith_1 6 rfl rfl)
theorem dX0_othersWith_29 : decode cX0_othersWith 29 = .ok (.getfield 225, 3) := dk_180 0 225 (dk_at dksX0_othersWith_1 7 rfl rfl)
theorem dX0_othersWith_32 : decode cX0_othersWith 32 = .ok (.iload_n 2, 1) := dk_28 (dk_at dksX0_othersWith_1 10 rfl rfl)
theorem dX0_othersWith_33 : decode cX0_othersWith 33 = .ok (.iaload, 1) := dk_46 (dk_at dksX0_othersWith_1 11 rfl rfl)
theorem dX0_othersWith_34 : decode cX0_othersWith 34 = .ok (.if_icmp .ne 7, 3) := dk_160 0 7 (dk_at dksX0_othersWith_1 12 rfl rfl)
theorem dX0_othersWith_37 : decode cX0_othersWith 37 = .ok (.iconst 1, 1) := dk_4 (dk_at dksX0_othersWith_1 15 rfl rfl)
theorem dX0_othersWith_38 : decode cX0_othersWith 38 = .ok (.goto 4, 3) := dk_167 0 4 (dk_at dksX0_othersWith_1 16 rfl rfl)
theorem dX0_othersWith_41 : decode cX0_othersWith 41 = .ok (.iconst 0, 1) := dk_3 (dk_at dksX0_othersWith_1 19 rfl rfl)
theorem dX0_othersWith_42 : decode cX0_othersWith 42 = .ok (.iadd, 1) := dk_96 (dk_at dksX0_othersWith_1 20 rfl rfl)
theorem dX0_othersWith_43 : decode cX0_othersWith 43 = .ok (.istore_n 3, 1) := dk_62 (dk_at dksX0_othersWith_1 21 rfl rfl)
theorem dX0_othersWith_44 : decode cX0_othersWith 44 = .ok (.iinc 4 1, 3) := dk_132 4 1 (dk_at dksX0_othersWith_2 0 rfl rfl)
theorem dX0_othersWith_47 : decode cX0_othersWith 47 = .ok (.goto (-42), 3) := dk_167 255 214 (dk_at dksX0_othersWith_2 3 rfl rfl)
theorem dX0_othersWith_50 : decode cX0_othersWith 50 = .ok (.iload_n 3, 1) := dk_29 (dk_at dksX0_othersWith_2 6 rfl rfl)
theorem dX0_othersWith_51 : decode cX0_othersWith 51 = .ok (.ireturn, 1) := dk_172 (dk_at dksX0_othersWith_2 7 rfl rfl)
abbrev cX0_follows : ByteArray := prog_1_method_50_code
def yX0_follows : MethodName := ⟨RX0, "follows", "(II)I"⟩
def dkwX0_follows_1 : List UInt8 := [182, 1, 82, 153, 0, 7, 4, 167, 0, 4, 3, 172]
abbrev dktX0_follows_1 : List UInt8 := dkwX0_follows_1 ++ []
def dkwX0_follows_0 : List UInt8 := [42, 27, 182, 1, 79, 153, 0, 11, 42, 28, 182, 0, 176, 154, 0, 7, 2, 167, 0, 17, 42, 27, 28]
abbrev dktX0_follows_0 : List UInt8 := dkwX0_follows_0 ++ dktX0_follows_1
theorem dksX0_follows_0 : cX0_follows.data.toList.drop 0 = dktX0_follows_0 := by decide +kernel
theorem dksX0_follows_1 : cX0_follows.data.toList.drop 23 = dktX0_follows_1 := dk_seg dksX0_follows_0 23 rfl rfl
theorem dX0_follows_0 : decode cX0_follows 0 = .ok (.aload_n 0, 1) := dk_42 (dk_at dksX0_follows_0 0 rfl rfl)
theorem dX0_follows_1 : decode cX0_follows 1 = .ok (.iload_n 1, 1) := dk_27 (dk_at dksX0_follows_0 1 rfl rfl)
theorem dX0_follows_2 : decode cX0_follows 2 = .ok (.invokevirtual 335, 3) := dk_182 1 79 (dk_at dksX0_follows_0 2 rfl rfl)
theorem dX0_follows_5 : decode cX0_follows 5 = .ok (.ifCond .eq 11, 3) := dk_153 0 11 (dk_at dksX0_follows_0 5 rfl rfl)
theorem dX0_follows_8 : decode cX0_follows 8 = .ok (.aload_n 0, 1) := dk_42 (dk_at dksX0_follows_0 8 rfl rfl)
theorem dX0_follows_9 : decode cX0_follows 9 = .ok (.iload_n 2, 1) := dk_28 (dk_at dksX0_follows_0 9 rfl rfl)
theorem dX0_follows_10 : decode cX0_follows 10 = .ok (.invokevirtual 176, 3) := dk_182 0 176 (dk_at dksX0_follows_0 10 rfl rfl)
theorem dX0_follows_13 : decode cX0_follows 13 = .ok (.ifCond .ne 7, 3) := dk_154 0 7 (dk_at dksX0_follows_0 13 rfl rfl)
theorem dX0_follows_16 : decode cX0_follows 16 = .ok (.iconst (-1), 1) := dk_2 (dk_at dksX0_follows_0 16 rfl rfl)
theorem dX0_follows_17 : decode cX0_follows 17 = .ok (.goto 17, 3) := dk_167 0 17 (dk_at dksX0_follows_0 17 rfl rfl)
theorem dX0_follows_20 : decode cX0_follows 20 = .ok (.aload_n 0, 1) := dk_42 (dk_at dksX0_follows_0 20 rfl rfl)
theorem dX0_follows_21 : decode cX0_follows 21 = .ok (.iload_n 1, 1) := dk_27 (dk_at dksX0_follows_0 21 rfl rfl)
theorem dX0_follows_22 : decode cX0_follows 22 = .ok (.iload_n 2, 1) := dk_28 (dk_at dksX0_follows_0 22 rfl rfl)
theorem dX0_follows_23 : decode cX0_follows 23 = .ok (.invokevirtual 338, 3) := dk_182 1 82 (dk_at dksX0_follows_1 0 rfl rfl)
theorem dX0_follows_26 : decode cX0_follows 26 = .ok (.ifCond .eq 7, 3) := dk_153 0 7 (dk_at dksX0_follows_1 3 rfl rfl)
theorem dX0_follows_29 : decode cX0_follows 29 = .ok (.iconst 1, 1) := dk_4 (dk_at dksX0_follows_1 6 rfl rfl)
theorem dX0_follows_30 : decode cX0_follows 30 = .ok (.goto 4, 3) := dk_167 0 4 (dk_at dksX0_follows_1 7 rfl rfl)
theorem dX0_follows_33 : decode cX0_follows 33 = .ok (.iconst 0, 1) := dk_3 (dk_at dksX0_follows_1 10 rfl rfl)
theorem dX0_follows_34 : decode cX0_follows 34 = .ok (.ireturn, 1) := dk_172 (dk_at dksX0_follows_1 11 rfl rfl)
abbrev cX0_isSet : ByteArray := prog_1_method_47_code
def yX0_isSet : MethodName := ⟨RX0, "isSet", "(I)Z"⟩
def dkwX0_isSet_1 : List UInt8 := [167, 0, 4, 3, 172]
abbrev dktX0_isSet_1 : List UInt8 := dkwX0_isSet_1 ++ []
def dkwX0_isSet_0 : List UInt8 := [42, 180, 0, 142, 198, 0, 21, 27, 155, 0, 17, 27, 4, 42, 180, 0, 158, 120, 162, 0, 7, 4]
abbrev dktX0_isSet_0 : List UInt8 := dkwX0_isSet_0 ++ dktX0_isSet_1
theorem dksX0_isSet_0 : cX0_isSet.data.toList.drop 0 = dktX0_isSet_0 := by decide +kernel
theorem dksX0_isSet_1 : cX0_isSet.data.toList.drop 22 = dktX0_isSet_1 := dk_seg dksX0_isSet_0 22 rfl rfl
theorem dX0_isSet_0 : decode cX0_isSet 0 = .ok (.aload_n 0, 1) := dk_42 (dk_at dksX0_isSet_0 0 rfl rfl)
theorem dX0_isSet_1 : decode cX0_isSet 1 = .ok (.getfield 142, 3) := dk_180 0 142 (dk_at dksX0_isSet_0 1 rfl rfl)
theorem dX0_isSet_4 : decode cX0_isSet 4 = .ok (.ifnull 21, 3) := dk_198 0 21 (dk_at dksX0_isSet_0 4 rfl rfl)
theorem dX0_isSet_7 : decode cX0_isSet 7 = .ok (.iload_n 1, 1) := dk_27 (dk_at dksX0_isSet_0 7 rfl rfl)
theorem dX0_isSet_8 : decode cX0_isSet 8 = .ok (.ifCond .lt 17, 3) := dk_155 0 17 (dk_at dksX0_isSet_0 8 rfl rfl)
theorem dX0_isSet_11 : decode cX0_isSet 11 = .ok (.iload_n 1, 1) := dk_27 (dk_at dksX0_isSet_0 11 rfl rfl)
theorem dX0_isSet_12 : decode cX0_isSet 12 = .ok (.iconst 1, 1) := dk_4 (dk_at dksX0_isSet_0 12 rfl rfl)
theorem dX0_isSet_13 : decode cX0_isSet 13 = .ok (.aload_n 0, 1) := dk_42 (dk_at dksX0_isSet_0 13 rfl rfl)
theorem dX0_isSet_14 : decode cX0_isSet 14 = .ok (.getfield 158, 3) := dk_180 0 158 (dk_at dksX0_isSet_0 14 rfl rfl)
theorem dX0_isSet_17 : decode cX0_isSet 17 = .ok (.ishl, 1) := dk_120 (dk_at dksX0_isSet_0 17 rfl rfl)
theorem dX0_isSet_18 : decode cX0_isSet 18 = .ok (.if_icmp .ge 7, 3) := dk_162 0 7 (dk_at dksX0_isSet_0 18 rfl rfl)
theorem dX0_isSet_21 : decode cX0_isSet 21 = .ok (.iconst 1, 1) := dk_4 (dk_at dksX0_isSet_0 21 rfl rfl)
theorem dX0_isSet_22 : decode cX0_isSet 22 = .ok (.goto 4, 3) := dk_167 0 4 (dk_at dksX0_isSet_1 0 rfl rfl)
theorem dX0_isSet_25 : decode cX0_isSet 25 = .ok (.iconst 0, 1) := dk_3 (dk_at dksX0_isSet_1 3 rfl rfl)
theorem dX0_isSet_26 : decode cX0_isSet 26 = .ok (.ireturn, 1) := dk_172 (dk_at dksX0_isSet_1 4 rfl rfl)
abbrev cX0_followsFrom : ByteArray := prog_1_method_49_code
def yX0_followsFrom : MethodName := ⟨RX0, "followsFrom", "(II)Z"⟩
def dkwX0_followsFrom_1 : List UInt8 := [29, 182, 0, 202, 154, 0, 5, 3, 172, 132, 3, 1, 167, 255, 222, 4, 172]
abbrev dktX0_followsFrom_1 : List UInt8 := dkwX0_followsFrom_1 ++ []
def dkwX0_followsFrom_0 : List UInt8 := [3, 62, 29, 42, 180, 0, 142, 182, 0, 182, 162, 0, 29, 42, 27, 29, 182, 1, 76, 153, 0, 14, 42, 28]
abbrev dktX0_followsFrom_0 : List UInt8 := dkwX0_followsFrom_0 ++ dktX0_followsFrom_1
theorem dksX0_followsFrom_0 : cX0_followsFrom.data.toList.drop 0 = dktX0_followsFrom_0 := by decide +kernel
theorem dksX0_followsFrom_1 : cX0_followsFrom.data.toList.drop 24 = dktX0_followsFrom_1 := dk_seg dksX0_followsFrom_0 24 rfl rfl
theorem dX0_followsFrom_0 : decode cX0_followsFrom 0 = .ok (.iconst 0, 1) := dk_3 (dk_at dksX0_followsFrom_0 0 rfl rfl)
theorem dX0_followsFrom_1 : decode cX0_followsFrom 1 = .ok (.istore_n 3, 1) := dk_62 (dk_at dksX0_followsFrom_0 1 rfl rfl)
theorem dX0_followsFrom_2 : decode cX0_followsFrom 2 = .ok (.iload_n 3, 1) := dk_29 (dk_at dksX0_followsFrom_0 2 rfl rfl)
theorem dX0_followsFrom_3 : decode cX0_followsFrom 3 = .ok (.aload_n 0, 1) := dk_42 (dk_at dksX0_followsFrom_0 3 rfl rfl)
theorem dX0_followsFrom_4 : decode cX0_followsFrom 4 = .ok (.getfield 142, 3) := dk_180 0 142 (dk_at dksX0_followsFrom_0 4 rfl rfl)
theorem dX0_followsFrom_7 : decode cX0_followsFrom 7 = .ok (.invokevirtual 182, 3) := dk_182 0 182 (dk_at dksX0_followsFrom_0 7 rfl rfl)
theorem dX0_followsFrom_10 : decode cX0_followsFrom 10 = .ok (.if_icmp .ge 29, 3) := dk_162 0 29 (dk_at dksX0_followsFrom_0 10 rfl rfl)
theorem dX0_followsFrom_13 : decode cX0_followsFrom 13 = .ok (.aload_n 0, 1) := dk_42 (dk_at dksX0_followsFrom_0 13 rfl rfl)
theorem dX0_followsFrom_14 : decode cX0_followsFrom 14 = .ok (.iload_n 1, 1) := dk_27 (dk_at dksX0_followsFrom_0 14 rfl rfl)
theorem dX0_followsFrom_15 : decode cX0_followsFrom 15 = .ok (.iload_n 3, 1) := dk_29 (dk_at dksX0_followsFrom_0 15 rfl rfl)
theorem dX0_followsFrom_16 : decode cX0_followsFrom 16 = .ok (.invokevirtual 332, 3) := dk_182 1 76 (dk_at dksX0_followsFrom_0 16 rfl rfl)
theorem dX0_followsFrom_19 : decode cX0_followsFrom 19 = .ok (.ifCond .eq 14, 3) := dk_153 0 14 (dk_at dksX0_followsFrom_0 19 rfl rfl)
theorem dX0_followsFrom_22 : decode cX0_followsFrom 22 = .ok (.aload_n 0, 1) := dk_42 (dk_at dksX0_followsFrom_0 22 rfl rfl)
theorem dX0_followsFrom_23 : decode cX0_followsFrom 23 = .ok (.iload_n 2, 1) := dk_28 (dk_at dksX0_followsFrom_0 23 rfl rfl)
theorem dX0_followsFrom_24 : decode cX0_followsFrom 24 = .ok (.iload_n 3, 1) := dk_29 (dk_at dksX0_followsFrom_1 0 rfl rfl)
theorem dX0_followsFrom_25 : decode cX0_followsFrom 25 = .ok (.invokevirtual 202, 3) := dk_182 0 202 (dk_at dksX0_followsFrom_1 1 rfl rfl)
theorem dX0_followsFrom_28 : decode cX0_followsFrom 28 = .ok (.ifCond .ne 5, 3) := dk_154 0 5 (dk_at dksX0_followsFrom_1 4 rfl rfl)
theorem dX0_followsFrom_31 : decode cX0_followsFrom 31 = .ok (.iconst 0, 1) := dk_3 (dk_at dksX0_followsFrom_1 7 rfl rfl)
theorem dX0_followsFrom_32 : decode cX0_followsFrom 32 = .ok (.ireturn, 1) := dk_172 (dk_at dksX0_followsFrom_1 8 rfl rfl)
theorem dX0_followsFrom_33 : decode cX0_followsFrom 33 = .ok (.iinc 3 1, 3) := dk_132 3 1 (dk_at dksX0_followsFrom_1 9 rfl rfl)
theorem dX0_followsFrom_36 : decode cX0_followsFrom 36 = .ok (.goto (-34), 3) := dk_167 255 222 (dk_at dksX0_followsFrom_1 12 rfl rfl)
theorem dX0_followsFrom_39 : decode cX0_followsFrom 39 = .ok (.iconst 1, 1) := dk_4 (dk_at dksX0_followsFrom_1 15 rfl rfl)
theorem dX0_followsFrom_40 : decode cX0_followsFrom 40 = .ok (.ireturn, 1) := dk_172 (dk_at dksX0_followsFrom_1 16 rfl rfl)
abbrev cX0_isSoAll : ByteArray := prog_1_method_48_code
def yX0_isSoAll : MethodName := ⟨RX0, "isSoAll", "(II)Z"⟩
def dkwX0_isSoAll_1 : List UInt8 := [154, 0, 5, 3, 172, 132, 3, 1, 167, 255, 226, 4, 172]
abbrev dktX0_isSoAll_1 : List UInt8 := dkwX0_isSoAll_1 ++ []
def dkwX0_isSoAll_0 : List UInt8 := [3, 62, 29, 42, 180, 0, 158, 162, 0, 28, 27, 29, 184, 0, 243, 153, 0, 14, 42, 29, 28, 182, 0, 202]
abbrev dktX0_isSoAll_0 : List UInt8 := dkwX0_isSoAll_0 ++ dktX0_isSoAll_1
theorem dksX0_isSoAll_0 : cX0_isSoAll.data.toList.drop 0 = dktX0_isSoAll_0 := by decide +kernel
theorem dksX0_isSoAll_1 : cX0_isSoAll.data.toList.drop 24 = dktX0_isSoAll_1 := dk_seg dksX0_isSoAll_0 24 rfl rfl
theorem dX0_isSoAll_0 : decode cX0_isSoAll 0 = .ok (.iconst 0, 1) := dk_3 (dk_at dksX0_isSoAll_0 0 rfl rfl)
theorem dX0_isSoAll_1 : decode cX0_isSoAll 1 = .ok (.istore_n 3, 1) := dk_62 (dk_at dksX0_isSoAll_0 1 rfl rfl)
theorem dX0_isSoAll_2 : decode cX0_isSoAll 2 = .ok (.iload_n 3, 1) := dk_29 (dk_at dksX0_isSoAll_0 2 rfl rfl)
theorem dX0_isSoAll_3 : decode cX0_isSoAll 3 = .ok (.aload_n 0, 1) := dk_42 (dk_at dksX0_isSoAll_0 3 rfl rfl)
theorem dX0_isSoAll_4 : decode cX0_isSoAll 4 = .ok (.getfield 158, 3) := dk_180 0 158 (dk_at dksX0_isSoAll_0 4 rfl rfl)
theorem dX0_isSoAll_7 : decode cX0_isSoAll 7 = .ok (.if_icmp .ge 28, 3) := dk_162 0 28 (dk_at dksX0_isSoAll_0 7 rfl rfl)
theorem dX0_isSoAll_10 : decode cX0_isSoAll 10 = .ok (.iload_n 1, 1) := dk_27 (dk_at dksX0_isSoAll_0 10 rfl rfl)
theorem dX0_isSoAll_11 : decode cX0_isSoAll 11 = .ok (.iload_n 3, 1) := dk_29 (dk_at dksX0_isSoAll_0 11 rfl rfl)
theorem dX0_isSoAll_12 : decode cX0_isSoAll 12 = .ok (.invokestatic 243, 3) := dk_184 0 243 (dk_at dksX0_isSoAll_0 12 rfl rfl)
theorem dX0_isSoAll_15 : decode cX0_isSoAll 15 = .ok (.ifCond .eq 14, 3) := dk_153 0 14 (dk_at dksX0_isSoAll_0 15 rfl rfl)
theorem dX0_isSoAll_18 : decode cX0_isSoAll 18 = .ok (.aload_n 0, 1) := dk_42 (dk_at dksX0_isSoAll_0 18 rfl rfl)
theorem dX0_isSoAll_19 : decode cX0_isSoAll 19 = .ok (.iload_n 3, 1) := dk_29 (dk_at dksX0_isSoAll_0 19 rfl rfl)
theorem dX0_isSoAll_20 : decode cX0_isSoAll 20 = .ok (.iload_n 2, 1) := dk_28 (dk_at dksX0_isSoAll_0 20 rfl rfl)
theorem dX0_isSoAll_21 : decode cX0_isSoAll 21 = .ok (.invokevirtual 202, 3) := dk_182 0 202 (dk_at dksX0_isSoAll_0 21 rfl rfl)
theorem dX0_isSoAll_24 : decode cX0_isSoAll 24 = .ok (.ifCond .ne 5, 3) := dk_154 0 5 (dk_at dksX0_isSoAll_1 0 rfl rfl)
theorem dX0_isSoAll_27 : decode cX0_isSoAll 27 = .ok (.iconst 0, 1) := dk_3 (dk_at dksX0_isSoAll_1 3 rfl rfl)
theorem dX0_isSoAll_28 : decode cX0_isSoAll 28 = .ok (.ireturn, 1) := dk_172 (dk_at dksX0_isSoAll_1 4 rfl rfl)
theorem dX0_isSoAll_29 : decode cX0_isSoAll 29 = .ok (.iinc 3 1, 3) := dk_132 3 1 (dk_at dksX0_isSoAll_1 5 rfl rfl)
theorem dX0_isSoAll_32 : decode cX0_isSoAll 32 = .ok (.goto (-30), 3) := dk_167 255 226 (dk_at dksX0_isSoAll_1 8 rfl rfl)
theorem dX0_isSoAll_35 : decode cX0_isSoAll 35 = .ok (.iconst 1, 1) := dk_4 (dk_at dksX0_isSoAll_1 11 rfl rfl)
theorem dX0_isSoAll_36 : decode cX0_isSoAll 36 = .ok (.ireturn, 1) := dk_172 (dk_at dksX0_isSoAll_1 12 rfl rfl)
abbrev cX0_fewest : ByteArray := prog_1_method_51_code
def yX0_fewest : MethodName := ⟨RX0, "fewest", "(II)I"⟩
def dkwX0_fewest_3 : List UInt8 := [160, 0, 5, 29, 172, 21, 4, 27, 2, 130, 128, 4, 96, 27, 126, 54, 4, 167, 255, 205]
abbrev dktX0_fewest_3 : List UInt8 := dkwX0_fewest_3 ++ []
def dkwX0_fewest_2 : List UInt8 := [184, 1, 85, 162, 0, 16, 42, 21, 4, 28, 182, 1, 82, 153, 0, 6, 21, 4, 62, 21, 4, 27]
abbrev dktX0_fewest_2 : List UInt8 := dkwX0_fewest_2 ++ dktX0_fewest_3
def dkwX0_fewest_1 : List UInt8 := [164, 0, 5, 2, 172, 16, 254, 62, 3, 54, 4, 29, 16, 254, 159, 0, 15, 21, 4, 184, 1, 85, 29]
abbrev dktX0_fewest_1 : List UInt8 := dkwX0_fewest_1 ++ dktX0_fewest_2
def dkwX0_fewest_0 : List UInt8 := [42, 27, 182, 1, 79, 153, 0, 20, 42, 28, 182, 0, 176, 153, 0, 12, 27, 184, 1, 85, 16, 12]
abbrev dktX0_fewest_0 : List UInt8 := dkwX0_fewest_0 ++ dktX0_fewest_1
theorem dksX0_fewest_0 : cX0_fewest.data.toList.drop 0 = dktX0_fewest_0 := by decide +kernel
theorem dksX0_fewest_1 : cX0_fewest.data.toList.drop 22 = dktX0_fewest_1 := dk_seg dksX0_fewest_0 22 rfl rfl
theorem dksX0_fewest_2 : cX0_fewest.data.toList.drop 45 = dktX0_fewest_2 := dk_seg dksX0_fewest_1 23 rfl rfl
theorem dksX0_fewest_3 : cX0_fewest.data.toList.drop 67 = dktX0_fewest_3 := dk_seg dksX0_fewest_2 22 rfl rfl
theorem dX0_fewest_0 : decode cX0_fewest 0 = .ok (.aload_n 0, 1) := dk_42 (dk_at dksX0_fewest_0 0 rfl rfl)
theorem dX0_fewest_1 : decode cX0_fewest 1 = .ok (.iload_n 1, 1) := dk_27 (dk_at dksX0_fewest_0 1 rfl rfl)
theorem dX0_fewest_2 : decode cX0_fewest 2 = .ok (.invokevirtual 335, 3) := dk_182 1 79 (dk_at dksX0_fewest_0 2 rfl rfl)
theorem dX0_fewest_5 : decode cX0_fewest 5 = .ok (.ifCond .eq 20, 3) := dk_153 0 20 (dk_at dksX0_fewest_0 5 rfl rfl)
theorem dX0_fewest_8 : decode cX0_fewest 8 = .ok (.aload_n 0, 1) := dk_42 (dk_at dksX0_fewest_0 8 rfl rfl)
theorem dX0_fewest_9 : decode cX0_fewest 9 = .ok (.iload_n 2, 1) := dk_28 (dk_at dksX0_fewest_0 9 rfl rfl)
theorem dX0_fewest_10 : decode cX0_fewest 10 = .ok (.invokevirtual 176, 3) := dk_182 0 176 (dk_at dksX0_fewest_0 10 rfl rfl)
theorem dX0_fewest_13 : decode cX0_fewest 13 = .ok (.ifCond .eq 12, 3) := dk_153 0 12 (dk_at dksX0_fewest_0 13 rfl rfl)
theorem dX0_fewest_16 : decode cX0_fewest 16 = .ok (.iload_n 1, 1) := dk_27 (dk_at dksX0_fewest_0 16 rfl rfl)
theorem dX0_fewest_17 : decode cX0_fewest 17 = .ok (.invokestatic 341, 3) := dk_184 1 85 (dk_at dksX0_fewest_0 17 rfl rfl)
theorem dX0_fewest_20 : decode cX0_fewest 20 = .ok (.bipush 12, 2) := dk_16 12 (dk_at dksX0_fewest_0 20 rfl rfl)
theorem dX0_fewest_22 : decode cX0_fewest 22 = .ok (.if_icmp .le 5, 3) := dk_164 0 5 (dk_at dksX0_fewest_1 0 rfl rfl)
theorem dX0_fewest_25 : decode cX0_fewest 25 = .ok (.iconst (-1), 1) := dk_2 (dk_at dksX0_fewest_1 3 rfl rfl)
theorem dX0_fewest_26 : decode cX0_fewest 26 = .ok (.ireturn, 1) := dk_172 (dk_at dksX0_fewest_1 4 rfl rfl)
theorem dX0_fewest_27 : decode cX0_fewest 27 = .ok (.bipush (-2), 2) := dk_16 254 (dk_at dksX0_fewest_1 5 rfl rfl)
theorem dX0_fewest_29 : decode cX0_fewest 29 = .ok (.istore_n 3, 1) := dk_62 (dk_at dksX0_fewest_1 7 rfl rfl)
theorem dX0_fewest_30 : decode cX0_fewest 30 = .ok (.iconst 0, 1) := dk_3 (dk_at dksX0_fewest_1 8 rfl rfl)
theorem dX0_fewest_31 : decode cX0_fewest 31 = .ok (.istore 4, 2) := dk_54 4 (dk_at dksX0_fewest_1 9 rfl rfl)
theorem dX0_fewest_33 : decode cX0_fewest 33 = .ok (.iload_n 3, 1) := dk_29 (dk_at dksX0_fewest_1 11 rfl rfl)
theorem dX0_fewest_34 : decode cX0_fewest 34 = .ok (.bipush (-2), 2) := dk_16 254 (dk_at dksX0_fewest_1 12 rfl rfl)
theorem dX0_fewest_36 : decode cX0_fewest 36 = .ok (.if_icmp .eq 15, 3) := dk_159 0 15 (dk_at dksX0_fewest_1 14 rfl rfl)
theorem dX0_fewest_39 : decode cX0_fewest 39 = .ok (.iload 4, 2) := dk_21 4 (dk_at dksX0_fewest_1 17 rfl rfl)
theorem dX0_fewest_41 : decode cX0_fewest 41 = .ok (.invokestatic 341, 3) := dk_184 1 85 (dk_at dksX0_fewest_1 19 rfl rfl)
theorem dX0_fewest_44 : decode cX0_fewest 44 = .ok (.iload_n 3, 1) := dk_29 (dk_at dksX0_fewest_1 22 rfl rfl)
theorem dX0_fewest_45 : decode cX0_fewest 45 = .ok (.invokestatic 341, 3) := dk_184 1 85 (dk_at dksX0_fewest_2 0 rfl rfl)
theorem dX0_fewest_48 : decode cX0_fewest 48 = .ok (.if_icmp .ge 16, 3) := dk_162 0 16 (dk_at dksX0_fewest_2 3 rfl rfl)
theorem dX0_fewest_51 : decode cX0_fewest 51 = .ok (.aload_n 0, 1) := dk_42 (dk_at dksX0_fewest_2 6 rfl rfl)
theorem dX0_fewest_52 : decode cX0_fewest 52 = .ok (.iload 4, 2) := dk_21 4 (dk_at dksX0_fewest_2 7 rfl rfl)
theorem dX0_fewest_54 : decode cX0_fewest 54 = .ok (.iload_n 2, 1) := dk_28 (dk_at dksX0_fewest_2 9 rfl rfl)
theorem dX0_fewest_55 : decode cX0_fewest 55 = .ok (.invokevirtual 338, 3) := dk_182 1 82 (dk_at dksX0_fewest_2 10 rfl rfl)
theorem dX0_fewest_58 : decode cX0_fewest 58 = .ok (.ifCond .eq 6, 3) := dk_153 0 6 (dk_at dksX0_fewest_2 13 rfl rfl)
theorem dX0_fewest_61 : decode cX0_fewest 61 = .ok (.iload 4, 2) := dk_21 4 (dk_at dksX0_fewest_2 16 rfl rfl)
theorem dX0_fewest_63 : decode cX0_fewest 63 = .ok (.istore_n 3, 1) := dk_62 (dk_at dksX0_fewest_2 18 rfl rfl)
theorem dX0_fewest_64 : decode cX0_fewest 64 = .ok (.iload 4, 2) := dk_21 4 (dk_at dksX0_fewest_2 19 rfl rfl)
theorem dX0_fewest_66 : decode cX0_fewest 66 = .ok (.iload_n 1, 1) := dk_27 (dk_at dksX0_fewest_2 21 rfl rfl)
theorem dX0_fewest_67 : decode cX0_fewest 67 = .ok (.if_icmp .ne 5, 3) := dk_160 0 5 (dk_at dksX0_fewest_3 0 rfl rfl)
theorem dX0_fewest_70 : decode cX0_fewest 70 = .ok (.iload_n 3, 1) := dk_29 (dk_at dksX0_fewest_3 3 rfl rfl)
theorem dX0_fewest_71 : decode cX0_fewest 71 = .ok (.ireturn, 1) := dk_172 (dk_at dksX0_fewest_3 4 rfl rfl)
theorem dX0_fewest_72 : decode cX0_fewest 72 = .ok (.iload 4, 2) := dk_21 4 (dk_at dksX0_fewest_3 5 rfl rfl)
theorem dX0_fewest_74 : decode cX0_fewest 74 = .ok (.iload_n 1, 1) := dk_27 (dk_at dksX0_fewest_3 7 rfl rfl)
theorem dX0_fewest_75 : decode cX0_fewest 75 = .ok (.iconst (-1), 1) := dk_2 (dk_at dksX0_fewest_3 8 rfl rfl)
theorem dX0_fewest_76 : decode cX0_fewest 76 = .ok (.ixor, 1) := dk_130 (dk_at dksX0_fewest_3 9 rfl rfl)
theorem dX0_fewest_77 : decode cX0_fewest 77 = .ok (.ior, 1) := dk_128 (dk_at dksX0_fewest_3 10 rfl rfl)
theorem dX0_fewest_78 : decode cX0_fewest 78 = .ok (.iconst 1, 1) := dk_4 (dk_at dksX0_fewest_3 11 rfl rfl)
theorem dX0_fewest_79 : decode cX0_fewest 79 = .ok (.iadd, 1) := dk_96 (dk_at dksX0_fewest_3 12 rfl rfl)
theorem dX0_fewest_80 : decode cX0_fewest 80 = .ok (.iload_n 1, 1) := dk_27 (dk_at dksX0_fewest_3 13 rfl rfl)
theorem dX0_fewest_81 : decode cX0_fewest 81 = .ok (.iand, 1) := dk_126 (dk_at dksX0_fewest_3 14 rfl rfl)
theorem dX0_fewest_82 : decode cX0_fewest 82 = .ok (.istore 4, 2) := dk_54 4 (dk_at dksX0_fewest_3 15 rfl rfl)
theorem dX0_fewest_84 : decode cX0_fewest 84 = .ok (.goto (-51), 3) := dk_167 255 205 (dk_at dksX0_fewest_3 17 rfl rfl)
abbrev cX0_opposite : ByteArray := prog_1_method_52_code
def yX0_opposite : MethodName := ⟨RX0, "opposite", "(II)I"⟩
def dkwX0_opposite_2 : List UInt8 := [182, 0, 202, 153, 0, 5, 3, 172, 132, 3, 1, 167, 255, 222, 4, 172]
abbrev dktX0_opposite_2 : List UInt8 := dkwX0_opposite_2 ++ []
def dkwX0_opposite_1 : List UInt8 := [62, 29, 42, 180, 0, 142, 182, 0, 182, 162, 0, 29, 42, 27, 29, 182, 0, 202, 153, 0, 14, 42, 28, 29]
abbrev dktX0_opposite_1 : List UInt8 := dkwX0_opposite_1 ++ dktX0_opposite_2
def dkwX0_opposite_0 : List UInt8 := [42, 27, 182, 1, 2, 153, 0, 16, 42, 28, 182, 1, 2, 153, 0, 8, 27, 28, 160, 0, 5, 2, 172, 3]
abbrev dktX0_opposite_0 : List UInt8 := dkwX0_opposite_0 ++ dktX0_opposite_1
theorem dksX0_opposite_0 : cX0_opposite.data.toList.drop 0 = dktX0_opposite_0 := by decide +kernel
theorem dksX0_opposite_1 : cX0_opposite.data.toList.drop 24 = dktX0_opposite_1 := dk_seg dksX0_opposite_0 24 rfl rfl
theorem dksX0_opposite_2 : cX0_opposite.data.toList.drop 48 = dktX0_opposite_2 := dk_seg dksX0_opposite_1 24 rfl rfl
theorem dX0_opposite_0 : decode cX0_opposite 0 = .ok (.aload_n 0, 1) := dk_42 (dk_at dksX0_opposite_0 0 rfl rfl)
theorem dX0_opposite_1 : decode cX0_opposite 1 = .ok (.iload_n 1, 1) := dk_27 (dk_at dksX0_opposite_0 1 rfl rfl)
theorem dX0_opposite_2 : decode cX0_opposite 2 = .ok (.invokevirtual 258, 3) := dk_182 1 2 (dk_at dksX0_opposite_0 2 rfl rfl)
theorem dX0_opposite_5 : decode cX0_opposite 5 = .ok (.ifCond .eq 16, 3) := dk_153 0 16 (dk_at dksX0_opposite_0 5 rfl rfl)
theorem dX0_opposite_8 : decode cX0_opposite 8 = .ok (.aload_n 0, 1) := dk_42 (dk_at dksX0_opposite_0 8 rfl rfl)
theorem dX0_opposite_9 : decode cX0_opposite 9 = .ok (.iload_n 2, 1) := dk_28 (dk_at dksX0_opposite_0 9 rfl rfl)
theorem dX0_opposite_10 : decode cX0_opposite 10 = .ok (.invokevirtual 258, 3) := dk_182 1 2 (dk_at dksX0_opposite_0 10 rfl rfl)
theorem dX0_opposite_13 : decode cX0_opposite 13 = .ok (.ifCond .eq 8, 3) := dk_153 0 8 (dk_at dksX0_opposite_0 13 rfl rfl)
theorem dX0_opposite_16 : decode cX0_opposite 16 = .ok (.iload_n 1, 1) := dk_27 (dk_at dksX0_opposite_0 16 rfl rfl)
theorem dX0_opposite_17 : decode cX0_opposite 17 = .ok (.iload_n 2, 1) := dk_28 (dk_at dksX0_opposite_0 17 rfl rfl)
theorem dX0_opposite_18 : decode cX0_opposite 18 = .ok (.if_icmp .ne 5, 3) := dk_160 0 5 (dk_at dksX0_opposite_0 18 rfl rfl)
theorem dX0_opposite_21 : decode cX0_opposite 21 = .ok (.iconst (-1), 1) := dk_2 (dk_at dksX0_opposite_0 21 rfl rfl)
theorem dX0_opposite_22 : decode cX0_opposite 22 = .ok (.ireturn, 1) := dk_172 (dk_at dksX0_opposite_0 22 rfl rfl)
theorem dX0_opposite_23 : decode cX0_opposite 23 = .ok (.iconst 0, 1) := dk_3 (dk_at dksX0_opposite_0 23 rfl rfl)
theorem dX0_opposite_24 : decode cX0_opposite 24 = .ok (.istore_n 3, 1) := dk_62 (dk_at dksX0_opposite_1 0 rfl rfl)
theorem dX0_opposite_25 : decode cX0_opposite 25 = .ok (.iload_n 3, 1) := dk_29 (dk_at dksX0_opposite_1 1 rfl rfl)
theorem dX0_opposite_26 : decode cX0_opposite 26 = .ok (.aload_n 0, 1) := dk_42 (dk_at dksX0_opposite_1 2 rfl rfl)
theorem dX0_opposite_27 : decode cX0_opposite 27 = .ok (.getfield 142, 3) := dk_180 0 142 (dk_at dksX0_opposite_1 3 rfl rfl)
theorem dX0_opposite_30 : decode cX0_opposite 30 = .ok (.invokevirtual 182, 3) := dk_182 0 182 (dk_at dksX0_opposite_1 6 rfl rfl)
theorem dX0_opposite_33 : decode cX0_opposite 33 = .ok (.if_icmp .ge 29, 3) := dk_162 0 29 (dk_at dksX0_opposite_1 9 rfl rfl)
theorem dX0_opposite_36 : decode cX0_opposite 36 = .ok (.aload_n 0, 1) := dk_42 (dk_at dksX0_opposite_1 12 rfl rfl)
theorem dX0_opposite_37 : decode cX0_opposite 37 = .ok (.iload_n 1, 1) := dk_27 (dk_at dksX0_opposite_1 13 rfl rfl)
theorem dX0_opposite_38 : decode cX0_opposite 38 = .ok (.iload_n 3, 1) := dk_29 (dk_at dksX0_opposite_1 14 rfl rfl)
theorem dX0_opposite_39 : decode cX0_opposite 39 = .ok (.invokevirtual 202, 3) := dk_182 0 202 (dk_at dksX0_opposite_1 15 rfl rfl)
theorem dX0_opposite_42 : decode cX0_opposite 42 = .ok (.ifCond .eq 14, 3) := dk_153 0 14 (dk_at dksX0_opposite_1 18 rfl rfl)
theorem dX0_opposite_45 : decode cX0_opposite 45 = .ok (.aload_n 0, 1) := dk_42 (dk_at dksX0_opposite_1 21 rfl rfl)
theorem dX0_opposite_46 : decode cX0_opposite 46 = .ok (.iload_n 2, 1) := dk_28 (dk_at dksX0_opposite_1 22 rfl rfl)
theorem dX0_opposite_47 : decode cX0_opposite 47 = .ok (.iload_n 3, 1) := dk_29 (dk_at dksX0_opposite_1 23 rfl rfl)
theorem dX0_opposite_48 : decode cX0_opposite 48 = .ok (.invokevirtual 202, 3) := dk_182 0 202 (dk_at dksX0_opposite_2 0 rfl rfl)
theorem dX0_opposite_51 : decode cX0_opposite 51 = .ok (.ifCond .eq 5, 3) := dk_153 0 5 (dk_at dksX0_opposite_2 3 rfl rfl)
theorem dX0_opposite_54 : decode cX0_opposite 54 = .ok (.iconst 0, 1) := dk_3 (dk_at dksX0_opposite_2 6 rfl rfl)
theorem dX0_opposite_55 : decode cX0_opposite 55 = .ok (.ireturn, 1) := dk_172 (dk_at dksX0_opposite_2 7 rfl rfl)
theorem dX0_opposite_56 : decode cX0_opposite 56 = .ok (.iinc 3 1, 3) := dk_132 3 1 (dk_at dksX0_opposite_2 8 rfl rfl)
theorem dX0_opposite_59 : decode cX0_opposite 59 = .ok (.goto (-34), 3) := dk_167 255 222 (dk_at dksX0_opposite_2 11 rfl rfl)
theorem dX0_opposite_62 : decode cX0_opposite 62 = .ok (.iconst 1, 1) := dk_4 (dk_at dksX0_opposite_2 14 rfl rfl)
theorem dX0_opposite_63 : decode cX0_opposite 63 = .ok (.ireturn, 1) := dk_172 (dk_at dksX0_opposite_2 15 rfl rfl)
abbrev cX0_when : ByteArray := prog_1_method_53_code
def yX0_when : MethodName := ⟨RX0, "when", "(II)I"⟩
def dkwX0_when_6 : List UInt8 := [153, 0, 6, 21, 5, 172, 132, 5, 1, 167, 255, 160, 16, 254, 172]
abbrev dktX0_when_6 : List UInt8 := dkwX0_when_6 ++ []
def dkwX0_when_5 : List UInt8 := [120, 130, 54, 4, 132, 6, 1, 167, 255, 197, 21, 5, 29, 161, 0, 16, 42, 27, 21, 4, 182, 0, 202]
abbrev dktX0_when_5 : List UInt8 := dkwX0_when_5 ++ dktX0_when_6
def dkwX0_when_4 : List UInt8 := [180, 1, 100, 21, 6, 46, 21, 5, 160, 0, 20, 21, 4, 4, 42, 180, 0, 142, 180, 1, 103, 21, 6, 46]
abbrev dktX0_when_4 : List UInt8 := dkwX0_when_4 ++ dktX0_when_5
def dkwX0_when_3 : List UInt8 := [180, 1, 97, 162, 0, 53, 21, 5, 42, 180, 0, 142, 180, 1, 43, 164, 0, 41, 42, 180, 0, 142]
abbrev dktX0_when_3 : List UInt8 := dkwX0_when_3 ++ dktX0_when_4
def dkwX0_when_2 : List UInt8 := [180, 1, 43, 54, 5, 21, 5, 29, 16, 100, 96, 162, 0, 93, 3, 54, 6, 21, 6, 42, 180, 0, 142]
abbrev dktX0_when_2 : List UInt8 := dkwX0_when_2 ++ dktX0_when_3
def dkwX0_when_1 : List UInt8 := [180, 0, 142, 180, 1, 43, 184, 1, 91, 62, 42, 180, 0, 142, 180, 0, 199, 54, 4, 42, 180, 0, 142]
abbrev dktX0_when_1 : List UInt8 := dkwX0_when_1 ++ dktX0_when_2
def dkwX0_when_0 : List UInt8 := [42, 27, 182, 1, 2, 153, 0, 15, 28, 133, 9, 20, 1, 89, 184, 1, 68, 154, 0, 5, 2, 172, 28, 42]
abbrev dktX0_when_0 : List UInt8 := dkwX0_when_0 ++ dktX0_when_1
theorem dksX0_when_0 : cX0_when.data.toList.drop 0 = dktX0_when_0 := by decide +kernel
theorem dksX0_when_1 : cX0_when.data.toList.drop 24 = dktX0_when_1 := dk_seg dksX0_when_0 24 rfl rfl
theorem dksX0_when_2 : cX0_when.data.toList.drop 47 = dktX0_when_2 := dk_seg dksX0_when_1 23 rfl rfl
theorem dksX0_when_3 : cX0_when.data.toList.drop 70 = dktX0_when_3 := dk_seg dksX0_when_2 23 rfl rfl
theorem dksX0_when_4 : cX0_when.data.toList.drop 92 = dktX0_when_4 := dk_seg dksX0_when_3 22 rfl rfl
theorem dksX0_when_5 : cX0_when.data.toList.drop 116 = dktX0_when_5 := dk_seg dksX0_when_4 24 rfl rfl
theorem dksX0_when_6 : cX0_when.data.toList.drop 139 = dktX0_when_6 := dk_seg dksX0_when_5 23 rfl rfl
theorem dX0_when_0 : decode cX0_when 0 = .ok (.aload_n 0, 1) := dk_42 (dk_at dksX0_when_0 0 rfl rfl)
theorem dX0_when_1 : decode cX0_when 1 = .ok (.iload_n 1, 1) := dk_27 (dk_at dksX0_when_0 1 rfl rfl)
theorem dX0_when_2 : decode cX0_when 2 = .ok (.invokevirtual 258, 3) := dk_182 1 2 (dk_at dksX0_when_0 2 rfl rfl)
theorem dX0_when_5 : decode cX0_when 5 = .ok (.ifCond .eq 15, 3) := dk_153 0 15 (dk_at dksX0_when_0 5 rfl rfl)
theorem dX0_when_8 : decode cX0_when 8 = .ok (.iload_n 2, 1) := dk_28 (dk_at dksX0_when_0 8 rfl rfl)
theorem dX0_when_9 : decode cX0_when 9 = .ok (.i2l, 1) := dk_133 (dk_at dksX0_when_0 9 rfl rfl)
theorem dX0_when_10 : decode cX0_when 10 = .ok (.lconst 0, 1) := dk_9 (dk_at dksX0_when_0 10 rfl rfl)
theorem dX0_when_11 : decode cX0_when 11 = .ok (.ldc2_w 345, 3) := dk_20 1 89 (dk_at dksX0_when_0 11 rfl rfl)
theorem dX0_when_14 : decode cX0_when 14 = .ok (.invokestatic 324, 3) := dk_184 1 68 (dk_at dksX0_when_0 14 rfl rfl)
theorem dX0_when_17 : decode cX0_when 17 = .ok (.ifCond .ne 5, 3) := dk_154 0 5 (dk_at dksX0_when_0 17 rfl rfl)
theorem dX0_when_20 : decode cX0_when 20 = .ok (.iconst (-1), 1) := dk_2 (dk_at dksX0_when_0 20 rfl rfl)
theorem dX0_when_21 : decode cX0_when 21 = .ok (.ireturn, 1) := dk_172 (dk_at dksX0_when_0 21 rfl rfl)
theorem dX0_when_22 : decode cX0_when 22 = .ok (.iload_n 2, 1) := dk_28 (dk_at dksX0_when_0 22 rfl rfl)
theorem dX0_when_23 : decode cX0_when 23 = .ok (.aload_n 0, 1) := dk_42 (dk_at dksX0_when_0 23 rfl rfl)
theorem dX0_when_24 : decode cX0_when 24 = .ok (.getfield 142, 3) := dk_180 0 142 (dk_at dksX0_when_1 0 rfl rfl)
theorem dX0_when_27 : decode cX0_when 27 = .ok (.getfield 299, 3) := dk_180 1 43 (dk_at dksX0_when_1 3 rfl rfl)
theorem dX0_when_30 : decode cX0_when 30 = .ok (.invokestatic 347, 3) := dk_184 1 91 (dk_at dksX0_when_1 6 rfl rfl)
theorem dX0_when_33 : decode cX0_when 33 = .ok (.istore_n 3, 1) := dk_62 (dk_at dksX0_when_1 9 rfl rfl)
theorem dX0_when_34 : decode cX0_when 34 = .ok (.aload_n 0, 1) := dk_42 (dk_at dksX0_when_1 10 rfl rfl)
theorem dX0_when_35 : decode cX0_when 35 = .ok (.getfield 142, 3) := dk_180 0 142 (dk_at dksX0_when_1 11 rfl rfl)
theorem dX0_when_38 : decode cX0_when 38 = .ok (.getfield 199, 3) := dk_180 0 199 (dk_at dksX0_when_1 14 rfl rfl)
theorem dX0_when_41 : decode cX0_when 41 = .ok (.istore 4, 2) := dk_54 4 (dk_at dksX0_when_1 17 rfl rfl)
theorem dX0_when_43 : decode cX0_when 43 = .ok (.aload_n 0, 1) := dk_42 (dk_at dksX0_when_1 19 rfl rfl)
theorem dX0_when_44 : decode cX0_when 44 = .ok (.getfield 142, 3) := dk_180 0 142 (dk_at dksX0_when_1 20 rfl rfl)
theorem dX0_when_47 : decode cX0_when 47 = .ok (.getfield 299, 3) := dk_180 1 43 (dk_at dksX0_when_2 0 rfl rfl)
theorem dX0_when_50 : decode cX0_when 50 = .ok (.istore 5, 2) := dk_54 5 (dk_at dksX0_when_2 3 rfl rfl)
theorem dX0_when_52 : decode cX0_when 52 = .ok (.iload 5, 2) := dk_21 5 (dk_at dksX0_when_2 5 rfl rfl)
theorem dX0_when_54 : decode cX0_when 54 = .ok (.iload_n 3, 1) := dk_29 (dk_at dksX0_when_2 7 rfl rfl)
theorem dX0_when_55 : decode cX0_when 55 = .ok (.bipush 100, 2) := dk_16 100 (dk_at dksX0_when_2 8 rfl rfl)
theorem dX0_when_57 : decode cX0_when 57 = .ok (.iadd, 1) := dk_96 (dk_at dksX0_when_2 10 rfl rfl)
theorem dX0_when_58 : decode cX0_when 58 = .ok (.if_icmp .ge 93, 3) := dk_162 0 93 (dk_at dksX0_when_2 11 rfl rfl)
theorem dX0_when_61 : decode cX0_when 61 = .ok (.iconst 0, 1) := dk_3 (dk_at dksX0_when_2 14 rfl rfl)
theorem dX0_when_62 : decode cX0_when 62 = .ok (.istore 6, 2) := dk_54 6 (dk_at dksX0_when_2 15 rfl rfl)
theorem dX0_when_64 : decode cX0_when 64 = .ok (.iload 6, 2) := dk_21 6 (dk_at dksX0_when_2 17 rfl rfl)
theorem dX0_when_66 : decode cX0_when 66 = .ok (.aload_n 0, 1) := dk_42 (dk_at dksX0_when_2 19 rfl rfl)
theorem dX0_when_67 : decode cX0_when 67 = .ok (.getfield 142, 3) := dk_180 0 142 (dk_at dksX0_when_2 20 rfl rfl)
theorem dX0_when_70 : decode cX0_when 70 = .ok (.getfield 353, 3) := dk_180 1 97 (dk_at dksX0_when_3 0 rfl rfl)
theorem dX0_when_73 : decode cX0_when 73 = .ok (.if_icmp .ge 53, 3) := dk_162 0 53 (dk_at dksX0_when_3 3 rfl rfl)
theorem dX0_when_76 : decode cX0_when 76 = .ok (.iload 5, 2) := dk_21 5 (dk_at dksX0_when_3 6 rfl rfl)
theorem dX0_when_78 : decode cX0_when 78 = .ok (.aload_n 0, 1) := dk_42 (dk_at dksX0_when_3 8 rfl rfl)
theorem dX0_when_79 : decode cX0_when 79 = .ok (.getfield 142, 3) := dk_180 0 142 (dk_at dksX0_when_3 9 rfl rfl)
theorem dX0_when_82 : decode cX0_when 82 = .ok (.getfield 299, 3) := dk_180 1 43 (dk_at dksX0_when_3 12 rfl rfl)
theorem dX0_when_85 : decode cX0_when 85 = .ok (.if_icmp .le 41, 3) := dk_164 0 41 (dk_at dksX0_when_3 15 rfl rfl)
theorem dX0_when_88 : decode cX0_when 88 = .ok (.aload_n 0, 1) := dk_42 (dk_at dksX0_when_3 18 rfl rfl)
theorem dX0_when_89 : decode cX0_when 89 = .ok (.getfield 142, 3) := dk_180 0 142 (dk_at dksX0_when_3 19 rfl rfl)
theorem dX0_when_92 : decode cX0_when 92 = .ok (.getfield 356, 3) := dk_180 1 100 (dk_at dksX0_when_4 0 rfl rfl)
theorem dX0_when_95 : decode cX0_when 95 = .ok (.iload 6, 2) := dk_21 6 (dk_at dksX0_when_4 3 rfl rfl)
theorem dX0_when_97 : decode cX0_when 97 = .ok (.iaload, 1) := dk_46 (dk_at dksX0_when_4 5 rfl rfl)
theorem dX0_when_98 : decode cX0_when 98 = .ok (.iload 5, 2) := dk_21 5 (dk_at dksX0_when_4 6 rfl rfl)
theorem dX0_when_100 : decode cX0_when 100 = .ok (.if_icmp .ne 20, 3) := dk_160 0 20 (dk_at dksX0_when_4 8 rfl rfl)
theorem dX0_when_103 : decode cX0_when 103 = .ok (.iload 4, 2) := dk_21 4 (dk_at dksX0_when_4 11 rfl rfl)
theorem dX0_when_105 : decode cX0_when 105 = .ok (.iconst 1, 1) := dk_4 (dk_at dksX0_when_4 13 rfl rfl)
theorem dX0_when_106 : decode cX0_when 106 = .ok (.aload_n 0, 1) := dk_42 (dk_at dksX0_when_4 14 rfl rfl)
theorem dX0_when_107 : decode cX0_when 107 = .ok (.getfield 142, 3) := dk_180 0 142 (dk_at dksX0_when_4 15 rfl rfl)
theorem dX0_when_110 : decode cX0_when 110 = .ok (.getfield 359, 3) := dk_180 1 103 (dk_at dksX0_when_4 18 rfl rfl)
theorem dX0_when_113 : decode cX0_when 113 = .ok (.iload 6, 2) := dk_21 6 (dk_at dksX0_when_4 21 rfl rfl)
theorem dX0_when_115 : decode cX0_when 115 = .ok (.iaload, 1) := dk_46 (dk_at dksX0_when_4 23 rfl rfl)
theorem dX0_when_116 : decode cX0_when 116 = .ok (.ishl, 1) := dk_120 (dk_at dksX0_when_5 0 rfl rfl)
theorem dX0_when_117 : decode cX0_when 117 = .ok (.ixor, 1) := dk_130 (dk_at dksX0_when_5 1 rfl rfl)
theorem dX0_when_118 : decode cX0_when 118 = .ok (.istore 4, 2) := dk_54 4 (dk_at dksX0_when_5 2 rfl rfl)
theorem dX0_when_120 : decode cX0_when 120 = .ok (.iinc 6 1, 3) := dk_132 6 1 (dk_at dksX0_when_5 4 rfl rfl)
theorem dX0_when_123 : decode cX0_when 123 = .ok (.goto (-59), 3) := dk_167 255 197 (dk_at dksX0_when_5 7 rfl rfl)
theorem dX0_when_126 : decode cX0_when 126 = .ok (.iload 5, 2) := dk_21 5 (dk_at dksX0_when_5 10 rfl rfl)
theorem dX0_when_128 : decode cX0_when 128 = .ok (.iload_n 3, 1) := dk_29 (dk_at dksX0_when_5 12 rfl rfl)
theorem dX0_when_129 : decode cX0_when 129 = .ok (.if_icmp .lt 16, 3) := dk_161 0 16 (dk_at dksX0_when_5 13 rfl rfl)
theorem dX0_when_132 : decode cX0_when 132 = .ok (.aload_n 0, 1) := dk_42 (dk_at dksX0_when_5 16 rfl rfl)
theorem dX0_when_133 : decode cX0_when 133 = .ok (.iload_n 1, 1) := dk_27 (dk_at dksX0_when_5 17 rfl rfl)
theorem dX0_when_134 : decode cX0_when 134 = .ok (.iload 4, 2) := dk_21 4 (dk_at dksX0_when_5 18 rfl rfl)
theorem dX0_when_136 : decode cX0_when 136 = .ok (.invokevirtual 202, 3) := dk_182 0 202 (dk_at dksX0_when_5 20 rfl rfl)
theorem dX0_when_139 : decode cX0_when 139 = .ok (.ifCond .eq 6, 3) := dk_153 0 6 (dk_at dksX0_when_6 0 rfl rfl)
theorem dX0_when_142 : decode cX0_when 142 = .ok (.iload 5, 2) := dk_21 5 (dk_at dksX0_when_6 3 rfl rfl)
theorem dX0_when_144 : decode cX0_when 144 = .ok (.ireturn, 1) := dk_172 (dk_at dksX0_when_6 5 rfl rfl)
theorem dX0_when_145 : decode cX0_when 145 = .ok (.iinc 5 1, 3) := dk_132 5 1 (dk_at dksX0_when_6 6 rfl rfl)
theorem dX0_when_148 : decode cX0_when 148 = .ok (.goto (-96), 3) := dk_167 255 160 (dk_at dksX0_when_6 9 rfl rfl)
theorem dX0_when_151 : decode cX0_when 151 = .ok (.bipush (-2), 2) := dk_16 254 (dk_at dksX0_when_6 12 rfl rfl)
theorem dX0_when_153 : decode cX0_when 153 = .ok (.ireturn, 1) := dk_172 (dk_at dksX0_when_6 14 rfl rfl)
abbrev cX0_least : ByteArray := prog_1_method_55_code
def yX0_least : MethodName := ⟨RX0, "least", "(II)I"⟩
def dkwX0_least_5 : List UInt8 := [167, 0, 4, 3, 96, 54, 5, 132, 6, 1, 167, 255, 196, 21, 5, 172]
abbrev dktX0_least_5 : List UInt8 := dkwX0_least_5 ++ []
def dkwX0_least_4 : List UInt8 := [180, 0, 142, 180, 0, 225, 27, 46, 160, 0, 18, 42, 25, 4, 21, 6, 182, 1, 109, 153, 0, 7, 4]
abbrev dktX0_least_4 : List UInt8 := dkwX0_least_4 ++ dktX0_least_5
def dkwX0_least_3 : List UInt8 := [180, 0, 145, 162, 0, 56, 21, 5, 21, 6, 27, 159, 0, 38, 25, 4, 180, 0, 225, 21, 6, 46, 42]
abbrev dktX0_least_3 : List UInt8 := dkwX0_least_3 ++ dktX0_least_4
def dkwX0_least_2 : List UInt8 := [182, 0, 138, 58, 4, 42, 25, 4, 16, 6, 29, 182, 1, 28, 3, 54, 5, 3, 54, 6, 21, 6, 25, 4]
abbrev dktX0_least_2 : List UInt8 := dkwX0_least_2 ++ dktX0_least_3
def dkwX0_least_1 : List UInt8 := [182, 1, 106, 62, 29, 16, 254, 159, 0, 7, 28, 154, 0, 5, 29, 172, 42, 180, 0, 20, 42, 180, 0, 142]
abbrev dktX0_least_1 : List UInt8 := dkwX0_least_1 ++ dktX0_least_2
def dkwX0_least_0 : List UInt8 := [42, 27, 182, 0, 222, 153, 0, 13, 28, 133, 9, 10, 184, 1, 68, 154, 0, 5, 2, 172, 42, 27]
abbrev dktX0_least_0 : List UInt8 := dkwX0_least_0 ++ dktX0_least_1
theorem dksX0_least_0 : cX0_least.data.toList.drop 0 = dktX0_least_0 := by decide +kernel
theorem dksX0_least_1 : cX0_least.data.toList.drop 22 = dktX0_least_1 := dk_seg dksX0_least_0 22 rfl rfl
theorem dksX0_least_2 : cX0_least.data.toList.drop 46 = dktX0_least_2 := dk_seg dksX0_least_1 24 rfl rfl
theorem dksX0_least_3 : cX0_least.data.toList.drop 70 = dktX0_least_3 := dk_seg dksX0_least_2 24 rfl rfl
theorem dksX0_least_4 : cX0_least.data.toList.drop 93 = dktX0_least_4 := dk_seg dksX0_least_3 23 rfl rfl
theorem dksX0_least_5 : cX0_least.data.toList.drop 116 = dktX0_least_5 := dk_seg dksX0_least_4 23 rfl rfl
theorem dX0_least_0 : decode cX0_least 0 = .ok (.aload_n 0, 1) := dk_42 (dk_at dksX0_least_0 0 rfl rfl)
theorem dX0_least_1 : decode cX0_least 1 = .ok (.iload_n 1, 1) := dk_27 (dk_at dksX0_least_0 1 rfl rfl)
theorem dX0_least_2 : decode cX0_least 2 = .ok (.invokevirtual 222, 3) := dk_182 0 222 (dk_at dksX0_least_0 2 rfl rfl)
theorem dX0_least_5 : decode cX0_least 5 = .ok (.ifCond .eq 13, 3) := dk_153 0 13 (dk_at dksX0_least_0 5 rfl rfl)
theorem dX0_least_8 : decode cX0_least 8 = .ok (.iload_n 2, 1) := dk_28 (dk_at dksX0_least_0 8 rfl rfl)
theorem dX0_least_9 : decode cX0_least 9 = .ok (.i2l, 1) := dk_133 (dk_at dksX0_least_0 9 rfl rfl)
theorem dX0_least_10 : decode cX0_least 10 = .ok (.lconst 0, 1) := dk_9 (dk_at dksX0_least_0 10 rfl rfl)
theorem dX0_least_11 : decode cX0_least 11 = .ok (.lconst 1, 1) := dk_10 (dk_at dksX0_least_0 11 rfl rfl)
theorem dX0_least_12 : decode cX0_least 12 = .ok (.invokestatic 324, 3) := dk_184 1 68 (dk_at dksX0_least_0 12 rfl rfl)
theorem dX0_least_15 : decode cX0_least 15 = .ok (.ifCond .ne 5, 3) := dk_154 0 5 (dk_at dksX0_least_0 15 rfl rfl)
theorem dX0_least_18 : decode cX0_least 18 = .ok (.iconst (-1), 1) := dk_2 (dk_at dksX0_least_0 18 rfl rfl)
theorem dX0_least_19 : decode cX0_least 19 = .ok (.ireturn, 1) := dk_172 (dk_at dksX0_least_0 19 rfl rfl)
theorem dX0_least_20 : decode cX0_least 20 = .ok (.aload_n 0, 1) := dk_42 (dk_at dksX0_least_0 20 rfl rfl)
theorem dX0_least_21 : decode cX0_least 21 = .ok (.iload_n 1, 1) := dk_27 (dk_at dksX0_least_0 21 rfl rfl)
theorem dX0_least_22 : decode cX0_least 22 = .ok (.invokevirtual 362, 3) := dk_182 1 106 (dk_at dksX0_least_1 0 rfl rfl)
theorem dX0_least_25 : decode cX0_least 25 = .ok (.istore_n 3, 1) := dk_62 (dk_at dksX0_least_1 3 rfl rfl)
theorem dX0_least_26 : decode cX0_least 26 = .ok (.iload_n 3, 1) := dk_29 (dk_at dksX0_least_1 4 rfl rfl)
theorem dX0_least_27 : decode cX0_least 27 = .ok (.bipush (-2), 2) := dk_16 254 (dk_at dksX0_least_1 5 rfl rfl)
theorem dX0_least_29 : decode cX0_least 29 = .ok (.if_icmp .eq 7, 3) := dk_159 0 7 (dk_at dksX0_least_1 7 rfl rfl)
theorem dX0_least_32 : decode cX0_least 32 = .ok (.iload_n 2, 1) := dk_28 (dk_at dksX0_least_1 10 rfl rfl)
theorem dX0_least_33 : decode cX0_least 33 = .ok (.ifCond .ne 5, 3) := dk_154 0 5 (dk_at dksX0_least_1 11 rfl rfl)
theorem dX0_least_36 : decode cX0_least 36 = .ok (.iload_n 3, 1) := dk_29 (dk_at dksX0_least_1 14 rfl rfl)
theorem dX0_least_37 : decode cX0_least 37 = .ok (.ireturn, 1) := dk_172 (dk_at dksX0_least_1 15 rfl rfl)
theorem dX0_least_38 : decode cX0_least 38 = .ok (.aload_n 0, 1) := dk_42 (dk_at dksX0_least_1 16 rfl rfl)
theorem dX0_least_39 : decode cX0_least 39 = .ok (.getfield 20, 3) := dk_180 0 20 (dk_at dksX0_least_1 17 rfl rfl)
theorem dX0_least_42 : decode cX0_least 42 = .ok (.aload_n 0, 1) := dk_42 (dk_at dksX0_least_1 20 rfl rfl)
theorem dX0_least_43 : decode cX0_least 43 = .ok (.getfield 142, 3) := dk_180 0 142 (dk_at dksX0_least_1 21 rfl rfl)
theorem dX0_least_46 : decode cX0_least 46 = .ok (.invokevirtual 138, 3) := dk_182 0 138 (dk_at dksX0_least_2 0 rfl rfl)
theorem dX0_least_49 : decode cX0_least 49 = .ok (.astore 4, 2) := dk_58 4 (dk_at dksX0_least_2 3 rfl rfl)
theorem dX0_least_51 : decode cX0_least 51 = .ok (.aload_n 0, 1) := dk_42 (dk_at dksX0_least_2 5 rfl rfl)
theorem dX0_least_52 : decode cX0_least 52 = .ok (.aload 4, 2) := dk_25 4 (dk_at dksX0_least_2 6 rfl rfl)
theorem dX0_least_54 : decode cX0_least 54 = .ok (.bipush 6, 2) := dk_16 6 (dk_at dksX0_least_2 8 rfl rfl)
theorem dX0_least_56 : decode cX0_least 56 = .ok (.iload_n 3, 1) := dk_29 (dk_at dksX0_least_2 10 rfl rfl)
theorem dX0_least_57 : decode cX0_least 57 = .ok (.invokevirtual 284, 3) := dk_182 1 28 (dk_at dksX0_least_2 11 rfl rfl)
theorem dX0_least_60 : decode cX0_least 60 = .ok (.iconst 0, 1) := dk_3 (dk_at dksX0_least_2 14 rfl rfl)
theorem dX0_least_61 : decode cX0_least 61 = .ok (.istore 5, 2) := dk_54 5 (dk_at dksX0_least_2 15 rfl rfl)
theorem dX0_least_63 : decode cX0_least 63 = .ok (.iconst 0, 1) := dk_3 (dk_at dksX0_least_2 17 rfl rfl)
theorem dX0_least_64 : decode cX0_least 64 = .ok (.istore 6, 2) := dk_54 6 (dk_at dksX0_least_2 18 rfl rfl)
theorem dX0_least_66 : decode cX0_least 66 = .ok (.iload 6, 2) := dk_21 6 (dk_at dksX0_least_2 20 rfl rfl)
theorem dX0_least_68 : decode cX0_least 68 = .ok (.aload 4, 2) := dk_25 4 (dk_at dksX0_least_2 22 rfl rfl)
theorem dX0_least_70 : decode cX0_least 70 = .ok (.getfield 145, 3) := dk_180 0 145 (dk_at dksX0_least_3 0 rfl rfl)
theorem dX0_least_73 : decode cX0_least 73 = .ok (.if_icmp .ge 56, 3) := dk_162 0 56 (dk_at dksX0_least_3 3 rfl rfl)
theorem dX0_least_76 : decode cX0_least 76 = .ok (.iload 5, 2) := dk_21 5 (dk_at dksX0_least_3 6 rfl rfl)
theorem dX0_least_78 : decode cX0_least 78 = .ok (.iload 6, 2) := dk_21 6 (dk_at dksX0_least_3 8 rfl rfl)
theorem dX0_least_80 : decode cX0_least 80 = .ok (.iload_n 1, 1) := dk_27 (dk_at dksX0_least_3 10 rfl rfl)
theorem dX0_least_81 : decode cX0_least 81 = .ok (.if_icmp .eq 38, 3) := dk_159 0 38 (dk_at dksX0_least_3 11 rfl rfl)
theorem dX0_least_84 : decode cX0_least 84 = .ok (.aload 4, 2) := dk_25 4 (dk_at dksX0_least_3 14 rfl rfl)
theorem dX0_least_86 : decode cX0_least 86 = .ok (.getfield 225, 3) := dk_180 0 225 (dk_at dksX0_least_3 16 rfl rfl)
theorem dX0_least_89 : decode cX0_least 89 = .ok (.iload 6, 2) := dk_21 6 (dk_at dksX0_least_3 19 rfl rfl)
theorem dX0_least_91 : decode cX0_least 91 = .ok (.iaload, 1) := dk_46 (dk_at dksX0_least_3 21 rfl rfl)
theorem dX0_least_92 : decode cX0_least 92 = .ok (.aload_n 0, 1) := dk_42 (dk_at dksX0_least_3 22 rfl rfl)
theorem dX0_least_93 : decode cX0_least 93 = .ok (.getfield 142, 3) := dk_180 0 142 (dk_at dksX0_least_4 0 rfl rfl)
theorem dX0_least_96 : decode cX0_least 96 = .ok (.getfield 225, 3) := dk_180 0 225 (dk_at dksX0_least_4 3 rfl rfl)
theorem dX0_least_99 : decode cX0_least 99 = .ok (.iload_n 1, 1) := dk_27 (dk_at dksX0_least_4 6 rfl rfl)
theorem dX0_least_100 : decode cX0_least 100 = .ok (.iaload, 1) := dk_46 (dk_at dksX0_least_4 7 rfl rfl)
theorem dX0_least_101 : decode cX0_least 101 = .ok (.if_icmp .ne 18, 3) := dk_160 0 18 (dk_at dksX0_least_4 8 rfl rfl)
theorem dX0_least_104 : decode cX0_least 104 = .ok (.aload_n 0, 1) := dk_42 (dk_at dksX0_least_4 11 rfl rfl)
theorem dX0_least_105 : decode cX0_least 105 = .ok (.aload 4, 2) := dk_25 4 (dk_at dksX0_least_4 12 rfl rfl)
theorem dX0_least_107 : decode cX0_least 107 = .ok (.iload 6, 2) := dk_21 6 (dk_at dksX0_least_4 14 rfl rfl)
theorem dX0_least_109 : decode cX0_least 109 = .ok (.invokevirtual 365, 3) := dk_182 1 109 (dk_at dksX0_least_4 16 rfl rfl)
theorem dX0_least_112 : decode cX0_least 112 = .ok (.ifCond .eq 7, 3) := dk_153 0 7 (dk_at dksX0_least_4 19 rfl rfl)
theorem dX0_least_115 : decode cX0_least 115 = .ok (.iconst 1, 1) := dk_4 (dk_at dksX0_least_4 22 rfl rfl)
theorem dX0_least_116 : decode cX0_least 116 = .ok (.goto 4, 3) := dk_167 0 4 (dk_at dksX0_least_5 0 rfl rfl)
theorem dX0_least_119 : decode cX0_least 119 = .ok (.iconst 0, 1) := dk_3 (dk_at dksX0_least_5 3 rfl rfl)
theorem dX0_least_120 : decode cX0_least 120 = .ok (.iadd, 1) := dk_96 (dk_at dksX0_least_5 4 rfl rfl)
theorem dX0_least_121 : decode cX0_least 121 = .ok (.istore 5, 2) := dk_54 5 (dk_at dksX0_least_5 5 rfl rfl)
theorem dX0_least_123 : decode cX0_least 123 = .ok (.iinc 6 1, 3) := dk_132 6 1 (dk_at dksX0_least_5 7 rfl rfl)
theorem dX0_least_126 : decode cX0_least 126 = .ok (.goto (-60), 3) := dk_167 255 196 (dk_at dksX0_least_5 10 rfl rfl)
theorem dX0_least_129 : decode cX0_least 129 = .ok (.iload 5, 2) := dk_21 5 (dk_at dksX0_least_5 13 rfl rfl)
theorem dX0_least_131 : decode cX0_least 131 = .ok (.ireturn, 1) := dk_172 (dk_at dksX0_least_5 15 rfl rfl)
abbrev cX0_leastOf : ByteArray := prog_1_method_54_code
def yX0_leastOf : MethodName := ⟨RX0, "leastOf", "(I)I"⟩
def dkwX0_leastOf_2 : List UInt8 := [180, 0, 142, 28, 182, 0, 206, 162, 0, 5, 29, 61, 132, 3, 1, 167, 255, 200, 28, 172]
abbrev dktX0_leastOf_2 : List UInt8 := dkwX0_leastOf_2 ++ []
def dkwX0_leastOf_1 : List UInt8 := [154, 0, 6, 167, 0, 32, 28, 16, 254, 159, 0, 24, 42, 42, 180, 0, 142, 29, 182, 0, 206, 42, 42]
abbrev dktX0_leastOf_1 : List UInt8 := dkwX0_leastOf_1 ++ dktX0_leastOf_2
def dkwX0_leastOf_0 : List UInt8 := [16, 254, 61, 3, 62, 29, 42, 180, 0, 158, 162, 0, 54, 42, 42, 180, 0, 142, 27, 29, 182, 0, 219]
abbrev dktX0_leastOf_0 : List UInt8 := dkwX0_leastOf_0 ++ dktX0_leastOf_1
theorem dksX0_leastOf_0 : cX0_leastOf.data.toList.drop 0 = dktX0_leastOf_0 := by decide +kernel
theorem dksX0_leastOf_1 : cX0_leastOf.data.toList.drop 23 = dktX0_leastOf_1 := dk_seg dksX0_leastOf_0 23 rfl rfl
theorem dksX0_leastOf_2 : cX0_leastOf.data.toList.drop 46 = dktX0_leastOf_2 := dk_seg dksX0_leastOf_1 23 rfl rfl
theorem dX0_leastOf_0 : decode cX0_leastOf 0 = .ok (.bipush (-2), 2) := dk_16 254 (dk_at dksX0_leastOf_0 0 rfl rfl)
theorem dX0_leastOf_2 : decode cX0_leastOf 2 = .ok (.istore_n 2, 1) := dk_61 (dk_at dksX0_leastOf_0 2 rfl rfl)
theorem dX0_leastOf_3 : decode cX0_leastOf 3 = .ok (.iconst 0, 1) := dk_3 (dk_at dksX0_leastOf_0 3 rfl rfl)
theorem dX0_leastOf_4 : decode cX0_leastOf 4 = .ok (.istore_n 3, 1) := dk_62 (dk_at dksX0_leastOf_0 4 rfl rfl)
theorem dX0_leastOf_5 : decode cX0_leastOf 5 = .ok (.iload_n 3, 1) := dk_29 (dk_at dksX0_leastOf_0 5 rfl rfl)
theorem dX0_leastOf_6 : decode cX0_leastOf 6 = .ok (.aload_n 0, 1) := dk_42 (dk_at dksX0_leastOf_0 6 rfl rfl)
theorem dX0_leastOf_7 : decode cX0_leastOf 7 = .ok (.getfield 158, 3) := dk_180 0 158 (dk_at dksX0_leastOf_0 7 rfl rfl)
theorem dX0_leastOf_10 : decode cX0_leastOf 10 = .ok (.if_icmp .ge 54, 3) := dk_162 0 54 (dk_at dksX0_leastOf_0 10 rfl rfl)
theorem dX0_leastOf_13 : decode cX0_leastOf 13 = .ok (.aload_n 0, 1) := dk_42 (dk_at dksX0_leastOf_0 13 rfl rfl)
theorem dX0_leastOf_14 : decode cX0_leastOf 14 = .ok (.aload_n 0, 1) := dk_42 (dk_at dksX0_leastOf_0 14 rfl rfl)
theorem dX0_leastOf_15 : decode cX0_leastOf 15 = .ok (.getfield 142, 3) := dk_180 0 142 (dk_at dksX0_leastOf_0 15 rfl rfl)
theorem dX0_leastOf_18 : decode cX0_leastOf 18 = .ok (.iload_n 1, 1) := dk_27 (dk_at dksX0_leastOf_0 18 rfl rfl)
theorem dX0_leastOf_19 : decode cX0_leastOf 19 = .ok (.iload_n 3, 1) := dk_29 (dk_at dksX0_leastOf_0 19 rfl rfl)
theorem dX0_leastOf_20 : decode cX0_leastOf 20 = .ok (.invokevirtual 219, 3) := dk_182 0 219 (dk_at dksX0_leastOf_0 20 rfl rfl)
theorem dX0_leastOf_23 : decode cX0_leastOf 23 = .ok (.ifCond .ne 6, 3) := dk_154 0 6 (dk_at dksX0_leastOf_1 0 rfl rfl)
theorem dX0_leastOf_26 : decode cX0_leastOf 26 = .ok (.goto 32, 3) := dk_167 0 32 (dk_at dksX0_leastOf_1 3 rfl rfl)
theorem dX0_leastOf_29 : decode cX0_leastOf 29 = .ok (.iload_n 2, 1) := dk_28 (dk_at dksX0_leastOf_1 6 rfl rfl)
theorem dX0_leastOf_30 : decode cX0_leastOf 30 = .ok (.bipush (-2), 2) := dk_16 254 (dk_at dksX0_leastOf_1 7 rfl rfl)
theorem dX0_leastOf_32 : decode cX0_leastOf 32 = .ok (.if_icmp .eq 24, 3) := dk_159 0 24 (dk_at dksX0_leastOf_1 9 rfl rfl)
theorem dX0_leastOf_35 : decode cX0_leastOf 35 = .ok (.aload_n 0, 1) := dk_42 (dk_at dksX0_leastOf_1 12 rfl rfl)
theorem dX0_leastOf_36 : decode cX0_leastOf 36 = .ok (.aload_n 0, 1) := dk_42 (dk_at dksX0_leastOf_1 13 rfl rfl)
theorem dX0_leastOf_37 : decode cX0_leastOf 37 = .ok (.getfield 142, 3) := dk_180 0 142 (dk_at dksX0_leastOf_1 14 rfl rfl)
theorem dX0_leastOf_40 : decode cX0_leastOf 40 = .ok (.iload_n 3, 1) := dk_29 (dk_at dksX0_leastOf_1 17 rfl rfl)
theorem dX0_leastOf_41 : decode cX0_leastOf 41 = .ok (.invokevirtual 206, 3) := dk_182 0 206 (dk_at dksX0_leastOf_1 18 rfl rfl)
theorem dX0_leastOf_44 : decode cX0_leastOf 44 = .ok (.aload_n 0, 1) := dk_42 (dk_at dksX0_leastOf_1 21 rfl rfl)
theorem dX0_leastOf_45 : decode cX0_leastOf 45 = .ok (.aload_n 0, 1) := dk_42 (dk_at dksX0_leastOf_1 22 rfl rfl)
theorem dX0_leastOf_46 : decode cX0_leastOf 46 = .ok (.getfield 142, 3) := dk_180 0 142 (dk_at dksX0_leastOf_2 0 rfl rfl)
theorem dX0_leastOf_49 : decode cX0_leastOf 49 = .ok (.iload_n 2, 1) := dk_28 (dk_at dksX0_leastOf_2 3 rfl rfl)
theorem dX0_leastOf_50 : decode cX0_leastOf 50 = .ok (.invokevirtual 206, 3) := dk_182 0 206 (dk_at dksX0_leastOf_2 4 rfl rfl)
theorem dX0_leastOf_53 : decode cX0_leastOf 53 = .ok (.if_icmp .ge 5, 3) := dk_162 0 5 (dk_at dksX0_leastOf_2 7 rfl rfl)
theorem dX0_leastOf_56 : decode cX0_leastOf 56 = .ok (.iload_n 3, 1) := dk_29 (dk_at dksX0_leastOf_2 10 rfl rfl)
theorem dX0_leastOf_57 : decode cX0_leastOf 57 = .ok (.istore_n 2, 1) := dk_61 (dk_at dksX0_leastOf_2 11 rfl rfl)
theorem dX0_leastOf_58 : decode cX0_leastOf 58 = .ok (.iinc 3 1, 3) := dk_132 3 1 (dk_at dksX0_leastOf_2 12 rfl rfl)
theorem dX0_leastOf_61 : decode cX0_leastOf 61 = .ok (.goto (-56), 3) := dk_167 255 200 (dk_at dksX0_leastOf_2 15 rfl rfl)
theorem dX0_leastOf_64 : decode cX0_leastOf 64 = .ok (.iload_n 2, 1) := dk_28 (dk_at dksX0_leastOf_2 18 rfl rfl)
theorem dX0_leastOf_65 : decode cX0_leastOf 65 = .ok (.ireturn, 1) := dk_172 (dk_at dksX0_leastOf_2 19 rfl rfl)
abbrev cX0_canCross : ByteArray := prog_1_method_23_code
def yX0_canCross : MethodName := ⟨RX0, "canCross", "(LTruthBridge$Gorge;II)Z"⟩
def dkwX0_canCross_1 : List UInt8 := [3, 172]
abbrev dktX0_canCross_1 : List UInt8 := dkwX0_canCross_1 ++ []
def dkwX0_canCross_0 : List UInt8 := [42, 43, 28, 29, 182, 0, 212, 153, 0, 17, 42, 43, 28, 29, 182, 0, 216, 153, 0, 7, 4, 167, 0, 4]
abbrev dktX0_canCross_0 : List UInt8 := dkwX0_canCross_0 ++ dktX0_canCross_1
theorem dksX0_canCross_0 : cX0_canCross.data.toList.drop 0 = dktX0_canCross_0 := by decide +kernel
theorem dksX0_canCross_1 : cX0_canCross.data.toList.drop 24 = dktX0_canCross_1 := dk_seg dksX0_canCross_0 24 rfl rfl
theorem dX0_canCross_0 : decode cX0_canCross 0 = .ok (.aload_n 0, 1) := dk_42 (dk_at dksX0_canCross_0 0 rfl rfl)
theorem dX0_canCross_1 : decode cX0_canCross 1 = .ok (.aload_n 1, 1) := dk_43 (dk_at dksX0_canCross_0 1 rfl rfl)
theorem dX0_canCross_2 : decode cX0_canCross 2 = .ok (.iload_n 2, 1) := dk_28 (dk_at dksX0_canCross_0 2 rfl rfl)
theorem dX0_canCross_3 : decode cX0_canCross 3 = .ok (.iload_n 3, 1) := dk_29 (dk_at dksX0_canCross_0 3 rfl rfl)
theorem dX0_canCross_4 : decode cX0_canCross 4 = .ok (.invokevirtual 212, 3) := dk_182 0 212 (dk_at dksX0_canCross_0 4 rfl rfl)
theorem dX0_canCross_7 : decode cX0_canCross 7 = .ok (.ifCond .eq 17, 3) := dk_153 0 17 (dk_at dksX0_canCross_0 7 rfl rfl)
theorem dX0_canCross_10 : decode cX0_canCross 10 = .ok (.aload_n 0, 1) := dk_42 (dk_at dksX0_canCross_0 10 rfl rfl)
theorem dX0_canCross_11 : decode cX0_canCross 11 = .ok (.aload_n 1, 1) := dk_43 (dk_at dksX0_canCross_0 11 rfl rfl)
theorem dX0_canCross_12 : decode cX0_canCross 12 = .ok (.iload_n 2, 1) := dk_28 (dk_at dksX0_canCross_0 12 rfl rfl)
theorem dX0_canCross_13 : decode cX0_canCross 13 = .ok (.iload_n 3, 1) := dk_29 (dk_at dksX0_canCross_0 13 rfl rfl)
theorem dX0_canCross_14 : decode cX0_canCross 14 = .ok (.invokevirtual 216, 3) := dk_182 0 216 (dk_at dksX0_canCross_0 14 rfl rfl)
theorem dX0_canCross_17 : decode cX0_canCross 17 = .ok (.ifCond .eq 7, 3) := dk_153 0 7 (dk_at dksX0_canCross_0 17 rfl rfl)
theorem dX0_canCross_20 : decode cX0_canCross 20 = .ok (.iconst 1, 1) := dk_4 (dk_at dksX0_canCross_0 20 rfl rfl)
theorem dX0_canCross_21 : decode cX0_canCross 21 = .ok (.goto 4, 3) := dk_167 0 4 (dk_at dksX0_canCross_0 21 rfl rfl)
theorem dX0_canCross_24 : decode cX0_canCross 24 = .ok (.iconst 0, 1) := dk_3 (dk_at dksX0_canCross_1 0 rfl rfl)
theorem dX0_canCross_25 : decode cX0_canCross 25 = .ok (.ireturn, 1) := dk_172 (dk_at dksX0_canCross_1 1 rfl rfl)
abbrev cX0_getsOver : ByteArray := prog_1_method_22_code
def yX0_getsOver : MethodName := ⟨RX0, "getsOver", "(LTruthBridge$Gorge;II)Z"⟩
def dkwX0_getsOver_1 : List UInt8 := [182, 0, 206, 43, 180, 0, 210, 28, 46, 161, 0, 7, 4, 167, 0, 4, 3, 172]
abbrev dktX0_getsOver_1 : List UInt8 := dkwX0_getsOver_1 ++ []
def dkwX0_getsOver_0 : List UInt8 := [43, 180, 0, 196, 28, 46, 154, 0, 34, 42, 29, 43, 180, 0, 199, 182, 0, 202, 153, 0, 22, 42, 43, 29]
abbrev dktX0_getsOver_0 : List UInt8 := dkwX0_getsOver_0 ++ dktX0_getsOver_1
theorem dksX0_getsOver_0 : cX0_getsOver.data.toList.drop 0 = dktX0_getsOver_0 := by decide +kernel
theorem dksX0_getsOver_1 : cX0_getsOver.data.toList.drop 24 = dktX0_getsOver_1 := dk_seg dksX0_getsOver_0 24 rfl rfl
theorem dX0_getsOver_0 : decode cX0_getsOver 0 = .ok (.aload_n 1, 1) := dk_43 (dk_at dksX0_getsOver_0 0 rfl rfl)
theorem dX0_getsOver_1 : decode cX0_getsOver 1 = .ok (.getfield 196, 3) := dk_180 0 196 (dk_at dksX0_getsOver_0 1 rfl rfl)
theorem dX0_getsOver_4 : decode cX0_getsOver 4 = .ok (.iload_n 2, 1) := dk_28 (dk_at dksX0_getsOver_0 4 rfl rfl)
theorem dX0_getsOver_5 : decode cX0_getsOver 5 = .ok (.iaload, 1) := dk_46 (dk_at dksX0_getsOver_0 5 rfl rfl)
theorem dX0_getsOver_6 : decode cX0_getsOver 6 = .ok (.ifCond .ne 34, 3) := dk_154 0 34 (dk_at dksX0_getsOver_0 6 rfl rfl)
theorem dX0_getsOver_9 : decode cX0_getsOver 9 = .ok (.aload_n 0, 1) := dk_42 (dk_at dksX0_getsOver_0 9 rfl rfl)
theorem dX0_getsOver_10 : decode cX0_getsOver 10 = .ok (.iload_n 3, 1) := dk_29 (dk_at dksX0_getsOver_0 10 rfl rfl)
theorem dX0_getsOver_11 : decode cX0_getsOver 11 = .ok (.aload_n 1, 1) := dk_43 (dk_at dksX0_getsOver_0 11 rfl rfl)
theorem dX0_getsOver_12 : decode cX0_getsOver 12 = .ok (.getfield 199, 3) := dk_180 0 199 (dk_at dksX0_getsOver_0 12 rfl rfl)
theorem dX0_getsOver_15 : decode cX0_getsOver 15 = .ok (.invokevirtual 202, 3) := dk_182 0 202 (dk_at dksX0_getsOver_0 15 rfl rfl)
theorem dX0_getsOver_18 : decode cX0_getsOver 18 = .ok (.ifCond .eq 22, 3) := dk_153 0 22 (dk_at dksX0_getsOver_0 18 rfl rfl)
theorem dX0_getsOver_21 : decode cX0_getsOver 21 = .ok (.aload_n 0, 1) := dk_42 (dk_at dksX0_getsOver_0 21 rfl rfl)
theorem dX0_getsOver_22 : decode cX0_getsOver 22 = .ok (.aload_n 1, 1) := dk_43 (dk_at dksX0_getsOver_0 22 rfl rfl)
theorem dX0_getsOver_23 : decode cX0_getsOver 23 = .ok (.iload_n 3, 1) := dk_29 (dk_at dksX0_getsOver_0 23 rfl rfl)
theorem dX0_getsOver_24 : decode cX0_getsOver 24 = .ok (.invokevirtual 206, 3) := dk_182 0 206 (dk_at dksX0_getsOver_1 0 rfl rfl)
theorem dX0_getsOver_27 : decode cX0_getsOver 27 = .ok (.aload_n 1, 1) := dk_43 (dk_at dksX0_getsOver_1 3 rfl rfl)
theorem dX0_getsOver_28 : decode cX0_getsOver 28 = .ok (.getfield 210, 3) := dk_180 0 210 (dk_at dksX0_getsOver_1 4 rfl rfl)
theorem dX0_getsOver_31 : decode cX0_getsOver 31 = .ok (.iload_n 2, 1) := dk_28 (dk_at dksX0_getsOver_1 7 rfl rfl)
theorem dX0_getsOver_32 : decode cX0_getsOver 32 = .ok (.iaload, 1) := dk_46 (dk_at dksX0_getsOver_1 8 rfl rfl)
theorem dX0_getsOver_33 : decode cX0_getsOver 33 = .ok (.if_icmp .lt 7, 3) := dk_161 0 7 (dk_at dksX0_getsOver_1 9 rfl rfl)
theorem dX0_getsOver_36 : decode cX0_getsOver 36 = .ok (.iconst 1, 1) := dk_4 (dk_at dksX0_getsOver_1 12 rfl rfl)
theorem dX0_getsOver_37 : decode cX0_getsOver 37 = .ok (.goto 4, 3) := dk_167 0 4 (dk_at dksX0_getsOver_1 13 rfl rfl)
theorem dX0_getsOver_40 : decode cX0_getsOver 40 = .ok (.iconst 0, 1) := dk_3 (dk_at dksX0_getsOver_1 16 rfl rfl)
theorem dX0_getsOver_41 : decode cX0_getsOver 41 = .ok (.ireturn, 1) := dk_172 (dk_at dksX0_getsOver_1 17 rfl rfl)
abbrev cX0_hasWay : ByteArray := prog_1_method_24_code
def yX0_hasWay : MethodName := ⟨RX0, "hasWay", "(LTruthBridge$Gorge;I)Z"⟩
def dkwX0_hasWay_1 : List UInt8 := [132, 3, 1, 167, 255, 233, 3, 172]
abbrev dktX0_hasWay_1 : List UInt8 := dkwX0_hasWay_1 ++ []
def dkwX0_hasWay_0 : List UInt8 := [3, 62, 29, 42, 180, 0, 158, 162, 0, 21, 42, 43, 28, 29, 182, 0, 219, 153, 0, 5, 4, 172]
abbrev dktX0_hasWay_0 : List UInt8 := dkwX0_hasWay_0 ++ dktX0_hasWay_1
theorem dksX0_hasWay_0 : cX0_hasWay.data.toList.drop 0 = dktX0_hasWay_0 := by decide +kernel
theorem dksX0_hasWay_1 : cX0_hasWay.data.toList.drop 22 = dktX0_hasWay_1 := dk_seg dksX0_hasWay_0 22 rfl rfl
theorem dX0_hasWay_0 : decode cX0_hasWay 0 = .ok (.iconst 0, 1) := dk_3 (dk_at dksX0_hasWay_0 0 rfl rfl)
theorem dX0_hasWay_1 : decode cX0_hasWay 1 = .ok (.istore_n 3, 1) := dk_62 (dk_at dksX0_hasWay_0 1 rfl rfl)
theorem dX0_hasWay_2 : decode cX0_hasWay 2 = .ok (.iload_n 3, 1) := dk_29 (dk_at dksX0_hasWay_0 2 rfl rfl)
theorem dX0_hasWay_3 : decode cX0_hasWay 3 = .ok (.aload_n 0, 1) := dk_42 (dk_at dksX0_hasWay_0 3 rfl rfl)
theorem dX0_hasWay_4 : decode cX0_hasWay 4 = .ok (.getfield 158, 3) := dk_180 0 158 (dk_at dksX0_hasWay_0 4 rfl rfl)
theorem dX0_hasWay_7 : decode cX0_hasWay 7 = .ok (.if_icmp .ge 21, 3) := dk_162 0 21 (dk_at dksX0_hasWay_0 7 rfl rfl)
theorem dX0_hasWay_10 : decode cX0_hasWay 10 = .ok (.aload_n 0, 1) := dk_42 (dk_at dksX0_hasWay_0 10 rfl rfl)
theorem dX0_hasWay_11 : decode cX0_hasWay 11 = .ok (.aload_n 1, 1) := dk_43 (dk_at dksX0_hasWay_0 11 rfl rfl)
theorem dX0_hasWay_12 : decode cX0_hasWay 12 = .ok (.iload_n 2, 1) := dk_28 (dk_at dksX0_hasWay_0 12 rfl rfl)
theorem dX0_hasWay_13 : decode cX0_hasWay 13 = .ok (.iload_n 3, 1) := dk_29 (dk_at dksX0_hasWay_0 13 rfl rfl)
theorem dX0_hasWay_14 : decode cX0_hasWay 14 = .ok (.invokevirtual 219, 3) := dk_182 0 219 (dk_at dksX0_hasWay_0 14 rfl rfl)
theorem dX0_hasWay_17 : decode cX0_hasWay 17 = .ok (.ifCond .eq 5, 3) := dk_153 0 5 (dk_at dksX0_hasWay_0 17 rfl rfl)
theorem dX0_hasWay_20 : decode cX0_hasWay 20 = .ok (.iconst 1, 1) := dk_4 (dk_at dksX0_hasWay_0 20 rfl rfl)
theorem dX0_hasWay_21 : decode cX0_hasWay 21 = .ok (.ireturn, 1) := dk_172 (dk_at dksX0_hasWay_0 21 rfl rfl)
theorem dX0_hasWay_22 : decode cX0_hasWay 22 = .ok (.iinc 3 1, 3) := dk_132 3 1 (dk_at dksX0_hasWay_1 0 rfl rfl)
theorem dX0_hasWay_25 : decode cX0_hasWay 25 = .ok (.goto (-23), 3) := dk_167 255 233 (dk_at dksX0_hasWay_1 3 rfl rfl)
theorem dX0_hasWay_28 : decode cX0_hasWay 28 = .ok (.iconst 0, 1) := dk_3 (dk_at dksX0_hasWay_1 6 rfl rfl)
theorem dX0_hasWay_29 : decode cX0_hasWay 29 = .ok (.ireturn, 1) := dk_172 (dk_at dksX0_hasWay_1 7 rfl rfl)
abbrev cX0_plan : ByteArray := prog_1_method_57_code
def yX0_plan : MethodName := ⟨RX0, "plan", "(II)I"⟩
def dkwX0_plan_9 : List UInt8 := [5, 42, 180, 1, 113, 104, 163, 0, 14, 42, 180, 0, 98, 28, 4, 100, 46, 167, 0, 5, 16, 254, 172]
abbrev dktX0_plan_9 : List UInt8 := dkwX0_plan_9 ++ []
def dkwX0_plan_8 : List UInt8 := [42, 180, 0, 142, 182, 0, 138, 3, 3, 182, 1, 122, 28, 154, 0, 10, 42, 180, 1, 113, 167, 0, 26, 28]
abbrev dktX0_plan_8 : List UInt8 := dkwX0_plan_8 ++ dktX0_plan_9
def dkwX0_plan_7 : List UInt8 := [180, 1, 116, 4, 96, 181, 1, 116, 132, 4, 1, 167, 255, 189, 42, 3, 181, 1, 113, 42, 42, 180, 0, 20]
abbrev dktX0_plan_7 : List UInt8 := dkwX0_plan_7 ++ dktX0_plan_8
def dkwX0_plan_6 : List UInt8 := [21, 4, 46, 4, 160, 0, 6, 167, 0, 24, 42, 180, 0, 91, 42, 180, 1, 116, 21, 4, 79, 42, 89]
abbrev dktX0_plan_6 : List UInt8 := dkwX0_plan_6 ++ dktX0_plan_7
def dkwX0_plan_5 : List UInt8 := [162, 0, 61, 42, 180, 0, 142, 180, 0, 225, 21, 4, 46, 27, 160, 0, 41, 42, 180, 0, 142, 180, 0, 196]
abbrev dktX0_plan_5 : List UInt8 := dkwX0_plan_5 ++ dktX0_plan_6
def dkwX0_plan_4 : List UInt8 := [164, 0, 6, 16, 253, 172, 42, 3, 181, 1, 116, 3, 54, 4, 21, 4, 42, 180, 0, 142, 180, 0, 145]
abbrev dktX0_plan_4 : List UInt8 := dkwX0_plan_4 ++ dktX0_plan_5
def dkwX0_plan_3 : List UInt8 := [180, 0, 196, 21, 4, 46, 154, 0, 7, 4, 167, 0, 4, 3, 96, 62, 132, 4, 1, 167, 255, 206, 29, 7]
abbrev dktX0_plan_3 : List UInt8 := dkwX0_plan_3 ++ dktX0_plan_4
def dkwX0_plan_2 : List UInt8 := [162, 0, 44, 29, 42, 180, 0, 142, 180, 0, 225, 21, 4, 46, 27, 160, 0, 20, 42, 180, 0, 142]
abbrev dktX0_plan_2 : List UInt8 := dkwX0_plan_2 ++ dktX0_plan_3
def dkwX0_plan_1 : List UInt8 := [184, 1, 68, 154, 0, 5, 2, 172, 3, 62, 3, 54, 4, 21, 4, 42, 180, 0, 142, 180, 0, 145]
abbrev dktX0_plan_1 : List UInt8 := dkwX0_plan_1 ++ dktX0_plan_2
def dkwX0_plan_0 : List UInt8 := [42, 180, 0, 142, 198, 0, 25, 27, 133, 9, 10, 184, 1, 68, 153, 0, 15, 28, 133, 9, 20, 1, 125]
abbrev dktX0_plan_0 : List UInt8 := dkwX0_plan_0 ++ dktX0_plan_1
theorem dksX0_plan_0 : cX0_plan.data.toList.drop 0 = dktX0_plan_0 := by decide +kernel
theorem dksX0_plan_1 : cX0_plan.data.toList.drop 23 = dktX0_plan_1 := dk_seg dksX0_plan_0 23 rfl rfl
theorem dksX0_plan_2 : cX0_plan.data.toList.drop 45 = dktX0_plan_2 := dk_seg dksX0_plan_1 22 rfl rfl
theorem dksX0_plan_3 : cX0_plan.data.toList.drop 67 = dktX0_plan_3 := dk_seg dksX0_plan_2 22 rfl rfl
theorem dksX0_plan_4 : cX0_plan.data.toList.drop 91 = dktX0_plan_4 := dk_seg dksX0_plan_3 24 rfl rfl
theorem dksX0_plan_5 : cX0_plan.data.toList.drop 114 = dktX0_plan_5 := dk_seg dksX0_plan_4 23 rfl rfl
theorem dksX0_plan_6 : cX0_plan.data.toList.drop 138 = dktX0_plan_6 := dk_seg dksX0_plan_5 24 rfl rfl
theorem dksX0_plan_7 : cX0_plan.data.toList.drop 161 = dktX0_plan_7 := dk_seg dksX0_plan_6 23 rfl rfl
theorem dksX0_plan_8 : cX0_plan.data.toList.drop 185 = dktX0_plan_8 := dk_seg dksX0_plan_7 24 rfl rfl
theorem dksX0_plan_9 : cX0_plan.data.toList.drop 209 = dktX0_plan_9 := dk_seg dksX0_plan_8 24 rfl rfl
theorem dX0_plan_0 : decode cX0_plan 0 = .ok (.aload_n 0, 1) := dk_42 (dk_at dksX0_plan_0 0 rfl rfl)
theorem dX0_plan_1 : decode cX0_plan 1 = .ok (.getfield 142, 3) := dk_180 0 142 (dk_at dksX0_plan_0 1 rfl rfl)
theorem dX0_plan_4 : decode cX0_plan 4 = .ok (.ifnull 25, 3) := dk_198 0 25 (dk_at dksX0_plan_0 4 rfl rfl)
theorem dX0_plan_7 : decode cX0_plan 7 = .ok (.iload_n 1, 1) := dk_27 (dk_at dksX0_plan_0 7 rfl rfl)
theorem dX0_plan_8 : decode cX0_plan 8 = .ok (.i2l, 1) := dk_133 (dk_at dksX0_plan_0 8 rfl rfl)
theorem dX0_plan_9 : decode cX0_plan 9 = .ok (.lconst 0, 1) := dk_9 (dk_at dksX0_plan_0 9 rfl rfl)
theorem dX0_plan_10 : decode cX0_plan 10 = .ok (.lconst 1, 1) := dk_10 (dk_at dksX0_plan_0 10 rfl rfl)
theorem dX0_plan_11 : decode cX0_plan 11 = .ok (.invokestatic 324, 3) := dk_184 1 68 (dk_at dksX0_plan_0 11 rfl rfl)
theorem dX0_plan_14 : decode cX0_plan 14 = .ok (.ifCond .eq 15, 3) := dk_153 0 15 (dk_at dksX0_plan_0 14 rfl rfl)
theorem dX0_plan_17 : decode cX0_plan 17 = .ok (.iload_n 2, 1) := dk_28 (dk_at dksX0_plan_0 17 rfl rfl)
theorem dX0_plan_18 : decode cX0_plan 18 = .ok (.i2l, 1) := dk_133 (dk_at dksX0_plan_0 18 rfl rfl)
theorem dX0_plan_19 : decode cX0_plan 19 = .ok (.lconst 0, 1) := dk_9 (dk_at dksX0_plan_0 19 rfl rfl)
theorem dX0_plan_20 : decode cX0_plan 20 = .ok (.ldc2_w 381, 3) := dk_20 1 125 (dk_at dksX0_plan_0 20 rfl rfl)
theorem dX0_plan_23 : decode cX0_plan 23 = .ok (.invokestatic 324, 3) := dk_184 1 68 (dk_at dksX0_plan_1 0 rfl rfl)
theorem dX0_plan_26 : decode cX0_plan 26 = .ok (.ifCond .ne 5, 3) := dk_154 0 5 (dk_at dksX0_plan_1 3 rfl rfl)
theorem dX0_plan_29 : decode cX0_plan 29 = .ok (.iconst (-1), 1) := dk_2 (dk_at dksX0_plan_1 6 rfl rfl)
theorem dX0_plan_30 : decode cX0_plan 30 = .ok (.ireturn, 1) := dk_172 (dk_at dksX0_plan_1 7 rfl rfl)
theorem dX0_plan_31 : decode cX0_plan 31 = .ok (.iconst 0, 1) := dk_3 (dk_at dksX0_plan_1 8 rfl rfl)
theorem dX0_plan_32 : decode cX0_plan 32 = .ok (.istore_n 3, 1) := dk_62 (dk_at dksX0_plan_1 9 rfl rfl)
theorem dX0_plan_33 : decode cX0_plan 33 = .ok (.iconst 0, 1) := dk_3 (dk_at dksX0_plan_1 10 rfl rfl)
theorem dX0_plan_34 : decode cX0_plan 34 = .ok (.istore 4, 2) := dk_54 4 (dk_at dksX0_plan_1 11 rfl rfl)
theorem dX0_plan_36 : decode cX0_plan 36 = .ok (.iload 4, 2) := dk_21 4 (dk_at dksX0_plan_1 13 rfl rfl)
theorem dX0_plan_38 : decode cX0_plan 38 = .ok (.aload_n 0, 1) := dk_42 (dk_at dksX0_plan_1 15 rfl rfl)
theorem dX0_plan_39 : decode cX0_plan 39 = .ok (.getfield 142, 3) := dk_180 0 142 (dk_at dksX0_plan_1 16 rfl rfl)
theorem dX0_plan_42 : decode cX0_plan 42 = .ok (.getfield 145, 3) := dk_180 0 145 (dk_at dksX0_plan_1 19 rfl rfl)
theorem dX0_plan_45 : decode cX0_plan 45 = .ok (.if_icmp .ge 44, 3) := dk_162 0 44 (dk_at dksX0_plan_2 0 rfl rfl)
theorem dX0_plan_48 : decode cX0_plan 48 = .ok (.iload_n 3, 1) := dk_29 (dk_at dksX0_plan_2 3 rfl rfl)
theorem dX0_plan_49 : decode cX0_plan 49 = .ok (.aload_n 0, 1) := dk_42 (dk_at dksX0_plan_2 4 rfl rfl)
theorem dX0_plan_50 : decode cX0_plan 50 = .ok (.getfield 142, 3) := dk_180 0 142 (dk_at dksX0_plan_2 5 rfl rfl)
theorem dX0_plan_53 : decode cX0_plan 53 = .ok (.getfield 225, 3) := dk_180 0 225 (dk_at dksX0_plan_2 8 rfl rfl)
theorem dX0_plan_56 : decode cX0_plan 56 = .ok (.iload 4, 2) := dk_21 4 (dk_at dksX0_plan_2 11 rfl rfl)
theorem dX0_plan_58 : decode cX0_plan 58 = .ok (.iaload, 1) := dk_46 (dk_at dksX0_plan_2 13 rfl rfl)
theorem dX0_plan_59 : decode cX0_plan 59 = .ok (.iload_n 1, 1) := dk_27 (dk_at dksX0_plan_2 14 rfl rfl)
theorem dX0_plan_60 : decode cX0_plan 60 = .ok (.if_icmp .ne 20, 3) := dk_160 0 20 (dk_at dksX0_plan_2 15 rfl rfl)
theorem dX0_plan_63 : decode cX0_plan 63 = .ok (.aload_n 0, 1) := dk_42 (dk_at dksX0_plan_2 18 rfl rfl)
theorem dX0_plan_64 : decode cX0_plan 64 = .ok (.getfield 142, 3) := dk_180 0 142 (dk_at dksX0_plan_2 19 rfl rfl)
theorem dX0_plan_67 : decode cX0_plan 67 = .ok (.getfield 196, 3) := dk_180 0 196 (dk_at dksX0_plan_3 0 rfl rfl)
theorem dX0_plan_70 : decode cX0_plan 70 = .ok (.iload 4, 2) := dk_21 4 (dk_at dksX0_plan_3 3 rfl rfl)
theorem dX0_plan_72 : decode cX0_plan 72 = .ok (.iaload, 1) := dk_46 (dk_at dksX0_plan_3 5 rfl rfl)
theorem dX0_plan_73 : decode cX0_plan 73 = .ok (.ifCond .ne 7, 3) := dk_154 0 7 (dk_at dksX0_plan_3 6 rfl rfl)
theorem dX0_plan_76 : decode cX0_plan 76 = .ok (.iconst 1, 1) := dk_4 (dk_at dksX0_plan_3 9 rfl rfl)
theorem dX0_plan_77 : decode cX0_plan 77 = .ok (.goto 4, 3) := dk_167 0 4 (dk_at dksX0_plan_3 10 rfl rfl)
theorem dX0_plan_80 : decode cX0_plan 80 = .ok (.iconst 0, 1) := dk_3 (dk_at dksX0_plan_3 13 rfl rfl)
theorem dX0_plan_81 : decode cX0_plan 81 = .ok (.iadd, 1) := dk_96 (dk_at dksX0_plan_3 14 rfl rfl)
theorem dX0_plan_82 : decode cX0_plan 82 = .ok (.istore_n 3, 1) := dk_62 (dk_at dksX0_plan_3 15 rfl rfl)
theorem dX0_plan_83 : decode cX0_plan 83 = .ok (.iinc 4 1, 3) := dk_132 4 1 (dk_at dksX0_plan_3 16 rfl rfl)
theorem dX0_plan_86 : decode cX0_plan 86 = .ok (.goto (-50), 3) := dk_167 255 206 (dk_at dksX0_plan_3 19 rfl rfl)
theorem dX0_plan_89 : decode cX0_plan 89 = .ok (.iload_n 3, 1) := dk_29 (dk_at dksX0_plan_3 22 rfl rfl)
theorem dX0_plan_90 : decode cX0_plan 90 = .ok (.iconst 4, 1) := dk_7 (dk_at dksX0_plan_3 23 rfl rfl)
theorem dX0_plan_91 : decode cX0_plan 91 = .ok (.if_icmp .le 6, 3) := dk_164 0 6 (dk_at dksX0_plan_4 0 rfl rfl)
theorem dX0_plan_94 : decode cX0_plan 94 = .ok (.bipush (-3), 2) := dk_16 253 (dk_at dksX0_plan_4 3 rfl rfl)
theorem dX0_plan_96 : decode cX0_plan 96 = .ok (.ireturn, 1) := dk_172 (dk_at dksX0_plan_4 5 rfl rfl)
theorem dX0_plan_97 : decode cX0_plan 97 = .ok (.aload_n 0, 1) := dk_42 (dk_at dksX0_plan_4 6 rfl rfl)
theorem dX0_plan_98 : decode cX0_plan 98 = .ok (.iconst 0, 1) := dk_3 (dk_at dksX0_plan_4 7 rfl rfl)
theorem dX0_plan_99 : decode cX0_plan 99 = .ok (.putfield 372, 3) := dk_181 1 116 (dk_at dksX0_plan_4 8 rfl rfl)
theorem dX0_plan_102 : decode cX0_plan 102 = .ok (.iconst 0, 1) := dk_3 (dk_at dksX0_plan_4 11 rfl rfl)
theorem dX0_plan_103 : decode cX0_plan 103 = .ok (.istore 4, 2) := dk_54 4 (dk_at dksX0_plan_4 12 rfl rfl)
theorem dX0_plan_105 : decode cX0_plan 105 = .ok (.iload 4, 2) := dk_21 4 (dk_at dksX0_plan_4 14 rfl rfl)
theorem dX0_plan_107 : decode cX0_plan 107 = .ok (.aload_n 0, 1) := dk_42 (dk_at dksX0_plan_4 16 rfl rfl)
theorem dX0_plan_108 : decode cX0_plan 108 = .ok (.getfield 142, 3) := dk_180 0 142 (dk_at dksX0_plan_4 17 rfl rfl)
theorem dX0_plan_111 : decode cX0_plan 111 = .ok (.getfield 145, 3) := dk_180 0 145 (dk_at dksX0_plan_4 20 rfl rfl)
theorem dX0_plan_114 : decode cX0_plan 114 = .ok (.if_icmp .ge 61, 3) := dk_162 0 61 (dk_at dksX0_plan_5 0 rfl rfl)
theorem dX0_plan_117 : decode cX0_plan 117 = .ok (.aload_n 0, 1) := dk_42 (dk_at dksX0_plan_5 3 rfl rfl)
theorem dX0_plan_118 : decode cX0_plan 118 = .ok (.getfield 142, 3) := dk_180 0 142 (dk_at dksX0_plan_5 4 rfl rfl)
theorem dX0_plan_121 : decode cX0_plan 121 = .ok (.getfield 225, 3) := dk_180 0 225 (dk_at dksX0_plan_5 7 rfl rfl)
theorem dX0_plan_124 : decode cX0_plan 124 = .ok (.iload 4, 2) := dk_21 4 (dk_at dksX0_plan_5 10 rfl rfl)
theorem dX0_plan_126 : decode cX0_plan 126 = .ok (.iaload, 1) := dk_46 (dk_at dksX0_plan_5 12 rfl rfl)
theorem dX0_plan_127 : decode cX0_plan 127 = .ok (.iload_n 1, 1) := dk_27 (dk_at dksX0_plan_5 13 rfl rfl)
theorem dX0_plan_128 : decode cX0_plan 128 = .ok (.if_icmp .ne 41, 3) := dk_160 0 41 (dk_at dksX0_plan_5 14 rfl rfl)
theorem dX0_plan_131 : decode cX0_plan 131 = .ok (.aload_n 0, 1) := dk_42 (dk_at dksX0_plan_5 17 rfl rfl)
theorem dX0_plan_132 : decode cX0_plan 132 = .ok (.getfield 142, 3) := dk_180 0 142 (dk_at dksX0_plan_5 18 rfl rfl)
theorem dX0_plan_135 : decode cX0_plan 135 = .ok (.getfield 196, 3) := dk_180 0 196 (dk_at dksX0_plan_5 21 rfl rfl)
theorem dX0_plan_138 : decode cX0_plan 138 = .ok (.iload 4, 2) := dk_21 4 (dk_at dksX0_plan_6 0 rfl rfl)
theorem dX0_plan_140 : decode cX0_plan 140 = .ok (.iaload, 1) := dk_46 (dk_at dksX0_plan_6 2 rfl rfl)
theorem dX0_plan_141 : decode cX0_plan 141 = .ok (.iconst 1, 1) := dk_4 (dk_at dksX0_plan_6 3 rfl rfl)
theorem dX0_plan_142 : decode cX0_plan 142 = .ok (.if_icmp .ne 6, 3) := dk_160 0 6 (dk_at dksX0_plan_6 4 rfl rfl)
theorem dX0_plan_145 : decode cX0_plan 145 = .ok (.goto 24, 3) := dk_167 0 24 (dk_at dksX0_plan_6 7 rfl rfl)
theorem dX0_plan_148 : decode cX0_plan 148 = .ok (.aload_n 0, 1) := dk_42 (dk_at dksX0_plan_6 10 rfl rfl)
theorem dX0_plan_149 : decode cX0_plan 149 = .ok (.getfield 91, 3) := dk_180 0 91 (dk_at dksX0_plan_6 11 rfl rfl)
theorem dX0_plan_152 : decode cX0_plan 152 = .ok (.aload_n 0, 1) := dk_42 (dk_at dksX0_plan_6 14 rfl rfl)
theorem dX0_plan_153 : decode cX0_plan 153 = .ok (.getfield 372, 3) := dk_180 1 116 (dk_at dksX0_plan_6 15 rfl rfl)
theorem dX0_plan_156 : decode cX0_plan 156 = .ok (.iload 4, 2) := dk_21 4 (dk_at dksX0_plan_6 18 rfl rfl)
theorem dX0_plan_158 : decode cX0_plan 158 = .ok (.iastore, 1) := dk_79 (dk_at dksX0_plan_6 20 rfl rfl)
theorem dX0_plan_159 : decode cX0_plan 159 = .ok (.aload_n 0, 1) := dk_42 (dk_at dksX0_plan_6 21 rfl rfl)
theorem dX0_plan_160 : decode cX0_plan 160 = .ok (.dup, 1) := dk_89 (dk_at dksX0_plan_6 22 rfl rfl)
theorem dX0_plan_161 : decode cX0_plan 161 = .ok (.getfield 372, 3) := dk_180 1 116 (dk_at dksX0_plan_7 0 rfl rfl)
theorem dX0_plan_164 : decode cX0_plan 164 = .ok (.iconst 1, 1) := dk_4 (dk_at dksX0_plan_7 3 rfl rfl)
theorem dX0_plan_165 : decode cX0_plan 165 = .ok (.iadd, 1) := dk_96 (dk_at dksX0_plan_7 4 rfl rfl)
theorem dX0_plan_166 : decode cX0_plan 166 = .ok (.putfield 372, 3) := dk_181 1 116 (dk_at dksX0_plan_7 5 rfl rfl)
theorem dX0_plan_169 : decode cX0_plan 169 = .ok (.iinc 4 1, 3) := dk_132 4 1 (dk_at dksX0_plan_7 8 rfl rfl)
theorem dX0_plan_172 : decode cX0_plan 172 = .ok (.goto (-67), 3) := dk_167 255 189 (dk_at dksX0_plan_7 11 rfl rfl)
theorem dX0_plan_175 : decode cX0_plan 175 = .ok (.aload_n 0, 1) := dk_42 (dk_at dksX0_plan_7 14 rfl rfl)
theorem dX0_plan_176 : decode cX0_plan 176 = .ok (.iconst 0, 1) := dk_3 (dk_at dksX0_plan_7 15 rfl rfl)
theorem dX0_plan_177 : decode cX0_plan 177 = .ok (.putfield 369, 3) := dk_181 1 113 (dk_at dksX0_plan_7 16 rfl rfl)
theorem dX0_plan_180 : decode cX0_plan 180 = .ok (.aload_n 0, 1) := dk_42 (dk_at dksX0_plan_7 19 rfl rfl)
theorem dX0_plan_181 : decode cX0_plan 181 = .ok (.aload_n 0, 1) := dk_42 (dk_at dksX0_plan_7 20 rfl rfl)
theorem dX0_plan_182 : decode cX0_plan 182 = .ok (.getfield 20, 3) := dk_180 0 20 (dk_at dksX0_plan_7 21 rfl rfl)
theorem dX0_plan_185 : decode cX0_plan 185 = .ok (.aload_n 0, 1) := dk_42 (dk_at dksX0_plan_8 0 rfl rfl)
theorem dX0_plan_186 : decode cX0_plan 186 = .ok (.getfield 142, 3) := dk_180 0 142 (dk_at dksX0_plan_8 1 rfl rfl)
theorem dX0_plan_189 : decode cX0_plan 189 = .ok (.invokevirtual 138, 3) := dk_182 0 138 (dk_at dksX0_plan_8 4 rfl rfl)
theorem dX0_plan_192 : decode cX0_plan 192 = .ok (.iconst 0, 1) := dk_3 (dk_at dksX0_plan_8 7 rfl rfl)
theorem dX0_plan_193 : decode cX0_plan 193 = .ok (.iconst 0, 1) := dk_3 (dk_at dksX0_plan_8 8 rfl rfl)
theorem dX0_plan_194 : decode cX0_plan 194 = .ok (.invokevirtual 378, 3) := dk_182 1 122 (dk_at dksX0_plan_8 9 rfl rfl)
theorem dX0_plan_197 : decode cX0_plan 197 = .ok (.iload_n 2, 1) := dk_28 (dk_at dksX0_plan_8 12 rfl rfl)
theorem dX0_plan_198 : decode cX0_plan 198 = .ok (.ifCond .ne 10, 3) := dk_154 0 10 (dk_at dksX0_plan_8 13 rfl rfl)
theorem dX0_plan_201 : decode cX0_plan 201 = .ok (.aload_n 0, 1) := dk_42 (dk_at dksX0_plan_8 16 rfl rfl)
theorem dX0_plan_202 : decode cX0_plan 202 = .ok (.getfield 369, 3) := dk_180 1 113 (dk_at dksX0_plan_8 17 rfl rfl)
theorem dX0_plan_205 : decode cX0_plan 205 = .ok (.goto 26, 3) := dk_167 0 26 (dk_at dksX0_plan_8 20 rfl rfl)
theorem dX0_plan_208 : decode cX0_plan 208 = .ok (.iload_n 2, 1) := dk_28 (dk_at dksX0_plan_8 23 rfl rfl)
theorem dX0_plan_209 : decode cX0_plan 209 = .ok (.iconst 2, 1) := dk_5 (dk_at dksX0_plan_9 0 rfl rfl)
theorem dX0_plan_210 : decode cX0_plan 210 = .ok (.aload_n 0, 1) := dk_42 (dk_at dksX0_plan_9 1 rfl rfl)
theorem dX0_plan_211 : decode cX0_plan 211 = .ok (.getfield 369, 3) := dk_180 1 113 (dk_at dksX0_plan_9 2 rfl rfl)
theorem dX0_plan_214 : decode cX0_plan 214 = .ok (.imul, 1) := dk_104 (dk_at dksX0_plan_9 5 rfl rfl)
theorem dX0_plan_215 : decode cX0_plan 215 = .ok (.if_icmp .gt 14, 3) := dk_163 0 14 (dk_at dksX0_plan_9 6 rfl rfl)
theorem dX0_plan_218 : decode cX0_plan 218 = .ok (.aload_n 0, 1) := dk_42 (dk_at dksX0_plan_9 9 rfl rfl)
theorem dX0_plan_219 : decode cX0_plan 219 = .ok (.getfield 98, 3) := dk_180 0 98 (dk_at dksX0_plan_9 10 rfl rfl)
theorem dX0_plan_222 : decode cX0_plan 222 = .ok (.iload_n 2, 1) := dk_28 (dk_at dksX0_plan_9 13 rfl rfl)
theorem dX0_plan_223 : decode cX0_plan 223 = .ok (.iconst 1, 1) := dk_4 (dk_at dksX0_plan_9 14 rfl rfl)
theorem dX0_plan_224 : decode cX0_plan 224 = .ok (.isub, 1) := dk_100 (dk_at dksX0_plan_9 15 rfl rfl)
theorem dX0_plan_225 : decode cX0_plan 225 = .ok (.iaload, 1) := dk_46 (dk_at dksX0_plan_9 16 rfl rfl)
theorem dX0_plan_226 : decode cX0_plan 226 = .ok (.goto 5, 3) := dk_167 0 5 (dk_at dksX0_plan_9 17 rfl rfl)
theorem dX0_plan_229 : decode cX0_plan 229 = .ok (.bipush (-2), 2) := dk_16 254 (dk_at dksX0_plan_9 20 rfl rfl)
theorem dX0_plan_231 : decode cX0_plan 231 = .ok (.ireturn, 1) := dk_172 (dk_at dksX0_plan_9 22 rfl rfl)
abbrev cX0_plans : ByteArray := prog_1_method_56_code
def yX0_plans : MethodName := ⟨RX0, "plans", "(LTruthBridge$Gorge;II)V"⟩
def dkwX0_plans_8 : List UInt8 := [184, 1, 14, 132, 5, 1, 167, 255, 143, 132, 4, 1, 167, 255, 125, 177]
abbrev dktX0_plans_8 : List UInt8 := dkwX0_plans_8 ++ []
def dkwX0_plans_7 : List UInt8 := [96, 29, 4, 21, 4, 120, 128, 182, 1, 122, 42, 180, 0, 101, 7, 28, 104, 43, 180, 0, 185, 16, 24, 7]
abbrev dktX0_plans_7 : List UInt8 := dkwX0_plans_7 ++ dktX0_plans_8
def dkwX0_plans_6 : List UInt8 := [180, 0, 95, 5, 28, 104, 4, 96, 21, 5, 79, 42, 43, 16, 6, 21, 5, 182, 1, 28, 42, 43, 28, 4]
abbrev dktX0_plans_6 : List UInt8 := dkwX0_plans_6 ++ dktX0_plans_7
def dkwX0_plans_5 : List UInt8 := [154, 0, 6, 167, 0, 70, 42, 180, 0, 95, 5, 28, 104, 42, 180, 0, 91, 21, 4, 46, 79, 42]
abbrev dktX0_plans_5 : List UInt8 := dkwX0_plans_5 ++ dktX0_plans_6
def dkwX0_plans_4 : List UInt8 := [21, 4, 184, 0, 243, 154, 0, 96, 42, 43, 42, 180, 0, 91, 21, 4, 46, 21, 5, 182, 0, 219]
abbrev dktX0_plans_4 : List UInt8 := dkwX0_plans_4 ++ dktX0_plans_5
def dkwX0_plans_3 : List UInt8 := [180, 1, 116, 162, 0, 128, 3, 54, 5, 21, 5, 16, 8, 42, 180, 0, 158, 184, 1, 119, 162, 0, 105, 29]
abbrev dktX0_plans_3 : List UInt8 := dkwX0_plans_3 ++ dktX0_plans_4
def dkwX0_plans_2 : List UInt8 := [177, 43, 180, 0, 185, 16, 24, 42, 180, 0, 101, 7, 28, 104, 7, 184, 1, 14, 3, 54, 4, 21, 4, 42]
abbrev dktX0_plans_2 : List UInt8 := dkwX0_plans_2 ++ dktX0_plans_3
def dkwX0_plans_1 : List UInt8 := [16, 8, 184, 1, 14, 28, 42, 180, 1, 116, 159, 0, 14, 42, 180, 1, 113, 42, 180, 1, 116, 160, 0, 4]
abbrev dktX0_plans_1 : List UInt8 := dkwX0_plans_1 ++ dktX0_plans_2
def dkwX0_plans_0 : List UInt8 := [28, 42, 180, 1, 113, 164, 0, 23, 42, 28, 181, 1, 113, 42, 180, 0, 95, 3, 42, 180, 0, 98, 3]
abbrev dktX0_plans_0 : List UInt8 := dkwX0_plans_0 ++ dktX0_plans_1
theorem dksX0_plans_0 : cX0_plans.data.toList.drop 0 = dktX0_plans_0 := by decide +kernel
theorem dksX0_plans_1 : cX0_plans.data.toList.drop 23 = dktX0_plans_1 := dk_seg dksX0_plans_0 23 rfl rfl
theorem dksX0_plans_2 : cX0_plans.data.toList.drop 47 = dktX0_plans_2 := dk_seg dksX0_plans_1 24 rfl rfl
theorem dksX0_plans_3 : cX0_plans.data.toList.drop 71 = dktX0_plans_3 := dk_seg dksX0_plans_2 24 rfl rfl
theorem dksX0_plans_4 : cX0_plans.data.toList.drop 95 = dktX0_plans_4 := dk_seg dksX0_plans_3 24 rfl rfl
theorem dksX0_plans_5 : cX0_plans.data.toList.drop 117 = dktX0_plans_5 := dk_seg dksX0_plans_4 22 rfl rfl
theorem dksX0_plans_6 : cX0_plans.data.toList.drop 139 = dktX0_plans_6 := dk_seg dksX0_plans_5 22 rfl rfl
theorem dksX0_plans_7 : cX0_plans.data.toList.drop 163 = dktX0_plans_7 := dk_seg dksX0_plans_6 24 rfl rfl
theorem dksX0_plans_8 : cX0_plans.data.toList.drop 187 = dktX0_plans_8 := dk_seg dksX0_plans_7 24 rfl rfl
theorem dX0_plans_0 : decode cX0_plans 0 = .ok (.iload_n 2, 1) := dk_28 (dk_at dksX0_plans_0 0 rfl rfl)
theorem dX0_plans_1 : decode cX0_plans 1 = .ok (.aload_n 0, 1) := dk_42 (dk_at dksX0_plans_0 1 rfl rfl)
theorem dX0_plans_2 : decode cX0_plans 2 = .ok (.getfield 369, 3) := dk_180 1 113 (dk_at dksX0_plans_0 2 rfl rfl)
theorem dX0_plans_5 : decode cX0_plans 5 = .ok (.if_icmp .le 23, 3) := dk_164 0 23 (dk_at dksX0_plans_0 5 rfl rfl)
theorem dX0_plans_8 : decode cX0_plans 8 = .ok (.aload_n 0, 1) := dk_42 (dk_at dksX0_plans_0 8 rfl rfl)
theorem dX0_plans_9 : decode cX0_plans 9 = .ok (.iload_n 2, 1) := dk_28 (dk_at dksX0_plans_0 9 rfl rfl)
theorem dX0_plans_10 : decode cX0_plans 10 = .ok (.putfield 369, 3) := dk_181 1 113 (dk_at dksX0_plans_0 10 rfl rfl)
theorem dX0_plans_13 : decode cX0_plans 13 = .ok (.aload_n 0, 1) := dk_42 (dk_at dksX0_plans_0 13 rfl rfl)
theorem dX0_plans_14 : decode cX0_plans 14 = .ok (.getfield 95, 3) := dk_180 0 95 (dk_at dksX0_plans_0 14 rfl rfl)
theorem dX0_plans_17 : decode cX0_plans 17 = .ok (.iconst 0, 1) := dk_3 (dk_at dksX0_plans_0 17 rfl rfl)
theorem dX0_plans_18 : decode cX0_plans 18 = .ok (.aload_n 0, 1) := dk_42 (dk_at dksX0_plans_0 18 rfl rfl)
theorem dX0_plans_19 : decode cX0_plans 19 = .ok (.getfield 98, 3) := dk_180 0 98 (dk_at dksX0_plans_0 19 rfl rfl)
theorem dX0_plans_22 : decode cX0_plans 22 = .ok (.iconst 0, 1) := dk_3 (dk_at dksX0_plans_0 22 rfl rfl)
theorem dX0_plans_23 : decode cX0_plans 23 = .ok (.bipush 8, 2) := dk_16 8 (dk_at dksX0_plans_1 0 rfl rfl)
theorem dX0_plans_25 : decode cX0_plans 25 = .ok (.invokestatic 270, 3) := dk_184 1 14 (dk_at dksX0_plans_1 2 rfl rfl)
theorem dX0_plans_28 : decode cX0_plans 28 = .ok (.iload_n 2, 1) := dk_28 (dk_at dksX0_plans_1 5 rfl rfl)
theorem dX0_plans_29 : decode cX0_plans 29 = .ok (.aload_n 0, 1) := dk_42 (dk_at dksX0_plans_1 6 rfl rfl)
theorem dX0_plans_30 : decode cX0_plans 30 = .ok (.getfield 372, 3) := dk_180 1 116 (dk_at dksX0_plans_1 7 rfl rfl)
theorem dX0_plans_33 : decode cX0_plans 33 = .ok (.if_icmp .eq 14, 3) := dk_159 0 14 (dk_at dksX0_plans_1 10 rfl rfl)
theorem dX0_plans_36 : decode cX0_plans 36 = .ok (.aload_n 0, 1) := dk_42 (dk_at dksX0_plans_1 13 rfl rfl)
theorem dX0_plans_37 : decode cX0_plans 37 = .ok (.getfield 369, 3) := dk_180 1 113 (dk_at dksX0_plans_1 14 rfl rfl)
theorem dX0_plans_40 : decode cX0_plans 40 = .ok (.aload_n 0, 1) := dk_42 (dk_at dksX0_plans_1 17 rfl rfl)
theorem dX0_plans_41 : decode cX0_plans 41 = .ok (.getfield 372, 3) := dk_180 1 116 (dk_at dksX0_plans_1 18 rfl rfl)
theorem dX0_plans_44 : decode cX0_plans 44 = .ok (.if_icmp .ne 4, 3) := dk_160 0 4 (dk_at dksX0_plans_1 21 rfl rfl)
theorem dX0_plans_47 : decode cX0_plans 47 = .ok (.return_, 1) := dk_177 (dk_at dksX0_plans_2 0 rfl rfl)
theorem dX0_plans_48 : decode cX0_plans 48 = .ok (.aload_n 1, 1) := dk_43 (dk_at dksX0_plans_2 1 rfl rfl)
theorem dX0_plans_49 : decode cX0_plans 49 = .ok (.getfield 185, 3) := dk_180 0 185 (dk_at dksX0_plans_2 2 rfl rfl)
theorem dX0_plans_52 : decode cX0_plans 52 = .ok (.bipush 24, 2) := dk_16 24 (dk_at dksX0_plans_2 5 rfl rfl)
theorem dX0_plans_54 : decode cX0_plans 54 = .ok (.aload_n 0, 1) := dk_42 (dk_at dksX0_plans_2 7 rfl rfl)
theorem dX0_plans_55 : decode cX0_plans 55 = .ok (.getfield 101, 3) := dk_180 0 101 (dk_at dksX0_plans_2 8 rfl rfl)
theorem dX0_plans_58 : decode cX0_plans 58 = .ok (.iconst 4, 1) := dk_7 (dk_at dksX0_plans_2 11 rfl rfl)
theorem dX0_plans_59 : decode cX0_plans 59 = .ok (.iload_n 2, 1) := dk_28 (dk_at dksX0_plans_2 12 rfl rfl)
theorem dX0_plans_60 : decode cX0_plans 60 = .ok (.imul, 1) := dk_104 (dk_at dksX0_plans_2 13 rfl rfl)
theorem dX0_plans_61 : decode cX0_plans 61 = .ok (.iconst 4, 1) := dk_7 (dk_at dksX0_plans_2 14 rfl rfl)
theorem dX0_plans_62 : decode cX0_plans 62 = .ok (.invokestatic 270, 3) := dk_184 1 14 (dk_at dksX0_plans_2 15 rfl rfl)
theorem dX0_plans_65 : decode cX0_plans 65 = .ok (.iconst 0, 1) := dk_3 (dk_at dksX0_plans_2 18 rfl rfl)
theorem dX0_plans_66 : decode cX0_plans 66 = .ok (.istore 4, 2) := dk_54 4 (dk_at dksX0_plans_2 19 rfl rfl)
theorem dX0_plans_68 : decode cX0_plans 68 = .ok (.iload 4, 2) := dk_21 4 (dk_at dksX0_plans_2 21 rfl rfl)
theorem dX0_plans_70 : decode cX0_plans 70 = .ok (.aload_n 0, 1) := dk_42 (dk_at dksX0_plans_2 23 rfl rfl)
theorem dX0_plans_71 : decode cX0_plans 71 = .ok (.getfield 372, 3) := dk_180 1 116 (dk_at dksX0_plans_3 0 rfl rfl)
theorem dX0_plans_74 : decode cX0_plans 74 = .ok (.if_icmp .ge 128, 3) := dk_162 0 128 (dk_at dksX0_plans_3 3 rfl rfl)
theorem dX0_plans_77 : decode cX0_plans 77 = .ok (.iconst 0, 1) := dk_3 (dk_at dksX0_plans_3 6 rfl rfl)
theorem dX0_plans_78 : decode cX0_plans 78 = .ok (.istore 5, 2) := dk_54 5 (dk_at dksX0_plans_3 7 rfl rfl)
theorem dX0_plans_80 : decode cX0_plans 80 = .ok (.iload 5, 2) := dk_21 5 (dk_at dksX0_plans_3 9 rfl rfl)
theorem dX0_plans_82 : decode cX0_plans 82 = .ok (.bipush 8, 2) := dk_16 8 (dk_at dksX0_plans_3 11 rfl rfl)
theorem dX0_plans_84 : decode cX0_plans 84 = .ok (.aload_n 0, 1) := dk_42 (dk_at dksX0_plans_3 13 rfl rfl)
theorem dX0_plans_85 : decode cX0_plans 85 = .ok (.getfield 158, 3) := dk_180 0 158 (dk_at dksX0_plans_3 14 rfl rfl)
theorem dX0_plans_88 : decode cX0_plans 88 = .ok (.invokestatic 375, 3) := dk_184 1 119 (dk_at dksX0_plans_3 17 rfl rfl)
theorem dX0_plans_91 : decode cX0_plans 91 = .ok (.if_icmp .ge 105, 3) := dk_162 0 105 (dk_at dksX0_plans_3 20 rfl rfl)
theorem dX0_plans_94 : decode cX0_plans 94 = .ok (.iload_n 3, 1) := dk_29 (dk_at dksX0_plans_3 23 rfl rfl)
theorem dX0_plans_95 : decode cX0_plans 95 = .ok (.iload 4, 2) := dk_21 4 (dk_at dksX0_plans_4 0 rfl rfl)
theorem dX0_plans_97 : decode cX0_plans 97 = .ok (.invokestatic 243, 3) := dk_184 0 243 (dk_at dksX0_plans_4 2 rfl rfl)
theorem dX0_plans_100 : decode cX0_plans 100 = .ok (.ifCond .ne 96, 3) := dk_154 0 96 (dk_at dksX0_plans_4 5 rfl rfl)
theorem dX0_plans_103 : decode cX0_plans 103 = .ok (.aload_n 0, 1) := dk_42 (dk_at dksX0_plans_4 8 rfl rfl)
theorem dX0_plans_104 : decode cX0_plans 104 = .ok (.aload_n 1, 1) := dk_43 (dk_at dksX0_plans_4 9 rfl rfl)
theorem dX0_plans_105 : decode cX0_plans 105 = .ok (.aload_n 0, 1) := dk_42 (dk_at dksX0_plans_4 10 rfl rfl)
theorem dX0_plans_106 : decode cX0_plans 106 = .ok (.getfield 91, 3) := dk_180 0 91 (dk_at dksX0_plans_4 11 rfl rfl)
theorem dX0_plans_109 : decode cX0_plans 109 = .ok (.iload 4, 2) := dk_21 4 (dk_at dksX0_plans_4 14 rfl rfl)
theorem dX0_plans_111 : decode cX0_plans 111 = .ok (.iaload, 1) := dk_46 (dk_at dksX0_plans_4 16 rfl rfl)
theorem dX0_plans_112 : decode cX0_plans 112 = .ok (.iload 5, 2) := dk_21 5 (dk_at dksX0_plans_4 17 rfl rfl)
theorem dX0_plans_114 : decode cX0_plans 114 = .ok (.invokevirtual 219, 3) := dk_182 0 219 (dk_at dksX0_plans_4 19 rfl rfl)
theorem dX0_plans_117 : decode cX0_plans 117 = .ok (.ifCond .ne 6, 3) := dk_154 0 6 (dk_at dksX0_plans_5 0 rfl rfl)
theorem dX0_plans_120 : decode cX0_plans 120 = .ok (.goto 70, 3) := dk_167 0 70 (dk_at dksX0_plans_5 3 rfl rfl)
theorem dX0_plans_123 : decode cX0_plans 123 = .ok (.aload_n 0, 1) := dk_42 (dk_at dksX0_plans_5 6 rfl rfl)
theorem dX0_plans_124 : decode cX0_plans 124 = .ok (.getfield 95, 3) := dk_180 0 95 (dk_at dksX0_plans_5 7 rfl rfl)
theorem dX0_plans_127 : decode cX0_plans 127 = .ok (.iconst 2, 1) := dk_5 (dk_at dksX0_plans_5 10 rfl rfl)
theorem dX0_plans_128 : decode cX0_plans 128 = .ok (.iload_n 2, 1) := dk_28 (dk_at dksX0_plans_5 11 rfl rfl)
theorem dX0_plans_129 : decode cX0_plans 129 = .ok (.imul, 1) := dk_104 (dk_at dksX0_plans_5 12 rfl rfl)
theorem dX0_plans_130 : decode cX0_plans 130 = .ok (.aload_n 0, 1) := dk_42 (dk_at dksX0_plans_5 13 rfl rfl)
theorem dX0_plans_131 : decode cX0_plans 131 = .ok (.getfield 91, 3) := dk_180 0 91 (dk_at dksX0_plans_5 14 rfl rfl)
theorem dX0_plans_134 : decode cX0_plans 134 = .ok (.iload 4, 2) := dk_21 4 (dk_at dksX0_plans_5 17 rfl rfl)
theorem dX0_plans_136 : decode cX0_plans 136 = .ok (.iaload, 1) := dk_46 (dk_at dksX0_plans_5 19 rfl rfl)
theorem dX0_plans_137 : decode cX0_plans 137 = .ok (.iastore, 1) := dk_79 (dk_at dksX0_plans_5 20 rfl rfl)
theorem dX0_plans_138 : decode cX0_plans 138 = .ok (.aload_n 0, 1) := dk_42 (dk_at dksX0_plans_5 21 rfl rfl)
theorem dX0_plans_139 : decode cX0_plans 139 = .ok (.getfield 95, 3) := dk_180 0 95 (dk_at dksX0_plans_6 0 rfl rfl)
theorem dX0_plans_142 : decode cX0_plans 142 = .ok (.iconst 2, 1) := dk_5 (dk_at dksX0_plans_6 3 rfl rfl)
theorem dX0_plans_143 : decode cX0_plans 143 = .ok (.iload_n 2, 1) := dk_28 (dk_at dksX0_plans_6 4 rfl rfl)
theorem dX0_plans_144 : decode cX0_plans 144 = .ok (.imul, 1) := dk_104 (dk_at dksX0_plans_6 5 rfl rfl)
theorem dX0_plans_145 : decode cX0_plans 145 = .ok (.iconst 1, 1) := dk_4 (dk_at dksX0_plans_6 6 rfl rfl)
theorem dX0_plans_146 : decode cX0_plans 146 = .ok (.iadd, 1) := dk_96 (dk_at dksX0_plans_6 7 rfl rfl)
theorem dX0_plans_147 : decode cX0_plans 147 = .ok (.iload 5, 2) := dk_21 5 (dk_at dksX0_plans_6 8 rfl rfl)
theorem dX0_plans_149 : decode cX0_plans 149 = .ok (.iastore, 1) := dk_79 (dk_at dksX0_plans_6 10 rfl rfl)
theorem dX0_plans_150 : decode cX0_plans 150 = .ok (.aload_n 0, 1) := dk_42 (dk_at dksX0_plans_6 11 rfl rfl)
theorem dX0_plans_151 : decode cX0_plans 151 = .ok (.aload_n 1, 1) := dk_43 (dk_at dksX0_plans_6 12 rfl rfl)
theorem dX0_plans_152 : decode cX0_plans 152 = .ok (.bipush 6, 2) := dk_16 6 (dk_at dksX0_plans_6 13 rfl rfl)
theorem dX0_plans_154 : decode cX0_plans 154 = .ok (.iload 5, 2) := dk_21 5 (dk_at dksX0_plans_6 15 rfl rfl)
theorem dX0_plans_156 : decode cX0_plans 156 = .ok (.invokevirtual 284, 3) := dk_182 1 28 (dk_at dksX0_plans_6 17 rfl rfl)
theorem dX0_plans_159 : decode cX0_plans 159 = .ok (.aload_n 0, 1) := dk_42 (dk_at dksX0_plans_6 20 rfl rfl)
theorem dX0_plans_160 : decode cX0_plans 160 = .ok (.aload_n 1, 1) := dk_43 (dk_at dksX0_plans_6 21 rfl rfl)
theorem dX0_plans_161 : decode cX0_plans 161 = .ok (.iload_n 2, 1) := dk_28 (dk_at dksX0_plans_6 22 rfl rfl)
theorem dX0_plans_162 : decode cX0_plans 162 = .ok (.iconst 1, 1) := dk_4 (dk_at dksX0_plans_6 23 rfl rfl)
theorem dX0_plans_163 : decode cX0_plans 163 = .ok (.iadd, 1) := dk_96 (dk_at dksX0_plans_7 0 rfl rfl)
theorem dX0_plans_164 : decode cX0_plans 164 = .ok (.iload_n 3, 1) := dk_29 (dk_at dksX0_plans_7 1 rfl rfl)
theorem dX0_plans_165 : decode cX0_plans 165 = .ok (.iconst 1, 1) := dk_4 (dk_at dksX0_plans_7 2 rfl rfl)
theorem dX0_plans_166 : decode cX0_plans 166 = .ok (.iload 4, 2) := dk_21 4 (dk_at dksX0_plans_7 3 rfl rfl)
theorem dX0_plans_168 : decode cX0_plans 168 = .ok (.ishl, 1) := dk_120 (dk_at dksX0_plans_7 5 rfl rfl)
theorem dX0_plans_169 : decode cX0_plans 169 = .ok (.ior, 1) := dk_128 (dk_at dksX0_plans_7 6 rfl rfl)
theorem dX0_plans_170 : decode cX0_plans 170 = .ok (.invokevirtual 378, 3) := dk_182 1 122 (dk_at dksX0_plans_7 7 rfl rfl)
theorem dX0_plans_173 : decode cX0_plans 173 = .ok (.aload_n 0, 1) := dk_42 (dk_at dksX0_plans_7 10 rfl rfl)
theorem dX0_plans_174 : decode cX0_plans 174 = .ok (.getfield 101, 3) := dk_180 0 101 (dk_at dksX0_plans_7 11 rfl rfl)
theorem dX0_plans_177 : decode cX0_plans 177 = .ok (.iconst 4, 1) := dk_7 (dk_at dksX0_plans_7 14 rfl rfl)
theorem dX0_plans_178 : decode cX0_plans 178 = .ok (.iload_n 2, 1) := dk_28 (dk_at dksX0_plans_7 15 rfl rfl)
theorem dX0_plans_179 : decode cX0_plans 179 = .ok (.imul, 1) := dk_104 (dk_at dksX0_plans_7 16 rfl rfl)
theorem dX0_plans_180 : decode cX0_plans 180 = .ok (.aload_n 1, 1) := dk_43 (dk_at dksX0_plans_7 17 rfl rfl)
theorem dX0_plans_181 : decode cX0_plans 181 = .ok (.getfield 185, 3) := dk_180 0 185 (dk_at dksX0_plans_7 18 rfl rfl)
theorem dX0_plans_184 : decode cX0_plans 184 = .ok (.bipush 24, 2) := dk_16 24 (dk_at dksX0_plans_7 21 rfl rfl)
theorem dX0_plans_186 : decode cX0_plans 186 = .ok (.iconst 4, 1) := dk_7 (dk_at dksX0_plans_7 23 rfl rfl)
theorem dX0_plans_187 : decode cX0_plans 187 = .ok (.invokestatic 270, 3) := dk_184 1 14 (dk_at dksX0_plans_8 0 rfl rfl)
theorem dX0_plans_190 : decode cX0_plans 190 = .ok (.iinc 5 1, 3) := dk_132 5 1 (dk_at dksX0_plans_8 3 rfl rfl)
theorem dX0_plans_193 : decode cX0_plans 193 = .ok (.goto (-113), 3) := dk_167 255 143 (dk_at dksX0_plans_8 6 rfl rfl)
theorem dX0_plans_196 : decode cX0_plans 196 = .ok (.iinc 4 1, 3) := dk_132 4 1 (dk_at dksX0_plans_8 9 rfl rfl)
theorem dX0_plans_199 : decode cX0_plans 199 = .ok (.goto (-131), 3) := dk_167 255 125 (dk_at dksX0_plans_8 12 rfl rfl)
theorem dX0_plans_202 : decode cX0_plans 202 = .ok (.return_, 1) := dk_177 (dk_at dksX0_plans_8 15 rfl rfl)
abbrev cX0_walk : ByteArray := prog_1_method_61_code
def yX0_walk : MethodName := ⟨RX0, "walk", "(II)I"⟩
def dkwX0_walk_5 : List UInt8 := [4, 160, 0, 7, 29, 167, 0, 5, 21, 4, 172]
abbrev dktX0_walk_5 : List UInt8 := dkwX0_walk_5 ++ []
def dkwX0_walk_4 : List UInt8 := [21, 5, 62, 42, 21, 5, 182, 1, 133, 54, 4, 132, 5, 1, 167, 255, 204, 29, 16, 254, 159, 0, 8, 28]
abbrev dktX0_walk_4 : List UInt8 := dkwX0_walk_4 ++ dktX0_walk_5
def dkwX0_walk_3 : List UInt8 := [42, 21, 5, 182, 1, 133, 21, 4, 162, 0, 27, 42, 27, 21, 5, 182, 1, 136, 154, 0, 6, 167, 0, 14]
abbrev dktX0_walk_3 : List UInt8 := dkwX0_walk_3 ++ dktX0_walk_4
def dkwX0_walk_2 : List UInt8 := [27, 46, 100, 4, 96, 54, 4, 3, 54, 5, 21, 5, 4, 42, 180, 0, 142, 180, 0, 179, 120, 162, 0, 44]
abbrev dktX0_walk_2 : List UInt8 := dkwX0_walk_2 ++ dktX0_walk_3
def dkwX0_walk_1 : List UInt8 := [42, 180, 0, 20, 42, 180, 0, 142, 182, 0, 138, 87, 16, 254, 62, 16, 24, 42, 180, 0, 142, 180, 0, 230]
abbrev dktX0_walk_1 : List UInt8 := dkwX0_walk_1 ++ dktX0_walk_2
def dkwX0_walk_0 : List UInt8 := [42, 27, 182, 0, 222, 153, 0, 13, 28, 133, 9, 10, 184, 1, 68, 154, 0, 5, 2, 172, 42, 182, 1, 130]
abbrev dktX0_walk_0 : List UInt8 := dkwX0_walk_0 ++ dktX0_walk_1
theorem dksX0_walk_0 : cX0_walk.data.toList.drop 0 = dktX0_walk_0 := by decide +kernel
theorem dksX0_walk_1 : cX0_walk.data.toList.drop 24 = dktX0_walk_1 := dk_seg dksX0_walk_0 24 rfl rfl
theorem dksX0_walk_2 : cX0_walk.data.toList.drop 48 = dktX0_walk_2 := dk_seg dksX0_walk_1 24 rfl rfl
theorem dksX0_walk_3 : cX0_walk.data.toList.drop 72 = dktX0_walk_3 := dk_seg dksX0_walk_2 24 rfl rfl
theorem dksX0_walk_4 : cX0_walk.data.toList.drop 96 = dktX0_walk_4 := dk_seg dksX0_walk_3 24 rfl rfl
theorem dksX0_walk_5 : cX0_walk.data.toList.drop 120 = dktX0_walk_5 := dk_seg dksX0_walk_4 24 rfl rfl
theorem dX0_walk_0 : decode cX0_walk 0 = .ok (.aload_n 0, 1) := dk_42 (dk_at dksX0_walk_0 0 rfl rfl)
theorem dX0_walk_1 : decode cX0_walk 1 = .ok (.iload_n 1, 1) := dk_27 (dk_at dksX0_walk_0 1 rfl rfl)
theorem dX0_walk_2 : decode cX0_walk 2 = .ok (.invokevirtual 222, 3) := dk_182 0 222 (dk_at dksX0_walk_0 2 rfl rfl)
theorem dX0_walk_5 : decode cX0_walk 5 = .ok (.ifCond .eq 13, 3) := dk_153 0 13 (dk_at dksX0_walk_0 5 rfl rfl)
theorem dX0_walk_8 : decode cX0_walk 8 = .ok (.iload_n 2, 1) := dk_28 (dk_at dksX0_walk_0 8 rfl rfl)
theorem dX0_walk_9 : decode cX0_walk 9 = .ok (.i2l, 1) := dk_133 (dk_at dksX0_walk_0 9 rfl rfl)
theorem dX0_walk_10 : decode cX0_walk 10 = .ok (.lconst 0, 1) := dk_9 (dk_at dksX0_walk_0 10 rfl rfl)
theorem dX0_walk_11 : decode cX0_walk 11 = .ok (.lconst 1, 1) := dk_10 (dk_at dksX0_walk_0 11 rfl rfl)
theorem dX0_walk_12 : decode cX0_walk 12 = .ok (.invokestatic 324, 3) := dk_184 1 68 (dk_at dksX0_walk_0 12 rfl rfl)
theorem dX0_walk_15 : decode cX0_walk 15 = .ok (.ifCond .ne 5, 3) := dk_154 0 5 (dk_at dksX0_walk_0 15 rfl rfl)
theorem dX0_walk_18 : decode cX0_walk 18 = .ok (.iconst (-1), 1) := dk_2 (dk_at dksX0_walk_0 18 rfl rfl)
theorem dX0_walk_19 : decode cX0_walk 19 = .ok (.ireturn, 1) := dk_172 (dk_at dksX0_walk_0 19 rfl rfl)
theorem dX0_walk_20 : decode cX0_walk 20 = .ok (.aload_n 0, 1) := dk_42 (dk_at dksX0_walk_0 20 rfl rfl)
theorem dX0_walk_21 : decode cX0_walk 21 = .ok (.invokevirtual 386, 3) := dk_182 1 130 (dk_at dksX0_walk_0 21 rfl rfl)
theorem dX0_walk_24 : decode cX0_walk 24 = .ok (.aload_n 0, 1) := dk_42 (dk_at dksX0_walk_1 0 rfl rfl)
theorem dX0_walk_25 : decode cX0_walk 25 = .ok (.getfield 20, 3) := dk_180 0 20 (dk_at dksX0_walk_1 1 rfl rfl)
theorem dX0_walk_28 : decode cX0_walk 28 = .ok (.aload_n 0, 1) := dk_42 (dk_at dksX0_walk_1 4 rfl rfl)
theorem dX0_walk_29 : decode cX0_walk 29 = .ok (.getfield 142, 3) := dk_180 0 142 (dk_at dksX0_walk_1 5 rfl rfl)
theorem dX0_walk_32 : decode cX0_walk 32 = .ok (.invokevirtual 138, 3) := dk_182 0 138 (dk_at dksX0_walk_1 8 rfl rfl)
theorem dX0_walk_35 : decode cX0_walk 35 = .ok (.pop, 1) := dk_87 (dk_at dksX0_walk_1 11 rfl rfl)
theorem dX0_walk_36 : decode cX0_walk 36 = .ok (.bipush (-2), 2) := dk_16 254 (dk_at dksX0_walk_1 12 rfl rfl)
theorem dX0_walk_38 : decode cX0_walk 38 = .ok (.istore_n 3, 1) := dk_62 (dk_at dksX0_walk_1 14 rfl rfl)
theorem dX0_walk_39 : decode cX0_walk 39 = .ok (.bipush 24, 2) := dk_16 24 (dk_at dksX0_walk_1 15 rfl rfl)
theorem dX0_walk_41 : decode cX0_walk 41 = .ok (.aload_n 0, 1) := dk_42 (dk_at dksX0_walk_1 17 rfl rfl)
theorem dX0_walk_42 : decode cX0_walk 42 = .ok (.getfield 142, 3) := dk_180 0 142 (dk_at dksX0_walk_1 18 rfl rfl)
theorem dX0_walk_45 : decode cX0_walk 45 = .ok (.getfield 230, 3) := dk_180 0 230 (dk_at dksX0_walk_1 21 rfl rfl)
theorem dX0_walk_48 : decode cX0_walk 48 = .ok (.iload_n 1, 1) := dk_27 (dk_at dksX0_walk_2 0 rfl rfl)
theorem dX0_walk_49 : decode cX0_walk 49 = .ok (.iaload, 1) := dk_46 (dk_at dksX0_walk_2 1 rfl rfl)
theorem dX0_walk_50 : decode cX0_walk 50 = .ok (.isub, 1) := dk_100 (dk_at dksX0_walk_2 2 rfl rfl)
theorem dX0_walk_51 : decode cX0_walk 51 = .ok (.iconst 1, 1) := dk_4 (dk_at dksX0_walk_2 3 rfl rfl)
theorem dX0_walk_52 : decode cX0_walk 52 = .ok (.iadd, 1) := dk_96 (dk_at dksX0_walk_2 4 rfl rfl)
theorem dX0_walk_53 : decode cX0_walk 53 = .ok (.istore 4, 2) := dk_54 4 (dk_at dksX0_walk_2 5 rfl rfl)
theorem dX0_walk_55 : decode cX0_walk 55 = .ok (.iconst 0, 1) := dk_3 (dk_at dksX0_walk_2 7 rfl rfl)
theorem dX0_walk_56 : decode cX0_walk 56 = .ok (.istore 5, 2) := dk_54 5 (dk_at dksX0_walk_2 8 rfl rfl)
theorem dX0_walk_58 : decode cX0_walk 58 = .ok (.iload 5, 2) := dk_21 5 (dk_at dksX0_walk_2 10 rfl rfl)
theorem dX0_walk_60 : decode cX0_walk 60 = .ok (.iconst 1, 1) := dk_4 (dk_at dksX0_walk_2 12 rfl rfl)
theorem dX0_walk_61 : decode cX0_walk 61 = .ok (.aload_n 0, 1) := dk_42 (dk_at dksX0_walk_2 13 rfl rfl)
theorem dX0_walk_62 : decode cX0_walk 62 = .ok (.getfield 142, 3) := dk_180 0 142 (dk_at dksX0_walk_2 14 rfl rfl)
theorem dX0_walk_65 : decode cX0_walk 65 = .ok (.getfield 179, 3) := dk_180 0 179 (dk_at dksX0_walk_2 17 rfl rfl)
theorem dX0_walk_68 : decode cX0_walk 68 = .ok (.ishl, 1) := dk_120 (dk_at dksX0_walk_2 20 rfl rfl)
theorem dX0_walk_69 : decode cX0_walk 69 = .ok (.if_icmp .ge 44, 3) := dk_162 0 44 (dk_at dksX0_walk_2 21 rfl rfl)
theorem dX0_walk_72 : decode cX0_walk 72 = .ok (.aload_n 0, 1) := dk_42 (dk_at dksX0_walk_3 0 rfl rfl)
theorem dX0_walk_73 : decode cX0_walk 73 = .ok (.iload 5, 2) := dk_21 5 (dk_at dksX0_walk_3 1 rfl rfl)
theorem dX0_walk_75 : decode cX0_walk 75 = .ok (.invokevirtual 389, 3) := dk_182 1 133 (dk_at dksX0_walk_3 3 rfl rfl)
theorem dX0_walk_78 : decode cX0_walk 78 = .ok (.iload 4, 2) := dk_21 4 (dk_at dksX0_walk_3 6 rfl rfl)
theorem dX0_walk_80 : decode cX0_walk 80 = .ok (.if_icmp .ge 27, 3) := dk_162 0 27 (dk_at dksX0_walk_3 8 rfl rfl)
theorem dX0_walk_83 : decode cX0_walk 83 = .ok (.aload_n 0, 1) := dk_42 (dk_at dksX0_walk_3 11 rfl rfl)
theorem dX0_walk_84 : decode cX0_walk 84 = .ok (.iload_n 1, 1) := dk_27 (dk_at dksX0_walk_3 12 rfl rfl)
theorem dX0_walk_85 : decode cX0_walk 85 = .ok (.iload 5, 2) := dk_21 5 (dk_at dksX0_walk_3 13 rfl rfl)
theorem dX0_walk_87 : decode cX0_walk 87 = .ok (.invokevirtual 392, 3) := dk_182 1 136 (dk_at dksX0_walk_3 15 rfl rfl)
theorem dX0_walk_90 : decode cX0_walk 90 = .ok (.ifCond .ne 6, 3) := dk_154 0 6 (dk_at dksX0_walk_3 18 rfl rfl)
theorem dX0_walk_93 : decode cX0_walk 93 = .ok (.goto 14, 3) := dk_167 0 14 (dk_at dksX0_walk_3 21 rfl rfl)
theorem dX0_walk_96 : decode cX0_walk 96 = .ok (.iload 5, 2) := dk_21 5 (dk_at dksX0_walk_4 0 rfl rfl)
theorem dX0_walk_98 : decode cX0_walk 98 = .ok (.istore_n 3, 1) := dk_62 (dk_at dksX0_walk_4 2 rfl rfl)
theorem dX0_walk_99 : decode cX0_walk 99 = .ok (.aload_n 0, 1) := dk_42 (dk_at dksX0_walk_4 3 rfl rfl)
theorem dX0_walk_100 : decode cX0_walk 100 = .ok (.iload 5, 2) := dk_21 5 (dk_at dksX0_walk_4 4 rfl rfl)
theorem dX0_walk_102 : decode cX0_walk 102 = .ok (.invokevirtual 389, 3) := dk_182 1 133 (dk_at dksX0_walk_4 6 rfl rfl)
theorem dX0_walk_105 : decode cX0_walk 105 = .ok (.istore 4, 2) := dk_54 4 (dk_at dksX0_walk_4 9 rfl rfl)
theorem dX0_walk_107 : decode cX0_walk 107 = .ok (.iinc 5 1, 3) := dk_132 5 1 (dk_at dksX0_walk_4 11 rfl rfl)
theorem dX0_walk_110 : decode cX0_walk 110 = .ok (.goto (-52), 3) := dk_167 255 204 (dk_at dksX0_walk_4 14 rfl rfl)
theorem dX0_walk_113 : decode cX0_walk 113 = .ok (.iload_n 3, 1) := dk_29 (dk_at dksX0_walk_4 17 rfl rfl)
theorem dX0_walk_114 : decode cX0_walk 114 = .ok (.bipush (-2), 2) := dk_16 254 (dk_at dksX0_walk_4 18 rfl rfl)
theorem dX0_walk_116 : decode cX0_walk 116 = .ok (.if_icmp .eq 8, 3) := dk_159 0 8 (dk_at dksX0_walk_4 20 rfl rfl)
theorem dX0_walk_119 : decode cX0_walk 119 = .ok (.iload_n 2, 1) := dk_28 (dk_at dksX0_walk_4 23 rfl rfl)
theorem dX0_walk_120 : decode cX0_walk 120 = .ok (.iconst 1, 1) := dk_4 (dk_at dksX0_walk_5 0 rfl rfl)
theorem dX0_walk_121 : decode cX0_walk 121 = .ok (.if_icmp .ne 7, 3) := dk_160 0 7 (dk_at dksX0_walk_5 1 rfl rfl)
theorem dX0_walk_124 : decode cX0_walk 124 = .ok (.iload_n 3, 1) := dk_29 (dk_at dksX0_walk_5 4 rfl rfl)
theorem dX0_walk_125 : decode cX0_walk 125 = .ok (.goto 5, 3) := dk_167 0 5 (dk_at dksX0_walk_5 5 rfl rfl)
theorem dX0_walk_128 : decode cX0_walk 128 = .ok (.iload 4, 2) := dk_21 4 (dk_at dksX0_walk_5 8 rfl rfl)
theorem dX0_walk_130 : decode cX0_walk 130 = .ok (.ireturn, 1) := dk_172 (dk_at dksX0_walk_5 10 rfl rfl)
abbrev cX0_fillsWalks : ByteArray := prog_1_method_58_code
def yX0_fillsWalks : MethodName := ⟨RX0, "fillsWalks", "()V"⟩
def dkwX0_fillsWalks_7 : List UInt8 := [167, 255, 103, 177]
abbrev dktX0_fillsWalks_7 : List UInt8 := dkwX0_fillsWalks_7 ++ []
def dkwX0_fillsWalks_6 : List UInt8 := [29, 96, 46, 96, 184, 1, 119, 79, 132, 6, 1, 167, 255, 191, 132, 3, 1, 167, 255, 118, 132, 2, 1]
abbrev dktX0_fillsWalks_6 : List UInt8 := dkwX0_fillsWalks_6 ++ dktX0_fillsWalks_7
def dkwX0_fillsWalks_5 : List UInt8 := [180, 0, 104, 16, 6, 21, 5, 104, 21, 6, 96, 46, 42, 180, 0, 142, 180, 0, 252, 16, 6, 21, 6, 104]
abbrev dktX0_fillsWalks_5 : List UInt8 := dkwX0_fillsWalks_5 ++ dktX0_fillsWalks_6
def dkwX0_fillsWalks_4 : List UInt8 := [21, 6, 184, 0, 243, 153, 0, 49, 42, 180, 0, 104, 21, 4, 42, 180, 0, 104, 21, 4, 46, 42]
abbrev dktX0_fillsWalks_4 : List UInt8 := dkwX0_fillsWalks_4 ++ dktX0_fillsWalks_5
def dkwX0_fillsWalks_3 : List UInt8 := [21, 4, 42, 180, 0, 142, 180, 0, 252, 29, 46, 79, 3, 54, 6, 21, 6, 27, 162, 0, 65, 21, 5]
abbrev dktX0_fillsWalks_3 : List UInt8 := dkwX0_fillsWalks_3 ++ dktX0_fillsWalks_4
def dkwX0_fillsWalks_2 : List UInt8 := [154, 0, 6, 167, 0, 104, 28, 4, 29, 120, 2, 130, 126, 54, 5, 21, 5, 154, 0, 19, 42, 180, 0, 104]
abbrev dktX0_fillsWalks_2 : List UInt8 := dkwX0_fillsWalks_2 ++ dktX0_fillsWalks_3
def dkwX0_fillsWalks_1 : List UInt8 := [16, 6, 28, 104, 29, 96, 54, 4, 42, 180, 0, 104, 21, 4, 17, 39, 15, 79, 28, 29, 184, 0, 243]
abbrev dktX0_fillsWalks_1 : List UInt8 := dkwX0_fillsWalks_1 ++ dktX0_fillsWalks_2
def dkwX0_fillsWalks_0 : List UInt8 := [42, 180, 0, 142, 180, 0, 179, 60, 3, 61, 28, 4, 27, 120, 162, 0, 152, 3, 62, 29, 27, 162, 0, 139]
abbrev dktX0_fillsWalks_0 : List UInt8 := dkwX0_fillsWalks_0 ++ dktX0_fillsWalks_1
theorem dksX0_fillsWalks_0 : cX0_fillsWalks.data.toList.drop 0 = dktX0_fillsWalks_0 := by decide +kernel
theorem dksX0_fillsWalks_1 : cX0_fillsWalks.data.toList.drop 24 = dktX0_fillsWalks_1 := dk_seg dksX0_fillsWalks_0 24 rfl rfl
theorem dksX0_fillsWalks_2 : cX0_fillsWalks.data.toList.drop 47 = dktX0_fillsWalks_2 := dk_seg dksX0_fillsWalks_1 23 rfl rfl
theorem dksX0_fillsWalks_3 : cX0_fillsWalks.data.toList.drop 71 = dktX0_fillsWalks_3 := dk_seg dksX0_fillsWalks_2 24 rfl rfl
theorem dksX0_fillsWalks_4 : cX0_fillsWalks.data.toList.drop 94 = dktX0_fillsWalks_4 := dk_seg dksX0_fillsWalks_3 23 rfl rfl
theorem dksX0_fillsWalks_5 : cX0_fillsWalks.data.toList.drop 116 = dktX0_fillsWalks_5 := dk_seg dksX0_fillsWalks_4 22 rfl rfl
theorem dksX0_fillsWalks_6 : cX0_fillsWalks.data.toList.drop 140 = dktX0_fillsWalks_6 := dk_seg dksX0_fillsWalks_5 24 rfl rfl
theorem dksX0_fillsWalks_7 : cX0_fillsWalks.data.toList.drop 163 = dktX0_fillsWalks_7 := dk_seg dksX0_fillsWalks_6 23 rfl rfl
theorem dX0_fillsWalks_0 : decode cX0_fillsWalks 0 = .ok (.aload_n 0, 1) := dk_42 (dk_at dksX0_fillsWalks_0 0 rfl rfl)
theorem dX0_fillsWalks_1 : decode cX0_fillsWalks 1 = .ok (.getfield 142, 3) := dk_180 0 142 (dk_at dksX0_fillsWalks_0 1 rfl rfl)
theorem dX0_fillsWalks_4 : decode cX0_fillsWalks 4 = .ok (.getfield 179, 3) := dk_180 0 179 (dk_at dksX0_fillsWalks_0 4 rfl rfl)
theorem dX0_fillsWalks_7 : decode cX0_fillsWalks 7 = .ok (.istore_n 1, 1) := dk_60 (dk_at dksX0_fillsWalks_0 7 rfl rfl)
theorem dX0_fillsWalks_8 : decode cX0_fillsWalks 8 = .ok (.iconst 0, 1) := dk_3 (dk_at dksX0_fillsWalks_0 8 rfl rfl)
theorem dX0_fillsWalks_9 : decode cX0_fillsWalks 9 = .ok (.istore_n 2, 1) := dk_61 (dk_at dksX0_fillsWalks_0 9 rfl rfl)
theorem dX0_fillsWalks_10 : decode cX0_fillsWalks 10 = .ok (.iload_n 2, 1) := dk_28 (dk_at dksX0_fillsWalks_0 10 rfl rfl)
theorem dX0_fillsWalks_11 : decode cX0_fillsWalks 11 = .ok (.iconst 1, 1) := dk_4 (dk_at dksX0_fillsWalks_0 11 rfl rfl)
theorem dX0_fillsWalks_12 : decode cX0_fillsWalks 12 = .ok (.iload_n 1, 1) := dk_27 (dk_at dksX0_fillsWalks_0 12 rfl rfl)
theorem dX0_fillsWalks_13 : decode cX0_fillsWalks 13 = .ok (.ishl, 1) := dk_120 (dk_at dksX0_fillsWalks_0 13 rfl rfl)
theorem dX0_fillsWalks_14 : decode cX0_fillsWalks 14 = .ok (.if_icmp .ge 152, 3) := dk_162 0 152 (dk_at dksX0_fillsWalks_0 14 rfl rfl)
theorem dX0_fillsWalks_17 : decode cX0_fillsWalks 17 = .ok (.iconst 0, 1) := dk_3 (dk_at dksX0_fillsWalks_0 17 rfl rfl)
theorem dX0_fillsWalks_18 : decode cX0_fillsWalks 18 = .ok (.istore_n 3, 1) := dk_62 (dk_at dksX0_fillsWalks_0 18 rfl rfl)
theorem dX0_fillsWalks_19 : decode cX0_fillsWalks 19 = .ok (.iload_n 3, 1) := dk_29 (dk_at dksX0_fillsWalks_0 19 rfl rfl)
theorem dX0_fillsWalks_20 : decode cX0_fillsWalks 20 = .ok (.iload_n 1, 1) := dk_27 (dk_at dksX0_fillsWalks_0 20 rfl rfl)
theorem dX0_fillsWalks_21 : decode cX0_fillsWalks 21 = .ok (.if_icmp .ge 139, 3) := dk_162 0 139 (dk_at dksX0_fillsWalks_0 21 rfl rfl)
theorem dX0_fillsWalks_24 : decode cX0_fillsWalks 24 = .ok (.bipush 6, 2) := dk_16 6 (dk_at dksX0_fillsWalks_1 0 rfl rfl)
theorem dX0_fillsWalks_26 : decode cX0_fillsWalks 26 = .ok (.iload_n 2, 1) := dk_28 (dk_at dksX0_fillsWalks_1 2 rfl rfl)
theorem dX0_fillsWalks_27 : decode cX0_fillsWalks 27 = .ok (.imul, 1) := dk_104 (dk_at dksX0_fillsWalks_1 3 rfl rfl)
theorem dX0_fillsWalks_28 : decode cX0_fillsWalks 28 = .ok (.iload_n 3, 1) := dk_29 (dk_at dksX0_fillsWalks_1 4 rfl rfl)
theorem dX0_fillsWalks_29 : decode cX0_fillsWalks 29 = .ok (.iadd, 1) := dk_96 (dk_at dksX0_fillsWalks_1 5 rfl rfl)
theorem dX0_fillsWalks_30 : decode cX0_fillsWalks 30 = .ok (.istore 4, 2) := dk_54 4 (dk_at dksX0_fillsWalks_1 6 rfl rfl)
theorem dX0_fillsWalks_32 : decode cX0_fillsWalks 32 = .ok (.aload_n 0, 1) := dk_42 (dk_at dksX0_fillsWalks_1 8 rfl rfl)
theorem dX0_fillsWalks_33 : decode cX0_fillsWalks 33 = .ok (.getfield 104, 3) := dk_180 0 104 (dk_at dksX0_fillsWalks_1 9 rfl rfl)
theorem dX0_fillsWalks_36 : decode cX0_fillsWalks 36 = .ok (.iload 4, 2) := dk_21 4 (dk_at dksX0_fillsWalks_1 12 rfl rfl)
theorem dX0_fillsWalks_38 : decode cX0_fillsWalks 38 = .ok (.sipush 9999, 3) := dk_17 39 15 (dk_at dksX0_fillsWalks_1 14 rfl rfl)
theorem dX0_fillsWalks_41 : decode cX0_fillsWalks 41 = .ok (.iastore, 1) := dk_79 (dk_at dksX0_fillsWalks_1 17 rfl rfl)
theorem dX0_fillsWalks_42 : decode cX0_fillsWalks 42 = .ok (.iload_n 2, 1) := dk_28 (dk_at dksX0_fillsWalks_1 18 rfl rfl)
theorem dX0_fillsWalks_43 : decode cX0_fillsWalks 43 = .ok (.iload_n 3, 1) := dk_29 (dk_at dksX0_fillsWalks_1 19 rfl rfl)
theorem dX0_fillsWalks_44 : decode cX0_fillsWalks 44 = .ok (.invokestatic 243, 3) := dk_184 0 243 (dk_at dksX0_fillsWalks_1 20 rfl rfl)
theorem dX0_fillsWalks_47 : decode cX0_fillsWalks 47 = .ok (.ifCond .ne 6, 3) := dk_154 0 6 (dk_at dksX0_fillsWalks_2 0 rfl rfl)
theorem dX0_fillsWalks_50 : decode cX0_fillsWalks 50 = .ok (.goto 104, 3) := dk_167 0 104 (dk_at dksX0_fillsWalks_2 3 rfl rfl)
theorem dX0_fillsWalks_53 : decode cX0_fillsWalks 53 = .ok (.iload_n 2, 1) := dk_28 (dk_at dksX0_fillsWalks_2 6 rfl rfl)
theorem dX0_fillsWalks_54 : decode cX0_fillsWalks 54 = .ok (.iconst 1, 1) := dk_4 (dk_at dksX0_fillsWalks_2 7 rfl rfl)
theorem dX0_fillsWalks_55 : decode cX0_fillsWalks 55 = .ok (.iload_n 3, 1) := dk_29 (dk_at dksX0_fillsWalks_2 8 rfl rfl)
theorem dX0_fillsWalks_56 : decode cX0_fillsWalks 56 = .ok (.ishl, 1) := dk_120 (dk_at dksX0_fillsWalks_2 9 rfl rfl)
theorem dX0_fillsWalks_57 : decode cX0_fillsWalks 57 = .ok (.iconst (-1), 1) := dk_2 (dk_at dksX0_fillsWalks_2 10 rfl rfl)
theorem dX0_fillsWalks_58 : decode cX0_fillsWalks 58 = .ok (.ixor, 1) := dk_130 (dk_at dksX0_fillsWalks_2 11 rfl rfl)
theorem dX0_fillsWalks_59 : decode cX0_fillsWalks 59 = .ok (.iand, 1) := dk_126 (dk_at dksX0_fillsWalks_2 12 rfl rfl)
theorem dX0_fillsWalks_60 : decode cX0_fillsWalks 60 = .ok (.istore 5, 2) := dk_54 5 (dk_at dksX0_fillsWalks_2 13 rfl rfl)
theorem dX0_fillsWalks_62 : decode cX0_fillsWalks 62 = .ok (.iload 5, 2) := dk_21 5 (dk_at dksX0_fillsWalks_2 15 rfl rfl)
theorem dX0_fillsWalks_64 : decode cX0_fillsWalks 64 = .ok (.ifCond .ne 19, 3) := dk_154 0 19 (dk_at dksX0_fillsWalks_2 17 rfl rfl)
theorem dX0_fillsWalks_67 : decode cX0_fillsWalks 67 = .ok (.aload_n 0, 1) := dk_42 (dk_at dksX0_fillsWalks_2 20 rfl rfl)
theorem dX0_fillsWalks_68 : decode cX0_fillsWalks 68 = .ok (.getfield 104, 3) := dk_180 0 104 (dk_at dksX0_fillsWalks_2 21 rfl rfl)
theorem dX0_fillsWalks_71 : decode cX0_fillsWalks 71 = .ok (.iload 4, 2) := dk_21 4 (dk_at dksX0_fillsWalks_3 0 rfl rfl)
theorem dX0_fillsWalks_73 : decode cX0_fillsWalks 73 = .ok (.aload_n 0, 1) := dk_42 (dk_at dksX0_fillsWalks_3 2 rfl rfl)
theorem dX0_fillsWalks_74 : decode cX0_fillsWalks 74 = .ok (.getfield 142, 3) := dk_180 0 142 (dk_at dksX0_fillsWalks_3 3 rfl rfl)
theorem dX0_fillsWalks_77 : decode cX0_fillsWalks 77 = .ok (.getfield 252, 3) := dk_180 0 252 (dk_at dksX0_fillsWalks_3 6 rfl rfl)
theorem dX0_fillsWalks_80 : decode cX0_fillsWalks 80 = .ok (.iload_n 3, 1) := dk_29 (dk_at dksX0_fillsWalks_3 9 rfl rfl)
theorem dX0_fillsWalks_81 : decode cX0_fillsWalks 81 = .ok (.iaload, 1) := dk_46 (dk_at dksX0_fillsWalks_3 10 rfl rfl)
theorem dX0_fillsWalks_82 : decode cX0_fillsWalks 82 = .ok (.iastore, 1) := dk_79 (dk_at dksX0_fillsWalks_3 11 rfl rfl)
theorem dX0_fillsWalks_83 : decode cX0_fillsWalks 83 = .ok (.iconst 0, 1) := dk_3 (dk_at dksX0_fillsWalks_3 12 rfl rfl)
theorem dX0_fillsWalks_84 : decode cX0_fillsWalks 84 = .ok (.istore 6, 2) := dk_54 6 (dk_at dksX0_fillsWalks_3 13 rfl rfl)
theorem dX0_fillsWalks_86 : decode cX0_fillsWalks 86 = .ok (.iload 6, 2) := dk_21 6 (dk_at dksX0_fillsWalks_3 15 rfl rfl)
theorem dX0_fillsWalks_88 : decode cX0_fillsWalks 88 = .ok (.iload_n 1, 1) := dk_27 (dk_at dksX0_fillsWalks_3 17 rfl rfl)
theorem dX0_fillsWalks_89 : decode cX0_fillsWalks 89 = .ok (.if_icmp .ge 65, 3) := dk_162 0 65 (dk_at dksX0_fillsWalks_3 18 rfl rfl)
theorem dX0_fillsWalks_92 : decode cX0_fillsWalks 92 = .ok (.iload 5, 2) := dk_21 5 (dk_at dksX0_fillsWalks_3 21 rfl rfl)
theorem dX0_fillsWalks_94 : decode cX0_fillsWalks 94 = .ok (.iload 6, 2) := dk_21 6 (dk_at dksX0_fillsWalks_4 0 rfl rfl)
theorem dX0_fillsWalks_96 : decode cX0_fillsWalks 96 = .ok (.invokestatic 243, 3) := dk_184 0 243 (dk_at dksX0_fillsWalks_4 2 rfl rfl)
theorem dX0_fillsWalks_99 : decode cX0_fillsWalks 99 = .ok (.ifCond .eq 49, 3) := dk_153 0 49 (dk_at dksX0_fillsWalks_4 5 rfl rfl)
theorem dX0_fillsWalks_102 : decode cX0_fillsWalks 102 = .ok (.aload_n 0, 1) := dk_42 (dk_at dksX0_fillsWalks_4 8 rfl rfl)
theorem dX0_fillsWalks_103 : decode cX0_fillsWalks 103 = .ok (.getfield 104, 3) := dk_180 0 104 (dk_at dksX0_fillsWalks_4 9 rfl rfl)
theorem dX0_fillsWalks_106 : decode cX0_fillsWalks 106 = .ok (.iload 4, 2) := dk_21 4 (dk_at dksX0_fillsWalks_4 12 rfl rfl)
theorem dX0_fillsWalks_108 : decode cX0_fillsWalks 108 = .ok (.aload_n 0, 1) := dk_42 (dk_at dksX0_fillsWalks_4 14 rfl rfl)
theorem dX0_fillsWalks_109 : decode cX0_fillsWalks 109 = .ok (.getfield 104, 3) := dk_180 0 104 (dk_at dksX0_fillsWalks_4 15 rfl rfl)
theorem dX0_fillsWalks_112 : decode cX0_fillsWalks 112 = .ok (.iload 4, 2) := dk_21 4 (dk_at dksX0_fillsWalks_4 18 rfl rfl)
theorem dX0_fillsWalks_114 : decode cX0_fillsWalks 114 = .ok (.iaload, 1) := dk_46 (dk_at dksX0_fillsWalks_4 20 rfl rfl)
theorem dX0_fillsWalks_115 : decode cX0_fillsWalks 115 = .ok (.aload_n 0, 1) := dk_42 (dk_at dksX0_fillsWalks_4 21 rfl rfl)
theorem dX0_fillsWalks_116 : decode cX0_fillsWalks 116 = .ok (.getfield 104, 3) := dk_180 0 104 (dk_at dksX0_fillsWalks_5 0 rfl rfl)
theorem dX0_fillsWalks_119 : decode cX0_fillsWalks 119 = .ok (.bipush 6, 2) := dk_16 6 (dk_at dksX0_fillsWalks_5 3 rfl rfl)
theorem dX0_fillsWalks_121 : decode cX0_fillsWalks 121 = .ok (.iload 5, 2) := dk_21 5 (dk_at dksX0_fillsWalks_5 5 rfl rfl)
theorem dX0_fillsWalks_123 : decode cX0_fillsWalks 123 = .ok (.imul, 1) := dk_104 (dk_at dksX0_fillsWalks_5 7 rfl rfl)
theorem dX0_fillsWalks_124 : decode cX0_fillsWalks 124 = .ok (.iload 6, 2) := dk_21 6 (dk_at dksX0_fillsWalks_5 8 rfl rfl)
theorem dX0_fillsWalks_126 : decode cX0_fillsWalks 126 = .ok (.iadd, 1) := dk_96 (dk_at dksX0_fillsWalks_5 10 rfl rfl)
theorem dX0_fillsWalks_127 : decode cX0_fillsWalks 127 = .ok (.iaload, 1) := dk_46 (dk_at dksX0_fillsWalks_5 11 rfl rfl)
theorem dX0_fillsWalks_128 : decode cX0_fillsWalks 128 = .ok (.aload_n 0, 1) := dk_42 (dk_at dksX0_fillsWalks_5 12 rfl rfl)
theorem dX0_fillsWalks_129 : decode cX0_fillsWalks 129 = .ok (.getfield 142, 3) := dk_180 0 142 (dk_at dksX0_fillsWalks_5 13 rfl rfl)
theorem dX0_fillsWalks_132 : decode cX0_fillsWalks 132 = .ok (.getfield 252, 3) := dk_180 0 252 (dk_at dksX0_fillsWalks_5 16 rfl rfl)
theorem dX0_fillsWalks_135 : decode cX0_fillsWalks 135 = .ok (.bipush 6, 2) := dk_16 6 (dk_at dksX0_fillsWalks_5 19 rfl rfl)
theorem dX0_fillsWalks_137 : decode cX0_fillsWalks 137 = .ok (.iload 6, 2) := dk_21 6 (dk_at dksX0_fillsWalks_5 21 rfl rfl)
theorem dX0_fillsWalks_139 : decode cX0_fillsWalks 139 = .ok (.imul, 1) := dk_104 (dk_at dksX0_fillsWalks_5 23 rfl rfl)
theorem dX0_fillsWalks_140 : decode cX0_fillsWalks 140 = .ok (.iload_n 3, 1) := dk_29 (dk_at dksX0_fillsWalks_6 0 rfl rfl)
theorem dX0_fillsWalks_141 : decode cX0_fillsWalks 141 = .ok (.iadd, 1) := dk_96 (dk_at dksX0_fillsWalks_6 1 rfl rfl)
theorem dX0_fillsWalks_142 : decode cX0_fillsWalks 142 = .ok (.iaload, 1) := dk_46 (dk_at dksX0_fillsWalks_6 2 rfl rfl)
theorem dX0_fillsWalks_143 : decode cX0_fillsWalks 143 = .ok (.iadd, 1) := dk_96 (dk_at dksX0_fillsWalks_6 3 rfl rfl)
theorem dX0_fillsWalks_144 : decode cX0_fillsWalks 144 = .ok (.invokestatic 375, 3) := dk_184 1 119 (dk_at dksX0_fillsWalks_6 4 rfl rfl)
theorem dX0_fillsWalks_147 : decode cX0_fillsWalks 147 = .ok (.iastore, 1) := dk_79 (dk_at dksX0_fillsWalks_6 7 rfl rfl)
theorem dX0_fillsWalks_148 : decode cX0_fillsWalks 148 = .ok (.iinc 6 1, 3) := dk_132 6 1 (dk_at dksX0_fillsWalks_6 8 rfl rfl)
theorem dX0_fillsWalks_151 : decode cX0_fillsWalks 151 = .ok (.goto (-65), 3) := dk_167 255 191 (dk_at dksX0_fillsWalks_6 11 rfl rfl)
theorem dX0_fillsWalks_154 : decode cX0_fillsWalks 154 = .ok (.iinc 3 1, 3) := dk_132 3 1 (dk_at dksX0_fillsWalks_6 14 rfl rfl)
theorem dX0_fillsWalks_157 : decode cX0_fillsWalks 157 = .ok (.goto (-138), 3) := dk_167 255 118 (dk_at dksX0_fillsWalks_6 17 rfl rfl)
theorem dX0_fillsWalks_160 : decode cX0_fillsWalks 160 = .ok (.iinc 2 1, 3) := dk_132 2 1 (dk_at dksX0_fillsWalks_6 20 rfl rfl)
theorem dX0_fillsWalks_163 : decode cX0_fillsWalks 163 = .ok (.goto (-153), 3) := dk_167 255 103 (dk_at dksX0_fillsWalks_7 0 rfl rfl)
theorem dX0_fillsWalks_166 : decode cX0_fillsWalks 166 = .ok (.return_, 1) := dk_177 (dk_at dksX0_fillsWalks_7 3 rfl rfl)
abbrev cX0_walkOf : ByteArray := prog_1_method_59_code
def yX0_walkOf : MethodName := ⟨RX0, "walkOf", "(I)I"⟩
def dkwX0_walkOf_2 : List UInt8 := [180, 0, 142, 180, 0, 252, 16, 6, 29, 104, 46, 96, 184, 1, 119, 61, 132, 3, 1, 167, 255, 205, 28, 172]
abbrev dktX0_walkOf_2 : List UInt8 := dkwX0_walkOf_2 ++ []
def dkwX0_walkOf_1 : List UInt8 := [162, 0, 46, 27, 29, 184, 0, 243, 153, 0, 32, 28, 42, 180, 0, 104, 16, 6, 27, 104, 29, 96, 46, 42]
abbrev dktX0_walkOf_1 : List UInt8 := dkwX0_walkOf_1 ++ dktX0_walkOf_2
def dkwX0_walkOf_0 : List UInt8 := [27, 154, 0, 7, 3, 167, 0, 6, 17, 39, 15, 61, 3, 62, 29, 42, 180, 0, 142, 180, 0, 179]
abbrev dktX0_walkOf_0 : List UInt8 := dkwX0_walkOf_0 ++ dktX0_walkOf_1
theorem dksX0_walkOf_0 : cX0_walkOf.data.toList.drop 0 = dktX0_walkOf_0 := by decide +kernel
theorem dksX0_walkOf_1 : cX0_walkOf.data.toList.drop 22 = dktX0_walkOf_1 := dk_seg dksX0_walkOf_0 22 rfl rfl
theorem dksX0_walkOf_2 : cX0_walkOf.data.toList.drop 46 = dktX0_walkOf_2 := dk_seg dksX0_walkOf_1 24 rfl rfl
theorem dX0_walkOf_0 : decode cX0_walkOf 0 = .ok (.iload_n 1, 1) := dk_27 (dk_at dksX0_walkOf_0 0 rfl rfl)
theorem dX0_walkOf_1 : decode cX0_walkOf 1 = .ok (.ifCond .ne 7, 3) := dk_154 0 7 (dk_at dksX0_walkOf_0 1 rfl rfl)
theorem dX0_walkOf_4 : decode cX0_walkOf 4 = .ok (.iconst 0, 1) := dk_3 (dk_at dksX0_walkOf_0 4 rfl rfl)
theorem dX0_walkOf_5 : decode cX0_walkOf 5 = .ok (.goto 6, 3) := dk_167 0 6 (dk_at dksX0_walkOf_0 5 rfl rfl)
theorem dX0_walkOf_8 : decode cX0_walkOf 8 = .ok (.sipush 9999, 3) := dk_17 39 15 (dk_at dksX0_walkOf_0 8 rfl rfl)
theorem dX0_walkOf_11 : decode cX0_walkOf 11 = .ok (.istore_n 2, 1) := dk_61 (dk_at dksX0_walkOf_0 11 rfl rfl)
theorem dX0_walkOf_12 : decode cX0_walkOf 12 = .ok (.iconst 0, 1) := dk_3 (dk_at dksX0_walkOf_0 12 rfl rfl)
theorem dX0_walkOf_13 : decode cX0_walkOf 13 = .ok (.istore_n 3, 1) := dk_62 (dk_at dksX0_walkOf_0 13 rfl rfl)
theorem dX0_walkOf_14 : decode cX0_walkOf 14 = .ok (.iload_n 3, 1) := dk_29 (dk_at dksX0_walkOf_0 14 rfl rfl)
theorem dX0_walkOf_15 : decode cX0_walkOf 15 = .ok (.aload_n 0, 1) := dk_42 (dk_at dksX0_walkOf_0 15 rfl rfl)
theorem dX0_walkOf_16 : decode cX0_walkOf 16 = .ok (.getfield 142, 3) := dk_180 0 142 (dk_at dksX0_walkOf_0 16 rfl rfl)
theorem dX0_walkOf_19 : decode cX0_walkOf 19 = .ok (.getfield 179, 3) := dk_180 0 179 (dk_at dksX0_walkOf_0 19 rfl rfl)
theorem dX0_walkOf_22 : decode cX0_walkOf 22 = .ok (.if_icmp .ge 46, 3) := dk_162 0 46 (dk_at dksX0_walkOf_1 0 rfl rfl)
theorem dX0_walkOf_25 : decode cX0_walkOf 25 = .ok (.iload_n 1, 1) := dk_27 (dk_at dksX0_walkOf_1 3 rfl rfl)
theorem dX0_walkOf_26 : decode cX0_walkOf 26 = .ok (.iload_n 3, 1) := dk_29 (dk_at dksX0_walkOf_1 4 rfl rfl)
theorem dX0_walkOf_27 : decode cX0_walkOf 27 = .ok (.invokestatic 243, 3) := dk_184 0 243 (dk_at dksX0_walkOf_1 5 rfl rfl)
theorem dX0_walkOf_30 : decode cX0_walkOf 30 = .ok (.ifCond .eq 32, 3) := dk_153 0 32 (dk_at dksX0_walkOf_1 8 rfl rfl)
theorem dX0_walkOf_33 : decode cX0_walkOf 33 = .ok (.iload_n 2, 1) := dk_28 (dk_at dksX0_walkOf_1 11 rfl rfl)
theorem dX0_walkOf_34 : decode cX0_walkOf 34 = .ok (.aload_n 0, 1) := dk_42 (dk_at dksX0_walkOf_1 12 rfl rfl)
theorem dX0_walkOf_35 : decode cX0_walkOf 35 = .ok (.getfield 104, 3) := dk_180 0 104 (dk_at dksX0_walkOf_1 13 rfl rfl)
theorem dX0_walkOf_38 : decode cX0_walkOf 38 = .ok (.bipush 6, 2) := dk_16 6 (dk_at dksX0_walkOf_1 16 rfl rfl)
theorem dX0_walkOf_40 : decode cX0_walkOf 40 = .ok (.iload_n 1, 1) := dk_27 (dk_at dksX0_walkOf_1 18 rfl rfl)
theorem dX0_walkOf_41 : decode cX0_walkOf 41 = .ok (.imul, 1) := dk_104 (dk_at dksX0_walkOf_1 19 rfl rfl)
theorem dX0_walkOf_42 : decode cX0_walkOf 42 = .ok (.iload_n 3, 1) := dk_29 (dk_at dksX0_walkOf_1 20 rfl rfl)
theorem dX0_walkOf_43 : decode cX0_walkOf 43 = .ok (.iadd, 1) := dk_96 (dk_at dksX0_walkOf_1 21 rfl rfl)
theorem dX0_walkOf_44 : decode cX0_walkOf 44 = .ok (.iaload, 1) := dk_46 (dk_at dksX0_walkOf_1 22 rfl rfl)
theorem dX0_walkOf_45 : decode cX0_walkOf 45 = .ok (.aload_n 0, 1) := dk_42 (dk_at dksX0_walkOf_1 23 rfl rfl)
theorem dX0_walkOf_46 : decode cX0_walkOf 46 = .ok (.getfield 142, 3) := dk_180 0 142 (dk_at dksX0_walkOf_2 0 rfl rfl)
theorem dX0_walkOf_49 : decode cX0_walkOf 49 = .ok (.getfield 252, 3) := dk_180 0 252 (dk_at dksX0_walkOf_2 3 rfl rfl)
theorem dX0_walkOf_52 : decode cX0_walkOf 52 = .ok (.bipush 6, 2) := dk_16 6 (dk_at dksX0_walkOf_2 6 rfl rfl)
theorem dX0_walkOf_54 : decode cX0_walkOf 54 = .ok (.iload_n 3, 1) := dk_29 (dk_at dksX0_walkOf_2 8 rfl rfl)
theorem dX0_walkOf_55 : decode cX0_walkOf 55 = .ok (.imul, 1) := dk_104 (dk_at dksX0_walkOf_2 9 rfl rfl)
theorem dX0_walkOf_56 : decode cX0_walkOf 56 = .ok (.iaload, 1) := dk_46 (dk_at dksX0_walkOf_2 10 rfl rfl)
theorem dX0_walkOf_57 : decode cX0_walkOf 57 = .ok (.iadd, 1) := dk_96 (dk_at dksX0_walkOf_2 11 rfl rfl)
theorem dX0_walkOf_58 : decode cX0_walkOf 58 = .ok (.invokestatic 375, 3) := dk_184 1 119 (dk_at dksX0_walkOf_2 12 rfl rfl)
theorem dX0_walkOf_61 : decode cX0_walkOf 61 = .ok (.istore_n 2, 1) := dk_61 (dk_at dksX0_walkOf_2 15 rfl rfl)
theorem dX0_walkOf_62 : decode cX0_walkOf 62 = .ok (.iinc 3 1, 3) := dk_132 3 1 (dk_at dksX0_walkOf_2 16 rfl rfl)
theorem dX0_walkOf_65 : decode cX0_walkOf 65 = .ok (.goto (-51), 3) := dk_167 255 205 (dk_at dksX0_walkOf_2 19 rfl rfl)
theorem dX0_walkOf_68 : decode cX0_walkOf 68 = .ok (.iload_n 2, 1) := dk_28 (dk_at dksX0_walkOf_2 22 rfl rfl)
theorem dX0_walkOf_69 : decode cX0_walkOf 69 = .ok (.ireturn, 1) := dk_172 (dk_at dksX0_walkOf_2 23 rfl rfl)
abbrev cX0_isWalkGood : ByteArray := prog_1_method_60_code
def yX0_isWalkGood : MethodName := ⟨RX0, "isWalkGood", "(II)Z"⟩
def dkwX0_isWalkGood_2 : List UInt8 := [167, 255, 223, 42, 45, 27, 182, 1, 109, 172]
abbrev dktX0_isWalkGood_2 : List UInt8 := dkwX0_isWalkGood_2 ++ []
def dkwX0_isWalkGood_1 : List UInt8 := [28, 21, 4, 184, 0, 243, 153, 0, 15, 45, 27, 45, 180, 0, 249, 21, 4, 46, 182, 1, 39, 132, 4, 1]
abbrev dktX0_isWalkGood_1 : List UInt8 := dkwX0_isWalkGood_1 ++ dktX0_isWalkGood_2
def dkwX0_isWalkGood_0 : List UInt8 := [42, 180, 0, 20, 42, 180, 0, 142, 182, 1, 127, 78, 3, 54, 4, 21, 4, 45, 180, 0, 179, 162, 0, 30]
abbrev dktX0_isWalkGood_0 : List UInt8 := dkwX0_isWalkGood_0 ++ dktX0_isWalkGood_1
theorem dksX0_isWalkGood_0 : cX0_isWalkGood.data.toList.drop 0 = dktX0_isWalkGood_0 := by decide +kernel
theorem dksX0_isWalkGood_1 : cX0_isWalkGood.data.toList.drop 24 = dktX0_isWalkGood_1 := dk_seg dksX0_isWalkGood_0 24 rfl rfl
theorem dksX0_isWalkGood_2 : cX0_isWalkGood.data.toList.drop 48 = dktX0_isWalkGood_2 := dk_seg dksX0_isWalkGood_1 24 rfl rfl
theorem dX0_isWalkGood_0 : decode cX0_isWalkGood 0 = .ok (.aload_n 0, 1) := dk_42 (dk_at dksX0_isWalkGood_0 0 rfl rfl)
theorem dX0_isWalkGood_1 : decode cX0_isWalkGood 1 = .ok (.getfield 20, 3) := dk_180 0 20 (dk_at dksX0_isWalkGood_0 1 rfl rfl)
theorem dX0_isWalkGood_4 : decode cX0_isWalkGood 4 = .ok (.aload_n 0, 1) := dk_42 (dk_at dksX0_isWalkGood_0 4 rfl rfl)
theorem dX0_isWalkGood_5 : decode cX0_isWalkGood 5 = .ok (.getfield 142, 3) := dk_180 0 142 (dk_at dksX0_isWalkGood_0 5 rfl rfl)
theorem dX0_isWalkGood_8 : decode cX0_isWalkGood 8 = .ok (.invokevirtual 383, 3) := dk_182 1 127 (dk_at dksX0_isWalkGood_0 8 rfl rfl)
theorem dX0_isWalkGood_11 : decode cX0_isWalkGood 11 = .ok (.astore_n 3, 1) := dk_78 (dk_at dksX0_isWalkGood_0 11 rfl rfl)
theorem dX0_isWalkGood_12 : decode cX0_isWalkGood 12 = .ok (.iconst 0, 1) := dk_3 (dk_at dksX0_isWalkGood_0 12 rfl rfl)
theorem dX0_isWalkGood_13 : decode cX0_isWalkGood 13 = .ok (.istore 4, 2) := dk_54 4 (dk_at dksX0_isWalkGood_0 13 rfl rfl)
theorem dX0_isWalkGood_15 : decode cX0_isWalkGood 15 = .ok (.iload 4, 2) := dk_21 4 (dk_at dksX0_isWalkGood_0 15 rfl rfl)
theorem dX0_isWalkGood_17 : decode cX0_isWalkGood 17 = .ok (.aload_n 3, 1) := dk_45 (dk_at dksX0_isWalkGood_0 17 rfl rfl)
theorem dX0_isWalkGood_18 : decode cX0_isWalkGood 18 = .ok (.getfield 179, 3) := dk_180 0 179 (dk_at dksX0_isWalkGood_0 18 rfl rfl)
theorem dX0_isWalkGood_21 : decode cX0_isWalkGood 21 = .ok (.if_icmp .ge 30, 3) := dk_162 0 30 (dk_at dksX0_isWalkGood_0 21 rfl rfl)
theorem dX0_isWalkGood_24 : decode cX0_isWalkGood 24 = .ok (.iload_n 2, 1) := dk_28 (dk_at dksX0_isWalkGood_1 0 rfl rfl)
theorem dX0_isWalkGood_25 : decode cX0_isWalkGood 25 = .ok (.iload 4, 2) := dk_21 4 (dk_at dksX0_isWalkGood_1 1 rfl rfl)
theorem dX0_isWalkGood_27 : decode cX0_isWalkGood 27 = .ok (.invokestatic 243, 3) := dk_184 0 243 (dk_at dksX0_isWalkGood_1 3 rfl rfl)
theorem dX0_isWalkGood_30 : decode cX0_isWalkGood 30 = .ok (.ifCond .eq 15, 3) := dk_153 0 15 (dk_at dksX0_isWalkGood_1 6 rfl rfl)
theorem dX0_isWalkGood_33 : decode cX0_isWalkGood 33 = .ok (.aload_n 3, 1) := dk_45 (dk_at dksX0_isWalkGood_1 9 rfl rfl)
theorem dX0_isWalkGood_34 : decode cX0_isWalkGood 34 = .ok (.iload_n 1, 1) := dk_27 (dk_at dksX0_isWalkGood_1 10 rfl rfl)
theorem dX0_isWalkGood_35 : decode cX0_isWalkGood 35 = .ok (.aload_n 3, 1) := dk_45 (dk_at dksX0_isWalkGood_1 11 rfl rfl)
theorem dX0_isWalkGood_36 : decode cX0_isWalkGood 36 = .ok (.getfield 249, 3) := dk_180 0 249 (dk_at dksX0_isWalkGood_1 12 rfl rfl)
theorem dX0_isWalkGood_39 : decode cX0_isWalkGood 39 = .ok (.iload 4, 2) := dk_21 4 (dk_at dksX0_isWalkGood_1 15 rfl rfl)
theorem dX0_isWalkGood_41 : decode cX0_isWalkGood 41 = .ok (.iaload, 1) := dk_46 (dk_at dksX0_isWalkGood_1 17 rfl rfl)
theorem dX0_isWalkGood_42 : decode cX0_isWalkGood 42 = .ok (.invokevirtual 295, 3) := dk_182 1 39 (dk_at dksX0_isWalkGood_1 18 rfl rfl)
theorem dX0_isWalkGood_45 : decode cX0_isWalkGood 45 = .ok (.iinc 4 1, 3) := dk_132 4 1 (dk_at dksX0_isWalkGood_1 21 rfl rfl)
theorem dX0_isWalkGood_48 : decode cX0_isWalkGood 48 = .ok (.goto (-33), 3) := dk_167 255 223 (dk_at dksX0_isWalkGood_2 0 rfl rfl)
theorem dX0_isWalkGood_51 : decode cX0_isWalkGood 51 = .ok (.aload_n 0, 1) := dk_42 (dk_at dksX0_isWalkGood_2 3 rfl rfl)
theorem dX0_isWalkGood_52 : decode cX0_isWalkGood 52 = .ok (.aload_n 3, 1) := dk_45 (dk_at dksX0_isWalkGood_2 4 rfl rfl)
theorem dX0_isWalkGood_53 : decode cX0_isWalkGood 53 = .ok (.iload_n 1, 1) := dk_27 (dk_at dksX0_isWalkGood_2 5 rfl rfl)
theorem dX0_isWalkGood_54 : decode cX0_isWalkGood 54 = .ok (.invokevirtual 365, 3) := dk_182 1 109 (dk_at dksX0_isWalkGood_2 6 rfl rfl)
theorem dX0_isWalkGood_57 : decode cX0_isWalkGood 57 = .ok (.ireturn, 1) := dk_172 (dk_at dksX0_isWalkGood_2 9 rfl rfl)
abbrev cX0_bought : ByteArray := prog_1_method_64_code
def yX0_bought : MethodName := ⟨RX0, "bought", "(II)I"⟩
def dkwX0_bought_5 : List UInt8 := [42, 29, 182, 1, 139, 172]
abbrev dktX0_bought_5 : List UInt8 := dkwX0_bought_5 ++ []
def dkwX0_bought_4 : List UInt8 := [21, 4, 62, 132, 4, 1, 167, 255, 194, 29, 16, 254, 159, 0, 8, 28, 4, 160, 0, 7, 29, 167, 0, 8]
abbrev dktX0_bought_4 : List UInt8 := dkwX0_bought_4 ++ dktX0_bought_5
def dkwX0_bought_3 : List UInt8 := [182, 1, 139, 42, 29, 182, 1, 139, 162, 0, 19, 42, 27, 21, 4, 182, 1, 142, 154, 0, 6, 167, 0, 6]
abbrev dktX0_bought_3 : List UInt8 := dkwX0_bought_3 ++ dktX0_bought_4
def dkwX0_bought_2 : List UInt8 := [120, 162, 0, 54, 21, 4, 27, 184, 0, 243, 154, 0, 39, 29, 16, 254, 159, 0, 17, 42, 21, 4]
abbrev dktX0_bought_2 : List UInt8 := dkwX0_bought_2 ++ dktX0_bought_3
def dkwX0_bought_1 : List UInt8 := [42, 180, 0, 142, 182, 0, 138, 87, 16, 254, 62, 3, 54, 4, 21, 4, 4, 42, 180, 0, 142, 180, 0, 145]
abbrev dktX0_bought_1 : List UInt8 := dkwX0_bought_1 ++ dktX0_bought_2
def dkwX0_bought_0 : List UInt8 := [42, 27, 182, 0, 222, 153, 0, 13, 28, 133, 9, 10, 184, 1, 68, 154, 0, 5, 2, 172, 42, 180, 0, 20]
abbrev dktX0_bought_0 : List UInt8 := dkwX0_bought_0 ++ dktX0_bought_1
theorem dksX0_bought_0 : cX0_bought.data.toList.drop 0 = dktX0_bought_0 := by decide +kernel
theorem dksX0_bought_1 : cX0_bought.data.toList.drop 24 = dktX0_bought_1 := dk_seg dksX0_bought_0 24 rfl rfl
theorem dksX0_bought_2 : cX0_bought.data.toList.drop 48 = dktX0_bought_2 := dk_seg dksX0_bought_1 24 rfl rfl
theorem dksX0_bought_3 : cX0_bought.data.toList.drop 70 = dktX0_bought_3 := dk_seg dksX0_bought_2 22 rfl rfl
theorem dksX0_bought_4 : cX0_bought.data.toList.drop 94 = dktX0_bought_4 := dk_seg dksX0_bought_3 24 rfl rfl
theorem dksX0_bought_5 : cX0_bought.data.toList.drop 118 = dktX0_bought_5 := dk_seg dksX0_bought_4 24 rfl rfl
theorem dX0_bought_0 : decode cX0_bought 0 = .ok (.aload_n 0, 1) := dk_42 (dk_at dksX0_bought_0 0 rfl rfl)
theorem dX0_bought_1 : decode cX0_bought 1 = .ok (.iload_n 1, 1) := dk_27 (dk_at dksX0_bought_0 1 rfl rfl)
theorem dX0_bought_2 : decode cX0_bought 2 = .ok (.invokevirtual 222, 3) := dk_182 0 222 (dk_at dksX0_bought_0 2 rfl rfl)
theorem dX0_bought_5 : decode cX0_bought 5 = .ok (.ifCond .eq 13, 3) := dk_153 0 13 (dk_at dksX0_bought_0 5 rfl rfl)
theorem dX0_bought_8 : decode cX0_bought 8 = .ok (.iload_n 2, 1) := dk_28 (dk_at dksX0_bought_0 8 rfl rfl)
theorem dX0_bought_9 : decode cX0_bought 9 = .ok (.i2l, 1) := dk_133 (dk_at dksX0_bought_0 9 rfl rfl)
theorem dX0_bought_10 : decode cX0_bought 10 = .ok (.lconst 0, 1) := dk_9 (dk_at dksX0_bought_0 10 rfl rfl)
theorem dX0_bought_11 : decode cX0_bought 11 = .ok (.lconst 1, 1) := dk_10 (dk_at dksX0_bought_0 11 rfl rfl)
theorem dX0_bought_12 : decode cX0_bought 12 = .ok (.invokestatic 324, 3) := dk_184 1 68 (dk_at dksX0_bought_0 12 rfl rfl)
theorem dX0_bought_15 : decode cX0_bought 15 = .ok (.ifCond .ne 5, 3) := dk_154 0 5 (dk_at dksX0_bought_0 15 rfl rfl)
theorem dX0_bought_18 : decode cX0_bought 18 = .ok (.iconst (-1), 1) := dk_2 (dk_at dksX0_bought_0 18 rfl rfl)
theorem dX0_bought_19 : decode cX0_bought 19 = .ok (.ireturn, 1) := dk_172 (dk_at dksX0_bought_0 19 rfl rfl)
theorem dX0_bought_20 : decode cX0_bought 20 = .ok (.aload_n 0, 1) := dk_42 (dk_at dksX0_bought_0 20 rfl rfl)
theorem dX0_bought_21 : decode cX0_bought 21 = .ok (.getfield 20, 3) := dk_180 0 20 (dk_at dksX0_bought_0 21 rfl rfl)
theorem dX0_bought_24 : decode cX0_bought 24 = .ok (.aload_n 0, 1) := dk_42 (dk_at dksX0_bought_1 0 rfl rfl)
theorem dX0_bought_25 : decode cX0_bought 25 = .ok (.getfield 142, 3) := dk_180 0 142 (dk_at dksX0_bought_1 1 rfl rfl)
theorem dX0_bought_28 : decode cX0_bought 28 = .ok (.invokevirtual 138, 3) := dk_182 0 138 (dk_at dksX0_bought_1 4 rfl rfl)
theorem dX0_bought_31 : decode cX0_bought 31 = .ok (.pop, 1) := dk_87 (dk_at dksX0_bought_1 7 rfl rfl)
theorem dX0_bought_32 : decode cX0_bought 32 = .ok (.bipush (-2), 2) := dk_16 254 (dk_at dksX0_bought_1 8 rfl rfl)
theorem dX0_bought_34 : decode cX0_bought 34 = .ok (.istore_n 3, 1) := dk_62 (dk_at dksX0_bought_1 10 rfl rfl)
theorem dX0_bought_35 : decode cX0_bought 35 = .ok (.iconst 0, 1) := dk_3 (dk_at dksX0_bought_1 11 rfl rfl)
theorem dX0_bought_36 : decode cX0_bought 36 = .ok (.istore 4, 2) := dk_54 4 (dk_at dksX0_bought_1 12 rfl rfl)
theorem dX0_bought_38 : decode cX0_bought 38 = .ok (.iload 4, 2) := dk_21 4 (dk_at dksX0_bought_1 14 rfl rfl)
theorem dX0_bought_40 : decode cX0_bought 40 = .ok (.iconst 1, 1) := dk_4 (dk_at dksX0_bought_1 16 rfl rfl)
theorem dX0_bought_41 : decode cX0_bought 41 = .ok (.aload_n 0, 1) := dk_42 (dk_at dksX0_bought_1 17 rfl rfl)
theorem dX0_bought_42 : decode cX0_bought 42 = .ok (.getfield 142, 3) := dk_180 0 142 (dk_at dksX0_bought_1 18 rfl rfl)
theorem dX0_bought_45 : decode cX0_bought 45 = .ok (.getfield 145, 3) := dk_180 0 145 (dk_at dksX0_bought_1 21 rfl rfl)
theorem dX0_bought_48 : decode cX0_bought 48 = .ok (.ishl, 1) := dk_120 (dk_at dksX0_bought_2 0 rfl rfl)
theorem dX0_bought_49 : decode cX0_bought 49 = .ok (.if_icmp .ge 54, 3) := dk_162 0 54 (dk_at dksX0_bought_2 1 rfl rfl)
theorem dX0_bought_52 : decode cX0_bought 52 = .ok (.iload 4, 2) := dk_21 4 (dk_at dksX0_bought_2 4 rfl rfl)
theorem dX0_bought_54 : decode cX0_bought 54 = .ok (.iload_n 1, 1) := dk_27 (dk_at dksX0_bought_2 6 rfl rfl)
theorem dX0_bought_55 : decode cX0_bought 55 = .ok (.invokestatic 243, 3) := dk_184 0 243 (dk_at dksX0_bought_2 7 rfl rfl)
theorem dX0_bought_58 : decode cX0_bought 58 = .ok (.ifCond .ne 39, 3) := dk_154 0 39 (dk_at dksX0_bought_2 10 rfl rfl)
theorem dX0_bought_61 : decode cX0_bought 61 = .ok (.iload_n 3, 1) := dk_29 (dk_at dksX0_bought_2 13 rfl rfl)
theorem dX0_bought_62 : decode cX0_bought 62 = .ok (.bipush (-2), 2) := dk_16 254 (dk_at dksX0_bought_2 14 rfl rfl)
theorem dX0_bought_64 : decode cX0_bought 64 = .ok (.if_icmp .eq 17, 3) := dk_159 0 17 (dk_at dksX0_bought_2 16 rfl rfl)
theorem dX0_bought_67 : decode cX0_bought 67 = .ok (.aload_n 0, 1) := dk_42 (dk_at dksX0_bought_2 19 rfl rfl)
theorem dX0_bought_68 : decode cX0_bought 68 = .ok (.iload 4, 2) := dk_21 4 (dk_at dksX0_bought_2 20 rfl rfl)
theorem dX0_bought_70 : decode cX0_bought 70 = .ok (.invokevirtual 395, 3) := dk_182 1 139 (dk_at dksX0_bought_3 0 rfl rfl)
theorem dX0_bought_73 : decode cX0_bought 73 = .ok (.aload_n 0, 1) := dk_42 (dk_at dksX0_bought_3 3 rfl rfl)
theorem dX0_bought_74 : decode cX0_bought 74 = .ok (.iload_n 3, 1) := dk_29 (dk_at dksX0_bought_3 4 rfl rfl)
theorem dX0_bought_75 : decode cX0_bought 75 = .ok (.invokevirtual 395, 3) := dk_182 1 139 (dk_at dksX0_bought_3 5 rfl rfl)
theorem dX0_bought_78 : decode cX0_bought 78 = .ok (.if_icmp .ge 19, 3) := dk_162 0 19 (dk_at dksX0_bought_3 8 rfl rfl)
theorem dX0_bought_81 : decode cX0_bought 81 = .ok (.aload_n 0, 1) := dk_42 (dk_at dksX0_bought_3 11 rfl rfl)
theorem dX0_bought_82 : decode cX0_bought 82 = .ok (.iload_n 1, 1) := dk_27 (dk_at dksX0_bought_3 12 rfl rfl)
theorem dX0_bought_83 : decode cX0_bought 83 = .ok (.iload 4, 2) := dk_21 4 (dk_at dksX0_bought_3 13 rfl rfl)
theorem dX0_bought_85 : decode cX0_bought 85 = .ok (.invokevirtual 398, 3) := dk_182 1 142 (dk_at dksX0_bought_3 15 rfl rfl)
theorem dX0_bought_88 : decode cX0_bought 88 = .ok (.ifCond .ne 6, 3) := dk_154 0 6 (dk_at dksX0_bought_3 18 rfl rfl)
theorem dX0_bought_91 : decode cX0_bought 91 = .ok (.goto 6, 3) := dk_167 0 6 (dk_at dksX0_bought_3 21 rfl rfl)
theorem dX0_bought_94 : decode cX0_bought 94 = .ok (.iload 4, 2) := dk_21 4 (dk_at dksX0_bought_4 0 rfl rfl)
theorem dX0_bought_96 : decode cX0_bought 96 = .ok (.istore_n 3, 1) := dk_62 (dk_at dksX0_bought_4 2 rfl rfl)
theorem dX0_bought_97 : decode cX0_bought 97 = .ok (.iinc 4 1, 3) := dk_132 4 1 (dk_at dksX0_bought_4 3 rfl rfl)
theorem dX0_bought_100 : decode cX0_bought 100 = .ok (.goto (-62), 3) := dk_167 255 194 (dk_at dksX0_bought_4 6 rfl rfl)
theorem dX0_bought_103 : decode cX0_bought 103 = .ok (.iload_n 3, 1) := dk_29 (dk_at dksX0_bought_4 9 rfl rfl)
theorem dX0_bought_104 : decode cX0_bought 104 = .ok (.bipush (-2), 2) := dk_16 254 (dk_at dksX0_bought_4 10 rfl rfl)
theorem dX0_bought_106 : decode cX0_bought 106 = .ok (.if_icmp .eq 8, 3) := dk_159 0 8 (dk_at dksX0_bought_4 12 rfl rfl)
theorem dX0_bought_109 : decode cX0_bought 109 = .ok (.iload_n 2, 1) := dk_28 (dk_at dksX0_bought_4 15 rfl rfl)
theorem dX0_bought_110 : decode cX0_bought 110 = .ok (.iconst 1, 1) := dk_4 (dk_at dksX0_bought_4 16 rfl rfl)
theorem dX0_bought_111 : decode cX0_bought 111 = .ok (.if_icmp .ne 7, 3) := dk_160 0 7 (dk_at dksX0_bought_4 17 rfl rfl)
theorem dX0_bought_114 : decode cX0_bought 114 = .ok (.iload_n 3, 1) := dk_29 (dk_at dksX0_bought_4 20 rfl rfl)
theorem dX0_bought_115 : decode cX0_bought 115 = .ok (.goto 8, 3) := dk_167 0 8 (dk_at dksX0_bought_4 21 rfl rfl)
theorem dX0_bought_118 : decode cX0_bought 118 = .ok (.aload_n 0, 1) := dk_42 (dk_at dksX0_bought_5 0 rfl rfl)
theorem dX0_bought_119 : decode cX0_bought 119 = .ok (.iload_n 3, 1) := dk_29 (dk_at dksX0_bought_5 1 rfl rfl)
theorem dX0_bought_120 : decode cX0_bought 120 = .ok (.invokevirtual 395, 3) := dk_182 1 139 (dk_at dksX0_bought_5 2 rfl rfl)
theorem dX0_bought_123 : decode cX0_bought 123 = .ok (.ireturn, 1) := dk_172 (dk_at dksX0_bought_5 5 rfl rfl)
abbrev cX0_paidFor : ByteArray := prog_1_method_62_code
def yX0_paidFor : MethodName := ⟨RX0, "paidFor", "(I)I"⟩
def dkwX0_paidFor_1 : List UInt8 := [42, 180, 0, 142, 180, 0, 227, 29, 46, 167, 0, 4, 3, 96, 61, 132, 3, 1, 167, 255, 218, 28, 172]
abbrev dktX0_paidFor_1 : List UInt8 := dkwX0_paidFor_1 ++ []
def dkwX0_paidFor_0 : List UInt8 := [3, 61, 3, 62, 29, 42, 180, 0, 142, 180, 0, 145, 162, 0, 33, 28, 27, 29, 184, 0, 243, 153, 0, 15]
abbrev dktX0_paidFor_0 : List UInt8 := dkwX0_paidFor_0 ++ dktX0_paidFor_1
theorem dksX0_paidFor_0 : cX0_paidFor.data.toList.drop 0 = dktX0_paidFor_0 := by decide +kernel
theorem dksX0_paidFor_1 : cX0_paidFor.data.toList.drop 24 = dktX0_paidFor_1 := dk_seg dksX0_paidFor_0 24 rfl rfl
theorem dX0_paidFor_0 : decode cX0_paidFor 0 = .ok (.iconst 0, 1) := dk_3 (dk_at dksX0_paidFor_0 0 rfl rfl)
theorem dX0_paidFor_1 : decode cX0_paidFor 1 = .ok (.istore_n 2, 1) := dk_61 (dk_at dksX0_paidFor_0 1 rfl rfl)
theorem dX0_paidFor_2 : decode cX0_paidFor 2 = .ok (.iconst 0, 1) := dk_3 (dk_at dksX0_paidFor_0 2 rfl rfl)
theorem dX0_paidFor_3 : decode cX0_paidFor 3 = .ok (.istore_n 3, 1) := dk_62 (dk_at dksX0_paidFor_0 3 rfl rfl)
theorem dX0_paidFor_4 : decode cX0_paidFor 4 = .ok (.iload_n 3, 1) := dk_29 (dk_at dksX0_paidFor_0 4 rfl rfl)
theorem dX0_paidFor_5 : decode cX0_paidFor 5 = .ok (.aload_n 0, 1) := dk_42 (dk_at dksX0_paidFor_0 5 rfl rfl)
theorem dX0_paidFor_6 : decode cX0_paidFor 6 = .ok (.getfield 142, 3) := dk_180 0 142 (dk_at dksX0_paidFor_0 6 rfl rfl)
theorem dX0_paidFor_9 : decode cX0_paidFor 9 = .ok (.getfield 145, 3) := dk_180 0 145 (dk_at dksX0_paidFor_0 9 rfl rfl)
theorem dX0_paidFor_12 : decode cX0_paidFor 12 = .ok (.if_icmp .ge 33, 3) := dk_162 0 33 (dk_at dksX0_paidFor_0 12 rfl rfl)
theorem dX0_paidFor_15 : decode cX0_paidFor 15 = .ok (.iload_n 2, 1) := dk_28 (dk_at dksX0_paidFor_0 15 rfl rfl)
theorem dX0_paidFor_16 : decode cX0_paidFor 16 = .ok (.iload_n 1, 1) := dk_27 (dk_at dksX0_paidFor_0 16 rfl rfl)
theorem dX0_paidFor_17 : decode cX0_paidFor 17 = .ok (.iload_n 3, 1) := dk_29 (dk_at dksX0_paidFor_0 17 rfl rfl)
theorem dX0_paidFor_18 : decode cX0_paidFor 18 = .ok (.invokestatic 243, 3) := dk_184 0 243 (dk_at dksX0_paidFor_0 18 rfl rfl)
theorem dX0_paidFor_21 : decode cX0_paidFor 21 = .ok (.ifCond .eq 15, 3) := dk_153 0 15 (dk_at dksX0_paidFor_0 21 rfl rfl)
theorem dX0_paidFor_24 : decode cX0_paidFor 24 = .ok (.aload_n 0, 1) := dk_42 (dk_at dksX0_paidFor_1 0 rfl rfl)
theorem dX0_paidFor_25 : decode cX0_paidFor 25 = .ok (.getfield 142, 3) := dk_180 0 142 (dk_at dksX0_paidFor_1 1 rfl rfl)
theorem dX0_paidFor_28 : decode cX0_paidFor 28 = .ok (.getfield 227, 3) := dk_180 0 227 (dk_at dksX0_paidFor_1 4 rfl rfl)
theorem dX0_paidFor_31 : decode cX0_paidFor 31 = .ok (.iload_n 3, 1) := dk_29 (dk_at dksX0_paidFor_1 7 rfl rfl)
theorem dX0_paidFor_32 : decode cX0_paidFor 32 = .ok (.iaload, 1) := dk_46 (dk_at dksX0_paidFor_1 8 rfl rfl)
theorem dX0_paidFor_33 : decode cX0_paidFor 33 = .ok (.goto 4, 3) := dk_167 0 4 (dk_at dksX0_paidFor_1 9 rfl rfl)
theorem dX0_paidFor_36 : decode cX0_paidFor 36 = .ok (.iconst 0, 1) := dk_3 (dk_at dksX0_paidFor_1 12 rfl rfl)
theorem dX0_paidFor_37 : decode cX0_paidFor 37 = .ok (.iadd, 1) := dk_96 (dk_at dksX0_paidFor_1 13 rfl rfl)
theorem dX0_paidFor_38 : decode cX0_paidFor 38 = .ok (.istore_n 2, 1) := dk_61 (dk_at dksX0_paidFor_1 14 rfl rfl)
theorem dX0_paidFor_39 : decode cX0_paidFor 39 = .ok (.iinc 3 1, 3) := dk_132 3 1 (dk_at dksX0_paidFor_1 15 rfl rfl)
theorem dX0_paidFor_42 : decode cX0_paidFor 42 = .ok (.goto (-38), 3) := dk_167 255 218 (dk_at dksX0_paidFor_1 18 rfl rfl)
theorem dX0_paidFor_45 : decode cX0_paidFor 45 = .ok (.iload_n 2, 1) := dk_28 (dk_at dksX0_paidFor_1 21 rfl rfl)
theorem dX0_paidFor_46 : decode cX0_paidFor 46 = .ok (.ireturn, 1) := dk_172 (dk_at dksX0_paidFor_1 22 rfl rfl)
abbrev cX0_isBuyGood : ByteArray := prog_1_method_63_code
def yX0_isBuyGood : MethodName := ⟨RX0, "isBuyGood", "(II)Z"⟩
def dkwX0_isBuyGood_3 : List UInt8 := [132, 5, 1, 167, 255, 209, 132, 4, 1, 167, 255, 191, 42, 45, 27, 182, 1, 109, 172]
abbrev dktX0_isBuyGood_3 : List UInt8 := dkwX0_isBuyGood_3 ++ []
def dkwX0_isBuyGood_2 : List UInt8 := [104, 21, 5, 96, 92, 47, 42, 180, 0, 142, 180, 0, 185, 7, 21, 4, 104, 21, 5, 96, 47, 127, 80]
abbrev dktX0_isBuyGood_2 : List UInt8 := dkwX0_isBuyGood_2 ++ dktX0_isBuyGood_3
def dkwX0_isBuyGood_1 : List UInt8 := [3, 54, 5, 21, 5, 7, 162, 0, 47, 28, 21, 4, 184, 0, 243, 153, 0, 38, 45, 180, 0, 185, 7, 27]
abbrev dktX0_isBuyGood_1 : List UInt8 := dkwX0_isBuyGood_1 ++ dktX0_isBuyGood_2
def dkwX0_isBuyGood_0 : List UInt8 := [42, 180, 0, 20, 42, 180, 0, 142, 182, 1, 127, 78, 3, 54, 4, 21, 4, 45, 180, 0, 145, 162, 0, 62]
abbrev dktX0_isBuyGood_0 : List UInt8 := dkwX0_isBuyGood_0 ++ dktX0_isBuyGood_1
theorem dksX0_isBuyGood_0 : cX0_isBuyGood.data.toList.drop 0 = dktX0_isBuyGood_0 := by decide +kernel
theorem dksX0_isBuyGood_1 : cX0_isBuyGood.data.toList.drop 24 = dktX0_isBuyGood_1 := dk_seg dksX0_isBuyGood_0 24 rfl rfl
theorem dksX0_isBuyGood_2 : cX0_isBuyGood.data.toList.drop 48 = dktX0_isBuyGood_2 := dk_seg dksX0_isBuyGood_1 24 rfl rfl
theorem dksX0_isBuyGood_3 : cX0_isBuyGood.data.toList.drop 71 = dktX0_isBuyGood_3 := dk_seg dksX0_isBuyGood_2 23 rfl rfl
theorem dX0_isBuyGood_0 : decode cX0_isBuyGood 0 = .ok (.aload_n 0, 1) := dk_42 (dk_at dksX0_isBuyGood_0 0 rfl rfl)
theorem dX0_isBuyGood_1 : decode cX0_isBuyGood 1 = .ok (.getfield 20, 3) := dk_180 0 20 (dk_at dksX0_isBuyGood_0 1 rfl rfl)
theorem dX0_isBuyGood_4 : decode cX0_isBuyGood 4 = .ok (.aload_n 0, 1) := dk_42 (dk_at dksX0_isBuyGood_0 4 rfl rfl)
theorem dX0_isBuyGood_5 : decode cX0_isBuyGood 5 = .ok (.getfield 142, 3) := dk_180 0 142 (dk_at dksX0_isBuyGood_0 5 rfl rfl)
theorem dX0_isBuyGood_8 : decode cX0_isBuyGood 8 = .ok (.invokevirtual 383, 3) := dk_182 1 127 (dk_at dksX0_isBuyGood_0 8 rfl rfl)
theorem dX0_isBuyGood_11 : decode cX0_isBuyGood 11 = .ok (.astore_n 3, 1) := dk_78 (dk_at dksX0_isBuyGood_0 11 rfl rfl)
theorem dX0_isBuyGood_12 : decode cX0_isBuyGood 12 = .ok (.iconst 0, 1) := dk_3 (dk_at dksX0_isBuyGood_0 12 rfl rfl)
theorem dX0_isBuyGood_13 : decode cX0_isBuyGood 13 = .ok (.istore 4, 2) := dk_54 4 (dk_at dksX0_isBuyGood_0 13 rfl rfl)
theorem dX0_isBuyGood_15 : decode cX0_isBuyGood 15 = .ok (.iload 4, 2) := dk_21 4 (dk_at dksX0_isBuyGood_0 15 rfl rfl)
theorem dX0_isBuyGood_17 : decode cX0_isBuyGood 17 = .ok (.aload_n 3, 1) := dk_45 (dk_at dksX0_isBuyGood_0 17 rfl rfl)
theorem dX0_isBuyGood_18 : decode cX0_isBuyGood 18 = .ok (.getfield 145, 3) := dk_180 0 145 (dk_at dksX0_isBuyGood_0 18 rfl rfl)
theorem dX0_isBuyGood_21 : decode cX0_isBuyGood 21 = .ok (.if_icmp .ge 62, 3) := dk_162 0 62 (dk_at dksX0_isBuyGood_0 21 rfl rfl)
theorem dX0_isBuyGood_24 : decode cX0_isBuyGood 24 = .ok (.iconst 0, 1) := dk_3 (dk_at dksX0_isBuyGood_1 0 rfl rfl)
theorem dX0_isBuyGood_25 : decode cX0_isBuyGood 25 = .ok (.istore 5, 2) := dk_54 5 (dk_at dksX0_isBuyGood_1 1 rfl rfl)
theorem dX0_isBuyGood_27 : decode cX0_isBuyGood 27 = .ok (.iload 5, 2) := dk_21 5 (dk_at dksX0_isBuyGood_1 3 rfl rfl)
theorem dX0_isBuyGood_29 : decode cX0_isBuyGood 29 = .ok (.iconst 4, 1) := dk_7 (dk_at dksX0_isBuyGood_1 5 rfl rfl)
theorem dX0_isBuyGood_30 : decode cX0_isBuyGood 30 = .ok (.if_icmp .ge 47, 3) := dk_162 0 47 (dk_at dksX0_isBuyGood_1 6 rfl rfl)
theorem dX0_isBuyGood_33 : decode cX0_isBuyGood 33 = .ok (.iload_n 2, 1) := dk_28 (dk_at dksX0_isBuyGood_1 9 rfl rfl)
theorem dX0_isBuyGood_34 : decode cX0_isBuyGood 34 = .ok (.iload 4, 2) := dk_21 4 (dk_at dksX0_isBuyGood_1 10 rfl rfl)
theorem dX0_isBuyGood_36 : decode cX0_isBuyGood 36 = .ok (.invokestatic 243, 3) := dk_184 0 243 (dk_at dksX0_isBuyGood_1 12 rfl rfl)
theorem dX0_isBuyGood_39 : decode cX0_isBuyGood 39 = .ok (.ifCond .eq 38, 3) := dk_153 0 38 (dk_at dksX0_isBuyGood_1 15 rfl rfl)
theorem dX0_isBuyGood_42 : decode cX0_isBuyGood 42 = .ok (.aload_n 3, 1) := dk_45 (dk_at dksX0_isBuyGood_1 18 rfl rfl)
theorem dX0_isBuyGood_43 : decode cX0_isBuyGood 43 = .ok (.getfield 185, 3) := dk_180 0 185 (dk_at dksX0_isBuyGood_1 19 rfl rfl)
theorem dX0_isBuyGood_46 : decode cX0_isBuyGood 46 = .ok (.iconst 4, 1) := dk_7 (dk_at dksX0_isBuyGood_1 22 rfl rfl)
theorem dX0_isBuyGood_47 : decode cX0_isBuyGood 47 = .ok (.iload_n 1, 1) := dk_27 (dk_at dksX0_isBuyGood_1 23 rfl rfl)
theorem dX0_isBuyGood_48 : decode cX0_isBuyGood 48 = .ok (.imul, 1) := dk_104 (dk_at dksX0_isBuyGood_2 0 rfl rfl)
theorem dX0_isBuyGood_49 : decode cX0_isBuyGood 49 = .ok (.iload 5, 2) := dk_21 5 (dk_at dksX0_isBuyGood_2 1 rfl rfl)
theorem dX0_isBuyGood_51 : decode cX0_isBuyGood 51 = .ok (.iadd, 1) := dk_96 (dk_at dksX0_isBuyGood_2 3 rfl rfl)
theorem dX0_isBuyGood_52 : decode cX0_isBuyGood 52 = .ok (.dup2, 1) := dk_92 (dk_at dksX0_isBuyGood_2 4 rfl rfl)
theorem dX0_isBuyGood_53 : decode cX0_isBuyGood 53 = .ok (.laload, 1) := dk_47 (dk_at dksX0_isBuyGood_2 5 rfl rfl)
theorem dX0_isBuyGood_54 : decode cX0_isBuyGood 54 = .ok (.aload_n 0, 1) := dk_42 (dk_at dksX0_isBuyGood_2 6 rfl rfl)
theorem dX0_isBuyGood_55 : decode cX0_isBuyGood 55 = .ok (.getfield 142, 3) := dk_180 0 142 (dk_at dksX0_isBuyGood_2 7 rfl rfl)
theorem dX0_isBuyGood_58 : decode cX0_isBuyGood 58 = .ok (.getfield 185, 3) := dk_180 0 185 (dk_at dksX0_isBuyGood_2 10 rfl rfl)
theorem dX0_isBuyGood_61 : decode cX0_isBuyGood 61 = .ok (.iconst 4, 1) := dk_7 (dk_at dksX0_isBuyGood_2 13 rfl rfl)
theorem dX0_isBuyGood_62 : decode cX0_isBuyGood 62 = .ok (.iload 4, 2) := dk_21 4 (dk_at dksX0_isBuyGood_2 14 rfl rfl)
theorem dX0_isBuyGood_64 : decode cX0_isBuyGood 64 = .ok (.imul, 1) := dk_104 (dk_at dksX0_isBuyGood_2 16 rfl rfl)
theorem dX0_isBuyGood_65 : decode cX0_isBuyGood 65 = .ok (.iload 5, 2) := dk_21 5 (dk_at dksX0_isBuyGood_2 17 rfl rfl)
theorem dX0_isBuyGood_67 : decode cX0_isBuyGood 67 = .ok (.iadd, 1) := dk_96 (dk_at dksX0_isBuyGood_2 19 rfl rfl)
theorem dX0_isBuyGood_68 : decode cX0_isBuyGood 68 = .ok (.laload, 1) := dk_47 (dk_at dksX0_isBuyGood_2 20 rfl rfl)
theorem dX0_isBuyGood_69 : decode cX0_isBuyGood 69 = .ok (.land, 1) := dk_127 (dk_at dksX0_isBuyGood_2 21 rfl rfl)
theorem dX0_isBuyGood_70 : decode cX0_isBuyGood 70 = .ok (.lastore, 1) := dk_80 (dk_at dksX0_isBuyGood_2 22 rfl rfl)
theorem dX0_isBuyGood_71 : decode cX0_isBuyGood 71 = .ok (.iinc 5 1, 3) := dk_132 5 1 (dk_at dksX0_isBuyGood_3 0 rfl rfl)
theorem dX0_isBuyGood_74 : decode cX0_isBuyGood 74 = .ok (.goto (-47), 3) := dk_167 255 209 (dk_at dksX0_isBuyGood_3 3 rfl rfl)
theorem dX0_isBuyGood_77 : decode cX0_isBuyGood 77 = .ok (.iinc 4 1, 3) := dk_132 4 1 (dk_at dksX0_isBuyGood_3 6 rfl rfl)
theorem dX0_isBuyGood_80 : decode cX0_isBuyGood 80 = .ok (.goto (-65), 3) := dk_167 255 191 (dk_at dksX0_isBuyGood_3 9 rfl rfl)
theorem dX0_isBuyGood_83 : decode cX0_isBuyGood 83 = .ok (.aload_n 0, 1) := dk_42 (dk_at dksX0_isBuyGood_3 12 rfl rfl)
theorem dX0_isBuyGood_84 : decode cX0_isBuyGood 84 = .ok (.aload_n 3, 1) := dk_45 (dk_at dksX0_isBuyGood_3 13 rfl rfl)
theorem dX0_isBuyGood_85 : decode cX0_isBuyGood 85 = .ok (.iload_n 1, 1) := dk_27 (dk_at dksX0_isBuyGood_3 14 rfl rfl)
theorem dX0_isBuyGood_86 : decode cX0_isBuyGood 86 = .ok (.invokevirtual 365, 3) := dk_182 1 109 (dk_at dksX0_isBuyGood_3 15 rfl rfl)
theorem dX0_isBuyGood_89 : decode cX0_isBuyGood 89 = .ok (.ireturn, 1) := dk_172 (dk_at dksX0_isBuyGood_3 18 rfl rfl)
abbrev cX0_trial : ByteArray := prog_1_method_65_code
def yX0_trial : MethodName := ⟨RX0, "trial", "(IZ)I"⟩
def dkwX0_trial_4 : List UInt8 := [180, 0, 142, 89, 180, 1, 145, 4, 96, 181, 1, 145, 42, 180, 0, 142, 180, 1, 145, 172]
abbrev dktX0_trial_4 : List UInt8 := dkwX0_trial_4 ++ []
def dkwX0_trial_3 : List UInt8 := [5, 42, 180, 0, 142, 180, 1, 145, 104, 4, 96, 28, 153, 0, 7, 4, 167, 0, 4, 3, 79, 42]
abbrev dktX0_trial_3 : List UInt8 := dkwX0_trial_3 ++ dktX0_trial_4
def dkwX0_trial_2 : List UInt8 := [180, 0, 142, 180, 1, 148, 5, 42, 180, 0, 142, 180, 1, 145, 104, 27, 79, 42, 180, 0, 142, 180, 1, 148]
abbrev dktX0_trial_2 : List UInt8 := dkwX0_trial_2 ++ dktX0_trial_3
def dkwX0_trial_1 : List UInt8 := [182, 1, 2, 153, 0, 15, 42, 180, 0, 142, 180, 1, 145, 16, 10, 160, 0, 6, 16, 254, 172, 42]
abbrev dktX0_trial_1 : List UInt8 := dkwX0_trial_1 ++ dktX0_trial_2
def dkwX0_trial_0 : List UInt8 := [27, 2, 160, 0, 20, 42, 180, 0, 142, 198, 0, 11, 42, 180, 0, 142, 3, 181, 1, 145, 3, 172, 42, 27]
abbrev dktX0_trial_0 : List UInt8 := dkwX0_trial_0 ++ dktX0_trial_1
theorem dksX0_trial_0 : cX0_trial.data.toList.drop 0 = dktX0_trial_0 := by decide +kernel
theorem dksX0_trial_1 : cX0_trial.data.toList.drop 24 = dktX0_trial_1 := dk_seg dksX0_trial_0 24 rfl rfl
theorem dksX0_trial_2 : cX0_trial.data.toList.drop 46 = dktX0_trial_2 := dk_seg dksX0_trial_1 22 rfl rfl
theorem dksX0_trial_3 : cX0_trial.data.toList.drop 70 = dktX0_trial_3 := dk_seg dksX0_trial_2 24 rfl rfl
theorem dksX0_trial_4 : cX0_trial.data.toList.drop 92 = dktX0_trial_4 := dk_seg dksX0_trial_3 22 rfl rfl
theorem dX0_trial_0 : decode cX0_trial 0 = .ok (.iload_n 1, 1) := dk_27 (dk_at dksX0_trial_0 0 rfl rfl)
theorem dX0_trial_1 : decode cX0_trial 1 = .ok (.iconst (-1), 1) := dk_2 (dk_at dksX0_trial_0 1 rfl rfl)
theorem dX0_trial_2 : decode cX0_trial 2 = .ok (.if_icmp .ne 20, 3) := dk_160 0 20 (dk_at dksX0_trial_0 2 rfl rfl)
theorem dX0_trial_5 : decode cX0_trial 5 = .ok (.aload_n 0, 1) := dk_42 (dk_at dksX0_trial_0 5 rfl rfl)
theorem dX0_trial_6 : decode cX0_trial 6 = .ok (.getfield 142, 3) := dk_180 0 142 (dk_at dksX0_trial_0 6 rfl rfl)
theorem dX0_trial_9 : decode cX0_trial 9 = .ok (.ifnull 11, 3) := dk_198 0 11 (dk_at dksX0_trial_0 9 rfl rfl)
theorem dX0_trial_12 : decode cX0_trial 12 = .ok (.aload_n 0, 1) := dk_42 (dk_at dksX0_trial_0 12 rfl rfl)
theorem dX0_trial_13 : decode cX0_trial 13 = .ok (.getfield 142, 3) := dk_180 0 142 (dk_at dksX0_trial_0 13 rfl rfl)
theorem dX0_trial_16 : decode cX0_trial 16 = .ok (.iconst 0, 1) := dk_3 (dk_at dksX0_trial_0 16 rfl rfl)
theorem dX0_trial_17 : decode cX0_trial 17 = .ok (.putfield 401, 3) := dk_181 1 145 (dk_at dksX0_trial_0 17 rfl rfl)
theorem dX0_trial_20 : decode cX0_trial 20 = .ok (.iconst 0, 1) := dk_3 (dk_at dksX0_trial_0 20 rfl rfl)
theorem dX0_trial_21 : decode cX0_trial 21 = .ok (.ireturn, 1) := dk_172 (dk_at dksX0_trial_0 21 rfl rfl)
theorem dX0_trial_22 : decode cX0_trial 22 = .ok (.aload_n 0, 1) := dk_42 (dk_at dksX0_trial_0 22 rfl rfl)
theorem dX0_trial_23 : decode cX0_trial 23 = .ok (.iload_n 1, 1) := dk_27 (dk_at dksX0_trial_0 23 rfl rfl)
theorem dX0_trial_24 : decode cX0_trial 24 = .ok (.invokevirtual 258, 3) := dk_182 1 2 (dk_at dksX0_trial_1 0 rfl rfl)
theorem dX0_trial_27 : decode cX0_trial 27 = .ok (.ifCond .eq 15, 3) := dk_153 0 15 (dk_at dksX0_trial_1 3 rfl rfl)
theorem dX0_trial_30 : decode cX0_trial 30 = .ok (.aload_n 0, 1) := dk_42 (dk_at dksX0_trial_1 6 rfl rfl)
theorem dX0_trial_31 : decode cX0_trial 31 = .ok (.getfield 142, 3) := dk_180 0 142 (dk_at dksX0_trial_1 7 rfl rfl)
theorem dX0_trial_34 : decode cX0_trial 34 = .ok (.getfield 401, 3) := dk_180 1 145 (dk_at dksX0_trial_1 10 rfl rfl)
theorem dX0_trial_37 : decode cX0_trial 37 = .ok (.bipush 10, 2) := dk_16 10 (dk_at dksX0_trial_1 13 rfl rfl)
theorem dX0_trial_39 : decode cX0_trial 39 = .ok (.if_icmp .ne 6, 3) := dk_160 0 6 (dk_at dksX0_trial_1 15 rfl rfl)
theorem dX0_trial_42 : decode cX0_trial 42 = .ok (.bipush (-2), 2) := dk_16 254 (dk_at dksX0_trial_1 18 rfl rfl)
theorem dX0_trial_44 : decode cX0_trial 44 = .ok (.ireturn, 1) := dk_172 (dk_at dksX0_trial_1 20 rfl rfl)
theorem dX0_trial_45 : decode cX0_trial 45 = .ok (.aload_n 0, 1) := dk_42 (dk_at dksX0_trial_1 21 rfl rfl)
theorem dX0_trial_46 : decode cX0_trial 46 = .ok (.getfield 142, 3) := dk_180 0 142 (dk_at dksX0_trial_2 0 rfl rfl)
theorem dX0_trial_49 : decode cX0_trial 49 = .ok (.getfield 404, 3) := dk_180 1 148 (dk_at dksX0_trial_2 3 rfl rfl)
theorem dX0_trial_52 : decode cX0_trial 52 = .ok (.iconst 2, 1) := dk_5 (dk_at dksX0_trial_2 6 rfl rfl)
theorem dX0_trial_53 : decode cX0_trial 53 = .ok (.aload_n 0, 1) := dk_42 (dk_at dksX0_trial_2 7 rfl rfl)
theorem dX0_trial_54 : decode cX0_trial 54 = .ok (.getfield 142, 3) := dk_180 0 142 (dk_at dksX0_trial_2 8 rfl rfl)
theorem dX0_trial_57 : decode cX0_trial 57 = .ok (.getfield 401, 3) := dk_180 1 145 (dk_at dksX0_trial_2 11 rfl rfl)
theorem dX0_trial_60 : decode cX0_trial 60 = .ok (.imul, 1) := dk_104 (dk_at dksX0_trial_2 14 rfl rfl)
theorem dX0_trial_61 : decode cX0_trial 61 = .ok (.iload_n 1, 1) := dk_27 (dk_at dksX0_trial_2 15 rfl rfl)
theorem dX0_trial_62 : decode cX0_trial 62 = .ok (.iastore, 1) := dk_79 (dk_at dksX0_trial_2 16 rfl rfl)
theorem dX0_trial_63 : decode cX0_trial 63 = .ok (.aload_n 0, 1) := dk_42 (dk_at dksX0_trial_2 17 rfl rfl)
theorem dX0_trial_64 : decode cX0_trial 64 = .ok (.getfield 142, 3) := dk_180 0 142 (dk_at dksX0_trial_2 18 rfl rfl)
theorem dX0_trial_67 : decode cX0_trial 67 = .ok (.getfield 404, 3) := dk_180 1 148 (dk_at dksX0_trial_2 21 rfl rfl)
theorem dX0_trial_70 : decode cX0_trial 70 = .ok (.iconst 2, 1) := dk_5 (dk_at dksX0_trial_3 0 rfl rfl)
theorem dX0_trial_71 : decode cX0_trial 71 = .ok (.aload_n 0, 1) := dk_42 (dk_at dksX0_trial_3 1 rfl rfl)
theorem dX0_trial_72 : decode cX0_trial 72 = .ok (.getfield 142, 3) := dk_180 0 142 (dk_at dksX0_trial_3 2 rfl rfl)
theorem dX0_trial_75 : decode cX0_trial 75 = .ok (.getfield 401, 3) := dk_180 1 145 (dk_at dksX0_trial_3 5 rfl rfl)
theorem dX0_trial_78 : decode cX0_trial 78 = .ok (.imul, 1) := dk_104 (dk_at dksX0_trial_3 8 rfl rfl)
theorem dX0_trial_79 : decode cX0_trial 79 = .ok (.iconst 1, 1) := dk_4 (dk_at dksX0_trial_3 9 rfl rfl)
theorem dX0_trial_80 : decode cX0_trial 80 = .ok (.iadd, 1) := dk_96 (dk_at dksX0_trial_3 10 rfl rfl)
theorem dX0_trial_81 : decode cX0_trial 81 = .ok (.iload_n 2, 1) := dk_28 (dk_at dksX0_trial_3 11 rfl rfl)
theorem dX0_trial_82 : decode cX0_trial 82 = .ok (.ifCond .eq 7, 3) := dk_153 0 7 (dk_at dksX0_trial_3 12 rfl rfl)
theorem dX0_trial_85 : decode cX0_trial 85 = .ok (.iconst 1, 1) := dk_4 (dk_at dksX0_trial_3 15 rfl rfl)
theorem dX0_trial_86 : decode cX0_trial 86 = .ok (.goto 4, 3) := dk_167 0 4 (dk_at dksX0_trial_3 16 rfl rfl)
theorem dX0_trial_89 : decode cX0_trial 89 = .ok (.iconst 0, 1) := dk_3 (dk_at dksX0_trial_3 19 rfl rfl)
theorem dX0_trial_90 : decode cX0_trial 90 = .ok (.iastore, 1) := dk_79 (dk_at dksX0_trial_3 20 rfl rfl)
theorem dX0_trial_91 : decode cX0_trial 91 = .ok (.aload_n 0, 1) := dk_42 (dk_at dksX0_trial_3 21 rfl rfl)
theorem dX0_trial_92 : decode cX0_trial 92 = .ok (.getfield 142, 3) := dk_180 0 142 (dk_at dksX0_trial_4 0 rfl rfl)
theorem dX0_trial_95 : decode cX0_trial 95 = .ok (.dup, 1) := dk_89 (dk_at dksX0_trial_4 3 rfl rfl)
theorem dX0_trial_96 : decode cX0_trial 96 = .ok (.getfield 401, 3) := dk_180 1 145 (dk_at dksX0_trial_4 4 rfl rfl)
theorem dX0_trial_99 : decode cX0_trial 99 = .ok (.iconst 1, 1) := dk_4 (dk_at dksX0_trial_4 7 rfl rfl)
theorem dX0_trial_100 : decode cX0_trial 100 = .ok (.iadd, 1) := dk_96 (dk_at dksX0_trial_4 8 rfl rfl)
theorem dX0_trial_101 : decode cX0_trial 101 = .ok (.putfield 401, 3) := dk_181 1 145 (dk_at dksX0_trial_4 9 rfl rfl)
theorem dX0_trial_104 : decode cX0_trial 104 = .ok (.aload_n 0, 1) := dk_42 (dk_at dksX0_trial_4 12 rfl rfl)
theorem dX0_trial_105 : decode cX0_trial 105 = .ok (.getfield 142, 3) := dk_180 0 142 (dk_at dksX0_trial_4 13 rfl rfl)
theorem dX0_trial_108 : decode cX0_trial 108 = .ok (.getfield 401, 3) := dk_180 1 145 (dk_at dksX0_trial_4 16 rfl rfl)
theorem dX0_trial_111 : decode cX0_trial 111 = .ok (.ireturn, 1) := dk_172 (dk_at dksX0_trial_4 19 rfl rfl)
abbrev cX0_sets : ByteArray := prog_1_method_68_code
def yX0_sets : MethodName := ⟨RX0, "sets", "(I)I"⟩
def dkwX0_sets_5 : List UInt8 := [21, 4, 2, 130, 126, 172]
abbrev dktX0_sets_5 : List UInt8 := dkwX0_sets_5 ++ []
def dkwX0_sets_4 : List UInt8 := [167, 0, 29, 42, 180, 1, 151, 154, 0, 7, 3, 167, 0, 18, 27, 4, 160, 0, 7, 29, 167, 0, 9, 28]
abbrev dktX0_sets_4 : List UInt8 := dkwX0_sets_4 ++ dktX0_sets_5
def dkwX0_sets_3 : List UInt8 := [180, 0, 107, 21, 5, 46, 128, 54, 4, 132, 5, 1, 167, 255, 222, 27, 154, 0, 10, 42, 180, 1, 151]
abbrev dktX0_sets_3 : List UInt8 := dkwX0_sets_3 ++ dktX0_sets_4
def dkwX0_sets_2 : List UInt8 := [54, 5, 21, 5, 42, 180, 1, 151, 162, 0, 31, 29, 42, 180, 0, 107, 21, 5, 46, 126, 62, 21, 4, 42]
abbrev dktX0_sets_2 : List UInt8 := dkwX0_sets_2 ++ dktX0_sets_3
def dkwX0_sets_1 : List UInt8 := [182, 1, 159, 4, 16, 8, 42, 180, 0, 158, 184, 1, 119, 120, 4, 100, 61, 28, 62, 3, 54, 4, 3]
abbrev dktX0_sets_1 : List UInt8 := dkwX0_sets_1 ++ dktX0_sets_2
def dkwX0_sets_0 : List UInt8 := [42, 180, 0, 142, 198, 0, 15, 27, 133, 9, 20, 1, 157, 184, 1, 68, 154, 0, 5, 2, 172, 42]
abbrev dktX0_sets_0 : List UInt8 := dkwX0_sets_0 ++ dktX0_sets_1
theorem dksX0_sets_0 : cX0_sets.data.toList.drop 0 = dktX0_sets_0 := by decide +kernel
theorem dksX0_sets_1 : cX0_sets.data.toList.drop 22 = dktX0_sets_1 := dk_seg dksX0_sets_0 22 rfl rfl
theorem dksX0_sets_2 : cX0_sets.data.toList.drop 45 = dktX0_sets_2 := dk_seg dksX0_sets_1 23 rfl rfl
theorem dksX0_sets_3 : cX0_sets.data.toList.drop 69 = dktX0_sets_3 := dk_seg dksX0_sets_2 24 rfl rfl
theorem dksX0_sets_4 : cX0_sets.data.toList.drop 92 = dktX0_sets_4 := dk_seg dksX0_sets_3 23 rfl rfl
theorem dksX0_sets_5 : cX0_sets.data.toList.drop 116 = dktX0_sets_5 := dk_seg dksX0_sets_4 24 rfl rfl
theorem dX0_sets_0 : decode cX0_sets 0 = .ok (.aload_n 0, 1) := dk_42 (dk_at dksX0_sets_0 0 rfl rfl)
theorem dX0_sets_1 : decode cX0_sets 1 = .ok (.getfield 142, 3) := dk_180 0 142 (dk_at dksX0_sets_0 1 rfl rfl)
theorem dX0_sets_4 : decode cX0_sets 4 = .ok (.ifnull 15, 3) := dk_198 0 15 (dk_at dksX0_sets_0 4 rfl rfl)
theorem dX0_sets_7 : decode cX0_sets 7 = .ok (.iload_n 1, 1) := dk_27 (dk_at dksX0_sets_0 7 rfl rfl)
theorem dX0_sets_8 : decode cX0_sets 8 = .ok (.i2l, 1) := dk_133 (dk_at dksX0_sets_0 8 rfl rfl)
theorem dX0_sets_9 : decode cX0_sets 9 = .ok (.lconst 0, 1) := dk_9 (dk_at dksX0_sets_0 9 rfl rfl)
theorem dX0_sets_10 : decode cX0_sets 10 = .ok (.ldc2_w 413, 3) := dk_20 1 157 (dk_at dksX0_sets_0 10 rfl rfl)
theorem dX0_sets_13 : decode cX0_sets 13 = .ok (.invokestatic 324, 3) := dk_184 1 68 (dk_at dksX0_sets_0 13 rfl rfl)
theorem dX0_sets_16 : decode cX0_sets 16 = .ok (.ifCond .ne 5, 3) := dk_154 0 5 (dk_at dksX0_sets_0 16 rfl rfl)
theorem dX0_sets_19 : decode cX0_sets 19 = .ok (.iconst (-1), 1) := dk_2 (dk_at dksX0_sets_0 19 rfl rfl)
theorem dX0_sets_20 : decode cX0_sets 20 = .ok (.ireturn, 1) := dk_172 (dk_at dksX0_sets_0 20 rfl rfl)
theorem dX0_sets_21 : decode cX0_sets 21 = .ok (.aload_n 0, 1) := dk_42 (dk_at dksX0_sets_0 21 rfl rfl)
theorem dX0_sets_22 : decode cX0_sets 22 = .ok (.invokevirtual 415, 3) := dk_182 1 159 (dk_at dksX0_sets_1 0 rfl rfl)
theorem dX0_sets_25 : decode cX0_sets 25 = .ok (.iconst 1, 1) := dk_4 (dk_at dksX0_sets_1 3 rfl rfl)
theorem dX0_sets_26 : decode cX0_sets 26 = .ok (.bipush 8, 2) := dk_16 8 (dk_at dksX0_sets_1 4 rfl rfl)
theorem dX0_sets_28 : decode cX0_sets 28 = .ok (.aload_n 0, 1) := dk_42 (dk_at dksX0_sets_1 6 rfl rfl)
theorem dX0_sets_29 : decode cX0_sets 29 = .ok (.getfield 158, 3) := dk_180 0 158 (dk_at dksX0_sets_1 7 rfl rfl)
theorem dX0_sets_32 : decode cX0_sets 32 = .ok (.invokestatic 375, 3) := dk_184 1 119 (dk_at dksX0_sets_1 10 rfl rfl)
theorem dX0_sets_35 : decode cX0_sets 35 = .ok (.ishl, 1) := dk_120 (dk_at dksX0_sets_1 13 rfl rfl)
theorem dX0_sets_36 : decode cX0_sets 36 = .ok (.iconst 1, 1) := dk_4 (dk_at dksX0_sets_1 14 rfl rfl)
theorem dX0_sets_37 : decode cX0_sets 37 = .ok (.isub, 1) := dk_100 (dk_at dksX0_sets_1 15 rfl rfl)
theorem dX0_sets_38 : decode cX0_sets 38 = .ok (.istore_n 2, 1) := dk_61 (dk_at dksX0_sets_1 16 rfl rfl)
theorem dX0_sets_39 : decode cX0_sets 39 = .ok (.iload_n 2, 1) := dk_28 (dk_at dksX0_sets_1 17 rfl rfl)
theorem dX0_sets_40 : decode cX0_sets 40 = .ok (.istore_n 3, 1) := dk_62 (dk_at dksX0_sets_1 18 rfl rfl)
theorem dX0_sets_41 : decode cX0_sets 41 = .ok (.iconst 0, 1) := dk_3 (dk_at dksX0_sets_1 19 rfl rfl)
theorem dX0_sets_42 : decode cX0_sets 42 = .ok (.istore 4, 2) := dk_54 4 (dk_at dksX0_sets_1 20 rfl rfl)
theorem dX0_sets_44 : decode cX0_sets 44 = .ok (.iconst 0, 1) := dk_3 (dk_at dksX0_sets_1 22 rfl rfl)
theorem dX0_sets_45 : decode cX0_sets 45 = .ok (.istore 5, 2) := dk_54 5 (dk_at dksX0_sets_2 0 rfl rfl)
theorem dX0_sets_47 : decode cX0_sets 47 = .ok (.iload 5, 2) := dk_21 5 (dk_at dksX0_sets_2 2 rfl rfl)
theorem dX0_sets_49 : decode cX0_sets 49 = .ok (.aload_n 0, 1) := dk_42 (dk_at dksX0_sets_2 4 rfl rfl)
theorem dX0_sets_50 : decode cX0_sets 50 = .ok (.getfield 407, 3) := dk_180 1 151 (dk_at dksX0_sets_2 5 rfl rfl)
theorem dX0_sets_53 : decode cX0_sets 53 = .ok (.if_icmp .ge 31, 3) := dk_162 0 31 (dk_at dksX0_sets_2 8 rfl rfl)
theorem dX0_sets_56 : decode cX0_sets 56 = .ok (.iload_n 3, 1) := dk_29 (dk_at dksX0_sets_2 11 rfl rfl)
theorem dX0_sets_57 : decode cX0_sets 57 = .ok (.aload_n 0, 1) := dk_42 (dk_at dksX0_sets_2 12 rfl rfl)
theorem dX0_sets_58 : decode cX0_sets 58 = .ok (.getfield 107, 3) := dk_180 0 107 (dk_at dksX0_sets_2 13 rfl rfl)
theorem dX0_sets_61 : decode cX0_sets 61 = .ok (.iload 5, 2) := dk_21 5 (dk_at dksX0_sets_2 16 rfl rfl)
theorem dX0_sets_63 : decode cX0_sets 63 = .ok (.iaload, 1) := dk_46 (dk_at dksX0_sets_2 18 rfl rfl)
theorem dX0_sets_64 : decode cX0_sets 64 = .ok (.iand, 1) := dk_126 (dk_at dksX0_sets_2 19 rfl rfl)
theorem dX0_sets_65 : decode cX0_sets 65 = .ok (.istore_n 3, 1) := dk_62 (dk_at dksX0_sets_2 20 rfl rfl)
theorem dX0_sets_66 : decode cX0_sets 66 = .ok (.iload 4, 2) := dk_21 4 (dk_at dksX0_sets_2 21 rfl rfl)
theorem dX0_sets_68 : decode cX0_sets 68 = .ok (.aload_n 0, 1) := dk_42 (dk_at dksX0_sets_2 23 rfl rfl)
theorem dX0_sets_69 : decode cX0_sets 69 = .ok (.getfield 107, 3) := dk_180 0 107 (dk_at dksX0_sets_3 0 rfl rfl)
theorem dX0_sets_72 : decode cX0_sets 72 = .ok (.iload 5, 2) := dk_21 5 (dk_at dksX0_sets_3 3 rfl rfl)
theorem dX0_sets_74 : decode cX0_sets 74 = .ok (.iaload, 1) := dk_46 (dk_at dksX0_sets_3 5 rfl rfl)
theorem dX0_sets_75 : decode cX0_sets 75 = .ok (.ior, 1) := dk_128 (dk_at dksX0_sets_3 6 rfl rfl)
theorem dX0_sets_76 : decode cX0_sets 76 = .ok (.istore 4, 2) := dk_54 4 (dk_at dksX0_sets_3 7 rfl rfl)
theorem dX0_sets_78 : decode cX0_sets 78 = .ok (.iinc 5 1, 3) := dk_132 5 1 (dk_at dksX0_sets_3 9 rfl rfl)
theorem dX0_sets_81 : decode cX0_sets 81 = .ok (.goto (-34), 3) := dk_167 255 222 (dk_at dksX0_sets_3 12 rfl rfl)
theorem dX0_sets_84 : decode cX0_sets 84 = .ok (.iload_n 1, 1) := dk_27 (dk_at dksX0_sets_3 15 rfl rfl)
theorem dX0_sets_85 : decode cX0_sets 85 = .ok (.ifCond .ne 10, 3) := dk_154 0 10 (dk_at dksX0_sets_3 16 rfl rfl)
theorem dX0_sets_88 : decode cX0_sets 88 = .ok (.aload_n 0, 1) := dk_42 (dk_at dksX0_sets_3 19 rfl rfl)
theorem dX0_sets_89 : decode cX0_sets 89 = .ok (.getfield 407, 3) := dk_180 1 151 (dk_at dksX0_sets_3 20 rfl rfl)
theorem dX0_sets_92 : decode cX0_sets 92 = .ok (.goto 29, 3) := dk_167 0 29 (dk_at dksX0_sets_4 0 rfl rfl)
theorem dX0_sets_95 : decode cX0_sets 95 = .ok (.aload_n 0, 1) := dk_42 (dk_at dksX0_sets_4 3 rfl rfl)
theorem dX0_sets_96 : decode cX0_sets 96 = .ok (.getfield 407, 3) := dk_180 1 151 (dk_at dksX0_sets_4 4 rfl rfl)
theorem dX0_sets_99 : decode cX0_sets 99 = .ok (.ifCond .ne 7, 3) := dk_154 0 7 (dk_at dksX0_sets_4 7 rfl rfl)
theorem dX0_sets_102 : decode cX0_sets 102 = .ok (.iconst 0, 1) := dk_3 (dk_at dksX0_sets_4 10 rfl rfl)
theorem dX0_sets_103 : decode cX0_sets 103 = .ok (.goto 18, 3) := dk_167 0 18 (dk_at dksX0_sets_4 11 rfl rfl)
theorem dX0_sets_106 : decode cX0_sets 106 = .ok (.iload_n 1, 1) := dk_27 (dk_at dksX0_sets_4 14 rfl rfl)
theorem dX0_sets_107 : decode cX0_sets 107 = .ok (.iconst 1, 1) := dk_4 (dk_at dksX0_sets_4 15 rfl rfl)
theorem dX0_sets_108 : decode cX0_sets 108 = .ok (.if_icmp .ne 7, 3) := dk_160 0 7 (dk_at dksX0_sets_4 16 rfl rfl)
theorem dX0_sets_111 : decode cX0_sets 111 = .ok (.iload_n 3, 1) := dk_29 (dk_at dksX0_sets_4 19 rfl rfl)
theorem dX0_sets_112 : decode cX0_sets 112 = .ok (.goto 9, 3) := dk_167 0 9 (dk_at dksX0_sets_4 20 rfl rfl)
theorem dX0_sets_115 : decode cX0_sets 115 = .ok (.iload_n 2, 1) := dk_28 (dk_at dksX0_sets_4 23 rfl rfl)
theorem dX0_sets_116 : decode cX0_sets 116 = .ok (.iload 4, 2) := dk_21 4 (dk_at dksX0_sets_5 0 rfl rfl)
theorem dX0_sets_118 : decode cX0_sets 118 = .ok (.iconst (-1), 1) := dk_2 (dk_at dksX0_sets_5 2 rfl rfl)
theorem dX0_sets_119 : decode cX0_sets 119 = .ok (.ixor, 1) := dk_130 (dk_at dksX0_sets_5 3 rfl rfl)
theorem dX0_sets_120 : decode cX0_sets 120 = .ok (.iand, 1) := dk_126 (dk_at dksX0_sets_5 4 rfl rfl)
theorem dX0_sets_121 : decode cX0_sets 121 = .ok (.ireturn, 1) := dk_172 (dk_at dksX0_sets_5 5 rfl rfl)
abbrev cX0_gathersFit : ByteArray := prog_1_method_67_code
def yX0_gathersFit : MethodName := ⟨RX0, "gathersFit", "()V"⟩
def dkwX0_gathersFit_2 : List UInt8 := [4, 96, 181, 1, 151, 132, 1, 1, 167, 255, 207, 177]
abbrev dktX0_gathersFit_2 : List UInt8 := dkwX0_gathersFit_2 ++ []
def dkwX0_gathersFit_1 : List UInt8 := [182, 1, 154, 154, 0, 6, 167, 0, 23, 42, 180, 0, 107, 42, 180, 1, 151, 27, 79, 42, 89, 180, 1, 151]
abbrev dktX0_gathersFit_1 : List UInt8 := dkwX0_gathersFit_1 ++ dktX0_gathersFit_2
def dkwX0_gathersFit_0 : List UInt8 := [42, 3, 181, 1, 151, 3, 60, 27, 4, 16, 8, 42, 180, 0, 158, 184, 1, 119, 120, 162, 0, 40, 42, 27]
abbrev dktX0_gathersFit_0 : List UInt8 := dkwX0_gathersFit_0 ++ dktX0_gathersFit_1
theorem dksX0_gathersFit_0 : cX0_gathersFit.data.toList.drop 0 = dktX0_gathersFit_0 := by decide +kernel
theorem dksX0_gathersFit_1 : cX0_gathersFit.data.toList.drop 24 = dktX0_gathersFit_1 := dk_seg dksX0_gathersFit_0 24 rfl rfl
theorem dksX0_gathersFit_2 : cX0_gathersFit.data.toList.drop 48 = dktX0_gathersFit_2 := dk_seg dksX0_gathersFit_1 24 rfl rfl
theorem dX0_gathersFit_0 : decode cX0_gathersFit 0 = .ok (.aload_n 0, 1) := dk_42 (dk_at dksX0_gathersFit_0 0 rfl rfl)
theorem dX0_gathersFit_1 : decode cX0_gathersFit 1 = .ok (.iconst 0, 1) := dk_3 (dk_at dksX0_gathersFit_0 1 rfl rfl)
theorem dX0_gathersFit_2 : decode cX0_gathersFit 2 = .ok (.putfield 407, 3) := dk_181 1 151 (dk_at dksX0_gathersFit_0 2 rfl rfl)
theorem dX0_gathersFit_5 : decode cX0_gathersFit 5 = .ok (.iconst 0, 1) := dk_3 (dk_at dksX0_gathersFit_0 5 rfl rfl)
theorem dX0_gathersFit_6 : decode cX0_gathersFit 6 = .ok (.istore_n 1, 1) := dk_60 (dk_at dksX0_gathersFit_0 6 rfl rfl)
theorem dX0_gathersFit_7 : decode cX0_gathersFit 7 = .ok (.iload_n 1, 1) := dk_27 (dk_at dksX0_gathersFit_0 7 rfl rfl)
theorem dX0_gathersFit_8 : decode cX0_gathersFit 8 = .ok (.iconst 1, 1) := dk_4 (dk_at dksX0_gathersFit_0 8 rfl rfl)
theorem dX0_gathersFit_9 : decode cX0_gathersFit 9 = .ok (.bipush 8, 2) := dk_16 8 (dk_at dksX0_gathersFit_0 9 rfl rfl)
theorem dX0_gathersFit_11 : decode cX0_gathersFit 11 = .ok (.aload_n 0, 1) := dk_42 (dk_at dksX0_gathersFit_0 11 rfl rfl)
theorem dX0_gathersFit_12 : decode cX0_gathersFit 12 = .ok (.getfield 158, 3) := dk_180 0 158 (dk_at dksX0_gathersFit_0 12 rfl rfl)
theorem dX0_gathersFit_15 : decode cX0_gathersFit 15 = .ok (.invokestatic 375, 3) := dk_184 1 119 (dk_at dksX0_gathersFit_0 15 rfl rfl)
theorem dX0_gathersFit_18 : decode cX0_gathersFit 18 = .ok (.ishl, 1) := dk_120 (dk_at dksX0_gathersFit_0 18 rfl rfl)
theorem dX0_gathersFit_19 : decode cX0_gathersFit 19 = .ok (.if_icmp .ge 40, 3) := dk_162 0 40 (dk_at dksX0_gathersFit_0 19 rfl rfl)
theorem dX0_gathersFit_22 : decode cX0_gathersFit 22 = .ok (.aload_n 0, 1) := dk_42 (dk_at dksX0_gathersFit_0 22 rfl rfl)
theorem dX0_gathersFit_23 : decode cX0_gathersFit 23 = .ok (.iload_n 1, 1) := dk_27 (dk_at dksX0_gathersFit_0 23 rfl rfl)
theorem dX0_gathersFit_24 : decode cX0_gathersFit 24 = .ok (.invokevirtual 410, 3) := dk_182 1 154 (dk_at dksX0_gathersFit_1 0 rfl rfl)
theorem dX0_gathersFit_27 : decode cX0_gathersFit 27 = .ok (.ifCond .ne 6, 3) := dk_154 0 6 (dk_at dksX0_gathersFit_1 3 rfl rfl)
theorem dX0_gathersFit_30 : decode cX0_gathersFit 30 = .ok (.goto 23, 3) := dk_167 0 23 (dk_at dksX0_gathersFit_1 6 rfl rfl)
theorem dX0_gathersFit_33 : decode cX0_gathersFit 33 = .ok (.aload_n 0, 1) := dk_42 (dk_at dksX0_gathersFit_1 9 rfl rfl)
theorem dX0_gathersFit_34 : decode cX0_gathersFit 34 = .ok (.getfield 107, 3) := dk_180 0 107 (dk_at dksX0_gathersFit_1 10 rfl rfl)
theorem dX0_gathersFit_37 : decode cX0_gathersFit 37 = .ok (.aload_n 0, 1) := dk_42 (dk_at dksX0_gathersFit_1 13 rfl rfl)
theorem dX0_gathersFit_38 : decode cX0_gathersFit 38 = .ok (.getfield 407, 3) := dk_180 1 151 (dk_at dksX0_gathersFit_1 14 rfl rfl)
theorem dX0_gathersFit_41 : decode cX0_gathersFit 41 = .ok (.iload_n 1, 1) := dk_27 (dk_at dksX0_gathersFit_1 17 rfl rfl)
theorem dX0_gathersFit_42 : decode cX0_gathersFit 42 = .ok (.iastore, 1) := dk_79 (dk_at dksX0_gathersFit_1 18 rfl rfl)
theorem dX0_gathersFit_43 : decode cX0_gathersFit 43 = .ok (.aload_n 0, 1) := dk_42 (dk_at dksX0_gathersFit_1 19 rfl rfl)
theorem dX0_gathersFit_44 : decode cX0_gathersFit 44 = .ok (.dup, 1) := dk_89 (dk_at dksX0_gathersFit_1 20 rfl rfl)
theorem dX0_gathersFit_45 : decode cX0_gathersFit 45 = .ok (.getfield 407, 3) := dk_180 1 151 (dk_at dksX0_gathersFit_1 21 rfl rfl)
theorem dX0_gathersFit_48 : decode cX0_gathersFit 48 = .ok (.iconst 1, 1) := dk_4 (dk_at dksX0_gathersFit_2 0 rfl rfl)
theorem dX0_gathersFit_49 : decode cX0_gathersFit 49 = .ok (.iadd, 1) := dk_96 (dk_at dksX0_gathersFit_2 1 rfl rfl)
theorem dX0_gathersFit_50 : decode cX0_gathersFit 50 = .ok (.putfield 407, 3) := dk_181 1 151 (dk_at dksX0_gathersFit_2 2 rfl rfl)
theorem dX0_gathersFit_53 : decode cX0_gathersFit 53 = .ok (.iinc 1 1, 3) := dk_132 1 1 (dk_at dksX0_gathersFit_2 5 rfl rfl)
theorem dX0_gathersFit_56 : decode cX0_gathersFit 56 = .ok (.goto (-49), 3) := dk_167 255 207 (dk_at dksX0_gathersFit_2 8 rfl rfl)
theorem dX0_gathersFit_59 : decode cX0_gathersFit 59 = .ok (.return_, 1) := dk_177 (dk_at dksX0_gathersFit_2 11 rfl rfl)
abbrev cX0_isTried : ByteArray := prog_1_method_66_code
def yX0_isTried : MethodName := ⟨RX0, "isTried", "(I)Z"⟩
def dkwX0_isTried_2 : List UInt8 := [3, 159, 0, 5, 3, 172, 132, 2, 2, 167, 255, 201, 4, 172]
abbrev dktX0_isTried_2 : List UInt8 := dkwX0_isTried_2 ++ []
def dkwX0_isTried_1 : List UInt8 := [28, 46, 182, 1, 82, 42, 180, 0, 142, 180, 1, 148, 28, 4, 96, 46, 4, 160, 0, 7, 4, 167, 0, 4]
abbrev dktX0_isTried_1 : List UInt8 := dkwX0_isTried_1 ++ dktX0_isTried_2
def dkwX0_isTried_0 : List UInt8 := [3, 61, 28, 5, 42, 180, 0, 142, 180, 1, 145, 104, 162, 0, 48, 42, 27, 42, 180, 0, 142, 180, 1, 148]
abbrev dktX0_isTried_0 : List UInt8 := dkwX0_isTried_0 ++ dktX0_isTried_1
theorem dksX0_isTried_0 : cX0_isTried.data.toList.drop 0 = dktX0_isTried_0 := by decide +kernel
theorem dksX0_isTried_1 : cX0_isTried.data.toList.drop 24 = dktX0_isTried_1 := dk_seg dksX0_isTried_0 24 rfl rfl
theorem dksX0_isTried_2 : cX0_isTried.data.toList.drop 48 = dktX0_isTried_2 := dk_seg dksX0_isTried_1 24 rfl rfl
theorem dX0_isTried_0 : decode cX0_isTried 0 = .ok (.iconst 0, 1) := dk_3 (dk_at dksX0_isTried_0 0 rfl rfl)
theorem dX0_isTried_1 : decode cX0_isTried 1 = .ok (.istore_n 2, 1) := dk_61 (dk_at dksX0_isTried_0 1 rfl rfl)
theorem dX0_isTried_2 : decode cX0_isTried 2 = .ok (.iload_n 2, 1) := dk_28 (dk_at dksX0_isTried_0 2 rfl rfl)
theorem dX0_isTried_3 : decode cX0_isTried 3 = .ok (.iconst 2, 1) := dk_5 (dk_at dksX0_isTried_0 3 rfl rfl)
theorem dX0_isTried_4 : decode cX0_isTried 4 = .ok (.aload_n 0, 1) := dk_42 (dk_at dksX0_isTried_0 4 rfl rfl)
theorem dX0_isTried_5 : decode cX0_isTried 5 = .ok (.getfield 142, 3) := dk_180 0 142 (dk_at dksX0_isTried_0 5 rfl rfl)
theorem dX0_isTried_8 : decode cX0_isTried 8 = .ok (.getfield 401, 3) := dk_180 1 145 (dk_at dksX0_isTried_0 8 rfl rfl)
theorem dX0_isTried_11 : decode cX0_isTried 11 = .ok (.imul, 1) := dk_104 (dk_at dksX0_isTried_0 11 rfl rfl)
theorem dX0_isTried_12 : decode cX0_isTried 12 = .ok (.if_icmp .ge 48, 3) := dk_162 0 48 (dk_at dksX0_isTried_0 12 rfl rfl)
theorem dX0_isTried_15 : decode cX0_isTried 15 = .ok (.aload_n 0, 1) := dk_42 (dk_at dksX0_isTried_0 15 rfl rfl)
theorem dX0_isTried_16 : decode cX0_isTried 16 = .ok (.iload_n 1, 1) := dk_27 (dk_at dksX0_isTried_0 16 rfl rfl)
theorem dX0_isTried_17 : decode cX0_isTried 17 = .ok (.aload_n 0, 1) := dk_42 (dk_at dksX0_isTried_0 17 rfl rfl)
theorem dX0_isTried_18 : decode cX0_isTried 18 = .ok (.getfield 142, 3) := dk_180 0 142 (dk_at dksX0_isTried_0 18 rfl rfl)
theorem dX0_isTried_21 : decode cX0_isTried 21 = .ok (.getfield 404, 3) := dk_180 1 148 (dk_at dksX0_isTried_0 21 rfl rfl)
theorem dX0_isTried_24 : decode cX0_isTried 24 = .ok (.iload_n 2, 1) := dk_28 (dk_at dksX0_isTried_1 0 rfl rfl)
theorem dX0_isTried_25 : decode cX0_isTried 25 = .ok (.iaload, 1) := dk_46 (dk_at dksX0_isTried_1 1 rfl rfl)
theorem dX0_isTried_26 : decode cX0_isTried 26 = .ok (.invokevirtual 338, 3) := dk_182 1 82 (dk_at dksX0_isTried_1 2 rfl rfl)
theorem dX0_isTried_29 : decode cX0_isTried 29 = .ok (.aload_n 0, 1) := dk_42 (dk_at dksX0_isTried_1 5 rfl rfl)
theorem dX0_isTried_30 : decode cX0_isTried 30 = .ok (.getfield 142, 3) := dk_180 0 142 (dk_at dksX0_isTried_1 6 rfl rfl)
theorem dX0_isTried_33 : decode cX0_isTried 33 = .ok (.getfield 404, 3) := dk_180 1 148 (dk_at dksX0_isTried_1 9 rfl rfl)
theorem dX0_isTried_36 : decode cX0_isTried 36 = .ok (.iload_n 2, 1) := dk_28 (dk_at dksX0_isTried_1 12 rfl rfl)
theorem dX0_isTried_37 : decode cX0_isTried 37 = .ok (.iconst 1, 1) := dk_4 (dk_at dksX0_isTried_1 13 rfl rfl)
theorem dX0_isTried_38 : decode cX0_isTried 38 = .ok (.iadd, 1) := dk_96 (dk_at dksX0_isTried_1 14 rfl rfl)
theorem dX0_isTried_39 : decode cX0_isTried 39 = .ok (.iaload, 1) := dk_46 (dk_at dksX0_isTried_1 15 rfl rfl)
theorem dX0_isTried_40 : decode cX0_isTried 40 = .ok (.iconst 1, 1) := dk_4 (dk_at dksX0_isTried_1 16 rfl rfl)
theorem dX0_isTried_41 : decode cX0_isTried 41 = .ok (.if_icmp .ne 7, 3) := dk_160 0 7 (dk_at dksX0_isTried_1 17 rfl rfl)
theorem dX0_isTried_44 : decode cX0_isTried 44 = .ok (.iconst 1, 1) := dk_4 (dk_at dksX0_isTried_1 20 rfl rfl)
theorem dX0_isTried_45 : decode cX0_isTried 45 = .ok (.goto 4, 3) := dk_167 0 4 (dk_at dksX0_isTried_1 21 rfl rfl)
theorem dX0_isTried_48 : decode cX0_isTried 48 = .ok (.iconst 0, 1) := dk_3 (dk_at dksX0_isTried_2 0 rfl rfl)
theorem dX0_isTried_49 : decode cX0_isTried 49 = .ok (.if_icmp .eq 5, 3) := dk_159 0 5 (dk_at dksX0_isTried_2 1 rfl rfl)
theorem dX0_isTried_52 : decode cX0_isTried 52 = .ok (.iconst 0, 1) := dk_3 (dk_at dksX0_isTried_2 4 rfl rfl)
theorem dX0_isTried_53 : decode cX0_isTried 53 = .ok (.ireturn, 1) := dk_172 (dk_at dksX0_isTried_2 5 rfl rfl)
theorem dX0_isTried_54 : decode cX0_isTried 54 = .ok (.iinc 2 2, 3) := dk_132 2 2 (dk_at dksX0_isTried_2 6 rfl rfl)
theorem dX0_isTried_57 : decode cX0_isTried 57 = .ok (.goto (-55), 3) := dk_167 255 201 (dk_at dksX0_isTried_2 9 rfl rfl)
theorem dX0_isTried_60 : decode cX0_isTried 60 = .ok (.iconst 1, 1) := dk_4 (dk_at dksX0_isTried_2 12 rfl rfl)
theorem dX0_isTried_61 : decode cX0_isTried 61 = .ok (.ireturn, 1) := dk_172 (dk_at dksX0_isTried_2 13 rfl rfl)
abbrev cX0_next : ByteArray := prog_1_method_69_code
def yX0_next : MethodName := ⟨RX0, "next", "(I)I"⟩
def dkwX0_next_6 : List UInt8 := [27, 154, 0, 7, 28, 167, 0, 4, 29, 172]
abbrev dktX0_next_6 : List UInt8 := dkwX0_next_6 ++ []
def dkwX0_next_5 : List UInt8 := [159, 0, 12, 21, 6, 29, 161, 0, 6, 167, 0, 9, 21, 4, 61, 21, 6, 62, 132, 4, 1, 167, 255, 155]
abbrev dktX0_next_5 : List UInt8 := dkwX0_next_5 ++ dktX0_next_6
def dkwX0_next_4 : List UInt8 := [132, 6, 1, 167, 255, 218, 21, 5, 42, 180, 1, 151, 21, 5, 100, 184, 1, 91, 54, 6, 28, 16, 254]
abbrev dktX0_next_4 : List UInt8 := dkwX0_next_4 ++ dktX0_next_5
def dkwX0_next_3 : List UInt8 := [180, 0, 107, 21, 6, 46, 21, 4, 182, 1, 82, 153, 0, 7, 4, 167, 0, 4, 3, 96, 54, 5]
abbrev dktX0_next_3 : List UInt8 := dkwX0_next_3 ++ dktX0_next_4
def dkwX0_next_2 : List UInt8 := [158, 0, 91, 3, 54, 5, 3, 54, 6, 21, 6, 42, 180, 1, 151, 162, 0, 35, 21, 5, 42, 42]
abbrev dktX0_next_2 : List UInt8 := dkwX0_next_2 ++ dktX0_next_3
def dkwX0_next_1 : List UInt8 := [16, 254, 61, 16, 254, 62, 3, 54, 4, 21, 4, 42, 180, 0, 158, 162, 0, 98, 42, 180, 1, 151]
abbrev dktX0_next_1 : List UInt8 := dkwX0_next_1 ++ dktX0_next_2
def dkwX0_next_0 : List UInt8 := [42, 180, 0, 142, 198, 0, 13, 27, 133, 9, 10, 184, 1, 68, 154, 0, 5, 2, 172, 42, 182, 1, 159]
abbrev dktX0_next_0 : List UInt8 := dkwX0_next_0 ++ dktX0_next_1
theorem dksX0_next_0 : cX0_next.data.toList.drop 0 = dktX0_next_0 := by decide +kernel
theorem dksX0_next_1 : cX0_next.data.toList.drop 23 = dktX0_next_1 := dk_seg dksX0_next_0 23 rfl rfl
theorem dksX0_next_2 : cX0_next.data.toList.drop 45 = dktX0_next_2 := dk_seg dksX0_next_1 22 rfl rfl
theorem dksX0_next_3 : cX0_next.data.toList.drop 67 = dktX0_next_3 := dk_seg dksX0_next_2 22 rfl rfl
theorem dksX0_next_4 : cX0_next.data.toList.drop 89 = dktX0_next_4 := dk_seg dksX0_next_3 22 rfl rfl
theorem dksX0_next_5 : cX0_next.data.toList.drop 112 = dktX0_next_5 := dk_seg dksX0_next_4 23 rfl rfl
theorem dksX0_next_6 : cX0_next.data.toList.drop 136 = dktX0_next_6 := dk_seg dksX0_next_5 24 rfl rfl
theorem dX0_next_0 : decode cX0_next 0 = .ok (.aload_n 0, 1) := dk_42 (dk_at dksX0_next_0 0 rfl rfl)
theorem dX0_next_1 : decode cX0_next 1 = .ok (.getfield 142, 3) := dk_180 0 142 (dk_at dksX0_next_0 1 rfl rfl)
theorem dX0_next_4 : decode cX0_next 4 = .ok (.ifnull 13, 3) := dk_198 0 13 (dk_at dksX0_next_0 4 rfl rfl)
theorem dX0_next_7 : decode cX0_next 7 = .ok (.iload_n 1, 1) := dk_27 (dk_at dksX0_next_0 7 rfl rfl)
theorem dX0_next_8 : decode cX0_next 8 = .ok (.i2l, 1) := dk_133 (dk_at dksX0_next_0 8 rfl rfl)
theorem dX0_next_9 : decode cX0_next 9 = .ok (.lconst 0, 1) := dk_9 (dk_at dksX0_next_0 9 rfl rfl)
theorem dX0_next_10 : decode cX0_next 10 = .ok (.lconst 1, 1) := dk_10 (dk_at dksX0_next_0 10 rfl rfl)
theorem dX0_next_11 : decode cX0_next 11 = .ok (.invokestatic 324, 3) := dk_184 1 68 (dk_at dksX0_next_0 11 rfl rfl)
theorem dX0_next_14 : decode cX0_next 14 = .ok (.ifCond .ne 5, 3) := dk_154 0 5 (dk_at dksX0_next_0 14 rfl rfl)
theorem dX0_next_17 : decode cX0_next 17 = .ok (.iconst (-1), 1) := dk_2 (dk_at dksX0_next_0 17 rfl rfl)
theorem dX0_next_18 : decode cX0_next 18 = .ok (.ireturn, 1) := dk_172 (dk_at dksX0_next_0 18 rfl rfl)
theorem dX0_next_19 : decode cX0_next 19 = .ok (.aload_n 0, 1) := dk_42 (dk_at dksX0_next_0 19 rfl rfl)
theorem dX0_next_20 : decode cX0_next 20 = .ok (.invokevirtual 415, 3) := dk_182 1 159 (dk_at dksX0_next_0 20 rfl rfl)
theorem dX0_next_23 : decode cX0_next 23 = .ok (.bipush (-2), 2) := dk_16 254 (dk_at dksX0_next_1 0 rfl rfl)
theorem dX0_next_25 : decode cX0_next 25 = .ok (.istore_n 2, 1) := dk_61 (dk_at dksX0_next_1 2 rfl rfl)
theorem dX0_next_26 : decode cX0_next 26 = .ok (.bipush (-2), 2) := dk_16 254 (dk_at dksX0_next_1 3 rfl rfl)
theorem dX0_next_28 : decode cX0_next 28 = .ok (.istore_n 3, 1) := dk_62 (dk_at dksX0_next_1 5 rfl rfl)
theorem dX0_next_29 : decode cX0_next 29 = .ok (.iconst 0, 1) := dk_3 (dk_at dksX0_next_1 6 rfl rfl)
theorem dX0_next_30 : decode cX0_next 30 = .ok (.istore 4, 2) := dk_54 4 (dk_at dksX0_next_1 7 rfl rfl)
theorem dX0_next_32 : decode cX0_next 32 = .ok (.iload 4, 2) := dk_21 4 (dk_at dksX0_next_1 9 rfl rfl)
theorem dX0_next_34 : decode cX0_next 34 = .ok (.aload_n 0, 1) := dk_42 (dk_at dksX0_next_1 11 rfl rfl)
theorem dX0_next_35 : decode cX0_next 35 = .ok (.getfield 158, 3) := dk_180 0 158 (dk_at dksX0_next_1 12 rfl rfl)
theorem dX0_next_38 : decode cX0_next 38 = .ok (.if_icmp .ge 98, 3) := dk_162 0 98 (dk_at dksX0_next_1 15 rfl rfl)
theorem dX0_next_41 : decode cX0_next 41 = .ok (.aload_n 0, 1) := dk_42 (dk_at dksX0_next_1 18 rfl rfl)
theorem dX0_next_42 : decode cX0_next 42 = .ok (.getfield 407, 3) := dk_180 1 151 (dk_at dksX0_next_1 19 rfl rfl)
theorem dX0_next_45 : decode cX0_next 45 = .ok (.ifCond .le 91, 3) := dk_158 0 91 (dk_at dksX0_next_2 0 rfl rfl)
theorem dX0_next_48 : decode cX0_next 48 = .ok (.iconst 0, 1) := dk_3 (dk_at dksX0_next_2 3 rfl rfl)
theorem dX0_next_49 : decode cX0_next 49 = .ok (.istore 5, 2) := dk_54 5 (dk_at dksX0_next_2 4 rfl rfl)
theorem dX0_next_51 : decode cX0_next 51 = .ok (.iconst 0, 1) := dk_3 (dk_at dksX0_next_2 6 rfl rfl)
theorem dX0_next_52 : decode cX0_next 52 = .ok (.istore 6, 2) := dk_54 6 (dk_at dksX0_next_2 7 rfl rfl)
theorem dX0_next_54 : decode cX0_next 54 = .ok (.iload 6, 2) := dk_21 6 (dk_at dksX0_next_2 9 rfl rfl)
theorem dX0_next_56 : decode cX0_next 56 = .ok (.aload_n 0, 1) := dk_42 (dk_at dksX0_next_2 11 rfl rfl)
theorem dX0_next_57 : decode cX0_next 57 = .ok (.getfield 407, 3) := dk_180 1 151 (dk_at dksX0_next_2 12 rfl rfl)
theorem dX0_next_60 : decode cX0_next 60 = .ok (.if_icmp .ge 35, 3) := dk_162 0 35 (dk_at dksX0_next_2 15 rfl rfl)
theorem dX0_next_63 : decode cX0_next 63 = .ok (.iload 5, 2) := dk_21 5 (dk_at dksX0_next_2 18 rfl rfl)
theorem dX0_next_65 : decode cX0_next 65 = .ok (.aload_n 0, 1) := dk_42 (dk_at dksX0_next_2 20 rfl rfl)
theorem dX0_next_66 : decode cX0_next 66 = .ok (.aload_n 0, 1) := dk_42 (dk_at dksX0_next_2 21 rfl rfl)
theorem dX0_next_67 : decode cX0_next 67 = .ok (.getfield 107, 3) := dk_180 0 107 (dk_at dksX0_next_3 0 rfl rfl)
theorem dX0_next_70 : decode cX0_next 70 = .ok (.iload 6, 2) := dk_21 6 (dk_at dksX0_next_3 3 rfl rfl)
theorem dX0_next_72 : decode cX0_next 72 = .ok (.iaload, 1) := dk_46 (dk_at dksX0_next_3 5 rfl rfl)
theorem dX0_next_73 : decode cX0_next 73 = .ok (.iload 4, 2) := dk_21 4 (dk_at dksX0_next_3 6 rfl rfl)
theorem dX0_next_75 : decode cX0_next 75 = .ok (.invokevirtual 338, 3) := dk_182 1 82 (dk_at dksX0_next_3 8 rfl rfl)
theorem dX0_next_78 : decode cX0_next 78 = .ok (.ifCond .eq 7, 3) := dk_153 0 7 (dk_at dksX0_next_3 11 rfl rfl)
theorem dX0_next_81 : decode cX0_next 81 = .ok (.iconst 1, 1) := dk_4 (dk_at dksX0_next_3 14 rfl rfl)
theorem dX0_next_82 : decode cX0_next 82 = .ok (.goto 4, 3) := dk_167 0 4 (dk_at dksX0_next_3 15 rfl rfl)
theorem dX0_next_85 : decode cX0_next 85 = .ok (.iconst 0, 1) := dk_3 (dk_at dksX0_next_3 18 rfl rfl)
theorem dX0_next_86 : decode cX0_next 86 = .ok (.iadd, 1) := dk_96 (dk_at dksX0_next_3 19 rfl rfl)
theorem dX0_next_87 : decode cX0_next 87 = .ok (.istore 5, 2) := dk_54 5 (dk_at dksX0_next_3 20 rfl rfl)
theorem dX0_next_89 : decode cX0_next 89 = .ok (.iinc 6 1, 3) := dk_132 6 1 (dk_at dksX0_next_4 0 rfl rfl)
theorem dX0_next_92 : decode cX0_next 92 = .ok (.goto (-38), 3) := dk_167 255 218 (dk_at dksX0_next_4 3 rfl rfl)
theorem dX0_next_95 : decode cX0_next 95 = .ok (.iload 5, 2) := dk_21 5 (dk_at dksX0_next_4 6 rfl rfl)
theorem dX0_next_97 : decode cX0_next 97 = .ok (.aload_n 0, 1) := dk_42 (dk_at dksX0_next_4 8 rfl rfl)
theorem dX0_next_98 : decode cX0_next 98 = .ok (.getfield 407, 3) := dk_180 1 151 (dk_at dksX0_next_4 9 rfl rfl)
theorem dX0_next_101 : decode cX0_next 101 = .ok (.iload 5, 2) := dk_21 5 (dk_at dksX0_next_4 12 rfl rfl)
theorem dX0_next_103 : decode cX0_next 103 = .ok (.isub, 1) := dk_100 (dk_at dksX0_next_4 14 rfl rfl)
theorem dX0_next_104 : decode cX0_next 104 = .ok (.invokestatic 347, 3) := dk_184 1 91 (dk_at dksX0_next_4 15 rfl rfl)
theorem dX0_next_107 : decode cX0_next 107 = .ok (.istore 6, 2) := dk_54 6 (dk_at dksX0_next_4 18 rfl rfl)
theorem dX0_next_109 : decode cX0_next 109 = .ok (.iload_n 2, 1) := dk_28 (dk_at dksX0_next_4 20 rfl rfl)
theorem dX0_next_110 : decode cX0_next 110 = .ok (.bipush (-2), 2) := dk_16 254 (dk_at dksX0_next_4 21 rfl rfl)
theorem dX0_next_112 : decode cX0_next 112 = .ok (.if_icmp .eq 12, 3) := dk_159 0 12 (dk_at dksX0_next_5 0 rfl rfl)
theorem dX0_next_115 : decode cX0_next 115 = .ok (.iload 6, 2) := dk_21 6 (dk_at dksX0_next_5 3 rfl rfl)
theorem dX0_next_117 : decode cX0_next 117 = .ok (.iload_n 3, 1) := dk_29 (dk_at dksX0_next_5 5 rfl rfl)
theorem dX0_next_118 : decode cX0_next 118 = .ok (.if_icmp .lt 6, 3) := dk_161 0 6 (dk_at dksX0_next_5 6 rfl rfl)
theorem dX0_next_121 : decode cX0_next 121 = .ok (.goto 9, 3) := dk_167 0 9 (dk_at dksX0_next_5 9 rfl rfl)
theorem dX0_next_124 : decode cX0_next 124 = .ok (.iload 4, 2) := dk_21 4 (dk_at dksX0_next_5 12 rfl rfl)
theorem dX0_next_126 : decode cX0_next 126 = .ok (.istore_n 2, 1) := dk_61 (dk_at dksX0_next_5 14 rfl rfl)
theorem dX0_next_127 : decode cX0_next 127 = .ok (.iload 6, 2) := dk_21 6 (dk_at dksX0_next_5 15 rfl rfl)
theorem dX0_next_129 : decode cX0_next 129 = .ok (.istore_n 3, 1) := dk_62 (dk_at dksX0_next_5 17 rfl rfl)
theorem dX0_next_130 : decode cX0_next 130 = .ok (.iinc 4 1, 3) := dk_132 4 1 (dk_at dksX0_next_5 18 rfl rfl)
theorem dX0_next_133 : decode cX0_next 133 = .ok (.goto (-101), 3) := dk_167 255 155 (dk_at dksX0_next_5 21 rfl rfl)
theorem dX0_next_136 : decode cX0_next 136 = .ok (.iload_n 1, 1) := dk_27 (dk_at dksX0_next_6 0 rfl rfl)
theorem dX0_next_137 : decode cX0_next 137 = .ok (.ifCond .ne 7, 3) := dk_154 0 7 (dk_at dksX0_next_6 1 rfl rfl)
theorem dX0_next_140 : decode cX0_next 140 = .ok (.iload_n 2, 1) := dk_28 (dk_at dksX0_next_6 4 rfl rfl)
theorem dX0_next_141 : decode cX0_next 141 = .ok (.goto 4, 3) := dk_167 0 4 (dk_at dksX0_next_6 5 rfl rfl)
theorem dX0_next_144 : decode cX0_next 144 = .ok (.iload_n 3, 1) := dk_29 (dk_at dksX0_next_6 8 rfl rfl)
theorem dX0_next_145 : decode cX0_next 145 = .ok (.ireturn, 1) := dk_172 (dk_at dksX0_next_6 9 rfl rfl)
abbrev cX0_seed : ByteArray := prog_1_method_70_code
def yX0_seed : MethodName := ⟨RX0, "seed", "(I)I"⟩
def dkwX0_seed_0 : List UInt8 := [27, 156, 0, 5, 2, 172, 42, 180, 1, 162, 61, 42, 27, 181, 1, 162, 28, 172]
abbrev dktX0_seed_0 : List UInt8 := dkwX0_seed_0 ++ []
theorem dksX0_seed_0 : cX0_seed.data.toList.drop 0 = dktX0_seed_0 := by decide +kernel
theorem dX0_seed_0 : decode cX0_seed 0 = .ok (.iload_n 1, 1) := dk_27 (dk_at dksX0_seed_0 0 rfl rfl)
theorem dX0_seed_1 : decode cX0_seed 1 = .ok (.ifCond .ge 5, 3) := dk_156 0 5 (dk_at dksX0_seed_0 1 rfl rfl)
theorem dX0_seed_4 : decode cX0_seed 4 = .ok (.iconst (-1), 1) := dk_2 (dk_at dksX0_seed_0 4 rfl rfl)
theorem dX0_seed_5 : decode cX0_seed 5 = .ok (.ireturn, 1) := dk_172 (dk_at dksX0_seed_0 5 rfl rfl)
theorem dX0_seed_6 : decode cX0_seed 6 = .ok (.aload_n 0, 1) := dk_42 (dk_at dksX0_seed_0 6 rfl rfl)
theorem dX0_seed_7 : decode cX0_seed 7 = .ok (.getfield 418, 3) := dk_180 1 162 (dk_at dksX0_seed_0 7 rfl rfl)
theorem dX0_seed_10 : decode cX0_seed 10 = .ok (.istore_n 2, 1) := dk_61 (dk_at dksX0_seed_0 10 rfl rfl)
theorem dX0_seed_11 : decode cX0_seed 11 = .ok (.aload_n 0, 1) := dk_42 (dk_at dksX0_seed_0 11 rfl rfl)
theorem dX0_seed_12 : decode cX0_seed 12 = .ok (.iload_n 1, 1) := dk_27 (dk_at dksX0_seed_0 12 rfl rfl)
theorem dX0_seed_13 : decode cX0_seed 13 = .ok (.putfield 418, 3) := dk_181 1 162 (dk_at dksX0_seed_0 13 rfl rfl)
theorem dX0_seed_16 : decode cX0_seed 16 = .ok (.iload_n 2, 1) := dk_28 (dk_at dksX0_seed_0 16 rfl rfl)
theorem dX0_seed_17 : decode cX0_seed 17 = .ok (.ireturn, 1) := dk_172 (dk_at dksX0_seed_0 17 rfl rfl)
abbrev cX0_years : ByteArray := prog_1_method_73_code
def yX0_years : MethodName := ⟨RX0, "years", "(III)I"⟩
def dkwX0_years_7 : List UInt8 := [172]
abbrev dktX0_years_7 : List UInt8 := dkwX0_years_7 ++ []
def dkwX0_years_6 : List UInt8 := [154, 0, 10, 42, 180, 1, 178, 167, 0, 17, 29, 4, 160, 0, 10, 42, 180, 1, 181, 167, 0, 5, 21, 4]
abbrev dktX0_years_6 : List UInt8 := dkwX0_years_6 ++ dktX0_years_7
def dkwX0_years_5 : List UInt8 := [167, 255, 241, 21, 4, 25, 5, 16, 6, 182, 0, 233, 96, 54, 4, 132, 6, 1, 167, 255, 204, 29]
abbrev dktX0_years_5 : List UInt8 := dkwX0_years_5 ++ dktX0_years_6
def dkwX0_years_4 : List UInt8 := [182, 1, 127, 87, 3, 54, 7, 21, 7, 28, 162, 0, 15, 42, 25, 5, 182, 1, 186, 132, 7, 1]
abbrev dktX0_years_4 : List UInt8 := dkwX0_years_4 ++ dktX0_years_5
def dkwX0_years_3 : List UInt8 := [42, 180, 0, 142, 182, 0, 138, 58, 5, 3, 54, 6, 21, 6, 27, 162, 0, 52, 25, 5, 42, 180, 0, 142]
abbrev dktX0_years_3 : List UInt8 := dkwX0_years_3 ++ dktX0_years_4
def dkwX0_years_2 : List UInt8 := [42, 180, 1, 162, 181, 1, 165, 42, 3, 181, 1, 178, 42, 3, 181, 1, 181, 3, 54, 4, 42, 180, 0, 20]
abbrev dktX0_years_2 : List UInt8 := dkwX0_years_2 ++ dktX0_years_3
def dkwX0_years_1 : List UInt8 := [20, 1, 66, 184, 1, 68, 153, 0, 15, 29, 133, 9, 20, 1, 157, 184, 1, 68, 154, 0, 5, 2, 172, 42]
abbrev dktX0_years_1 : List UInt8 := dkwX0_years_1 ++ dktX0_years_2
def dkwX0_years_0 : List UInt8 := [42, 180, 0, 142, 198, 0, 39, 27, 133, 10, 20, 1, 184, 184, 1, 68, 153, 0, 27, 28, 133, 10]
abbrev dktX0_years_0 : List UInt8 := dkwX0_years_0 ++ dktX0_years_1
theorem dksX0_years_0 : cX0_years.data.toList.drop 0 = dktX0_years_0 := by decide +kernel
theorem dksX0_years_1 : cX0_years.data.toList.drop 22 = dktX0_years_1 := dk_seg dksX0_years_0 22 rfl rfl
theorem dksX0_years_2 : cX0_years.data.toList.drop 46 = dktX0_years_2 := dk_seg dksX0_years_1 24 rfl rfl
theorem dksX0_years_3 : cX0_years.data.toList.drop 70 = dktX0_years_3 := dk_seg dksX0_years_2 24 rfl rfl
theorem dksX0_years_4 : cX0_years.data.toList.drop 94 = dktX0_years_4 := dk_seg dksX0_years_3 24 rfl rfl
theorem dksX0_years_5 : cX0_years.data.toList.drop 116 = dktX0_years_5 := dk_seg dksX0_years_4 22 rfl rfl
theorem dksX0_years_6 : cX0_years.data.toList.drop 138 = dktX0_years_6 := dk_seg dksX0_years_5 22 rfl rfl
theorem dksX0_years_7 : cX0_years.data.toList.drop 162 = dktX0_years_7 := dk_seg dksX0_years_6 24 rfl rfl
theorem dX0_years_0 : decode cX0_years 0 = .ok (.aload_n 0, 1) := dk_42 (dk_at dksX0_years_0 0 rfl rfl)
theorem dX0_years_1 : decode cX0_years 1 = .ok (.getfield 142, 3) := dk_180 0 142 (dk_at dksX0_years_0 1 rfl rfl)
theorem dX0_years_4 : decode cX0_years 4 = .ok (.ifnull 39, 3) := dk_198 0 39 (dk_at dksX0_years_0 4 rfl rfl)
theorem dX0_years_7 : decode cX0_years 7 = .ok (.iload_n 1, 1) := dk_27 (dk_at dksX0_years_0 7 rfl rfl)
theorem dX0_years_8 : decode cX0_years 8 = .ok (.i2l, 1) := dk_133 (dk_at dksX0_years_0 8 rfl rfl)
theorem dX0_years_9 : decode cX0_years 9 = .ok (.lconst 1, 1) := dk_10 (dk_at dksX0_years_0 9 rfl rfl)
theorem dX0_years_10 : decode cX0_years 10 = .ok (.ldc2_w 440, 3) := dk_20 1 184 (dk_at dksX0_years_0 10 rfl rfl)
theorem dX0_years_13 : decode cX0_years 13 = .ok (.invokestatic 324, 3) := dk_184 1 68 (dk_at dksX0_years_0 13 rfl rfl)
theorem dX0_years_16 : decode cX0_years 16 = .ok (.ifCond .eq 27, 3) := dk_153 0 27 (dk_at dksX0_years_0 16 rfl rfl)
theorem dX0_years_19 : decode cX0_years 19 = .ok (.iload_n 2, 1) := dk_28 (dk_at dksX0_years_0 19 rfl rfl)
theorem dX0_years_20 : decode cX0_years 20 = .ok (.i2l, 1) := dk_133 (dk_at dksX0_years_0 20 rfl rfl)
theorem dX0_years_21 : decode cX0_years 21 = .ok (.lconst 1, 1) := dk_10 (dk_at dksX0_years_0 21 rfl rfl)
theorem dX0_years_22 : decode cX0_years 22 = .ok (.ldc2_w 322, 3) := dk_20 1 66 (dk_at dksX0_years_1 0 rfl rfl)
theorem dX0_years_25 : decode cX0_years 25 = .ok (.invokestatic 324, 3) := dk_184 1 68 (dk_at dksX0_years_1 3 rfl rfl)
theorem dX0_years_28 : decode cX0_years 28 = .ok (.ifCond .eq 15, 3) := dk_153 0 15 (dk_at dksX0_years_1 6 rfl rfl)
theorem dX0_years_31 : decode cX0_years 31 = .ok (.iload_n 3, 1) := dk_29 (dk_at dksX0_years_1 9 rfl rfl)
theorem dX0_years_32 : decode cX0_years 32 = .ok (.i2l, 1) := dk_133 (dk_at dksX0_years_1 10 rfl rfl)
theorem dX0_years_33 : decode cX0_years 33 = .ok (.lconst 0, 1) := dk_9 (dk_at dksX0_years_1 11 rfl rfl)
theorem dX0_years_34 : decode cX0_years 34 = .ok (.ldc2_w 413, 3) := dk_20 1 157 (dk_at dksX0_years_1 12 rfl rfl)
theorem dX0_years_37 : decode cX0_years 37 = .ok (.invokestatic 324, 3) := dk_184 1 68 (dk_at dksX0_years_1 15 rfl rfl)
theorem dX0_years_40 : decode cX0_years 40 = .ok (.ifCond .ne 5, 3) := dk_154 0 5 (dk_at dksX0_years_1 18 rfl rfl)
theorem dX0_years_43 : decode cX0_years 43 = .ok (.iconst (-1), 1) := dk_2 (dk_at dksX0_years_1 21 rfl rfl)
theorem dX0_years_44 : decode cX0_years 44 = .ok (.ireturn, 1) := dk_172 (dk_at dksX0_years_1 22 rfl rfl)
theorem dX0_years_45 : decode cX0_years 45 = .ok (.aload_n 0, 1) := dk_42 (dk_at dksX0_years_1 23 rfl rfl)
theorem dX0_years_46 : decode cX0_years 46 = .ok (.aload_n 0, 1) := dk_42 (dk_at dksX0_years_2 0 rfl rfl)
theorem dX0_years_47 : decode cX0_years 47 = .ok (.getfield 418, 3) := dk_180 1 162 (dk_at dksX0_years_2 1 rfl rfl)
theorem dX0_years_50 : decode cX0_years 50 = .ok (.putfield 421, 3) := dk_181 1 165 (dk_at dksX0_years_2 4 rfl rfl)
theorem dX0_years_53 : decode cX0_years 53 = .ok (.aload_n 0, 1) := dk_42 (dk_at dksX0_years_2 7 rfl rfl)
theorem dX0_years_54 : decode cX0_years 54 = .ok (.iconst 0, 1) := dk_3 (dk_at dksX0_years_2 8 rfl rfl)
theorem dX0_years_55 : decode cX0_years 55 = .ok (.putfield 434, 3) := dk_181 1 178 (dk_at dksX0_years_2 9 rfl rfl)
theorem dX0_years_58 : decode cX0_years 58 = .ok (.aload_n 0, 1) := dk_42 (dk_at dksX0_years_2 12 rfl rfl)
theorem dX0_years_59 : decode cX0_years 59 = .ok (.iconst 0, 1) := dk_3 (dk_at dksX0_years_2 13 rfl rfl)
theorem dX0_years_60 : decode cX0_years 60 = .ok (.putfield 437, 3) := dk_181 1 181 (dk_at dksX0_years_2 14 rfl rfl)
theorem dX0_years_63 : decode cX0_years 63 = .ok (.iconst 0, 1) := dk_3 (dk_at dksX0_years_2 17 rfl rfl)
theorem dX0_years_64 : decode cX0_years 64 = .ok (.istore 4, 2) := dk_54 4 (dk_at dksX0_years_2 18 rfl rfl)
theorem dX0_years_66 : decode cX0_years 66 = .ok (.aload_n 0, 1) := dk_42 (dk_at dksX0_years_2 20 rfl rfl)
theorem dX0_years_67 : decode cX0_years 67 = .ok (.getfield 20, 3) := dk_180 0 20 (dk_at dksX0_years_2 21 rfl rfl)
theorem dX0_years_70 : decode cX0_years 70 = .ok (.aload_n 0, 1) := dk_42 (dk_at dksX0_years_3 0 rfl rfl)
theorem dX0_years_71 : decode cX0_years 71 = .ok (.getfield 142, 3) := dk_180 0 142 (dk_at dksX0_years_3 1 rfl rfl)
theorem dX0_years_74 : decode cX0_years 74 = .ok (.invokevirtual 138, 3) := dk_182 0 138 (dk_at dksX0_years_3 4 rfl rfl)
theorem dX0_years_77 : decode cX0_years 77 = .ok (.astore 5, 2) := dk_58 5 (dk_at dksX0_years_3 7 rfl rfl)
theorem dX0_years_79 : decode cX0_years 79 = .ok (.iconst 0, 1) := dk_3 (dk_at dksX0_years_3 9 rfl rfl)
theorem dX0_years_80 : decode cX0_years 80 = .ok (.istore 6, 2) := dk_54 6 (dk_at dksX0_years_3 10 rfl rfl)
theorem dX0_years_82 : decode cX0_years 82 = .ok (.iload 6, 2) := dk_21 6 (dk_at dksX0_years_3 12 rfl rfl)
theorem dX0_years_84 : decode cX0_years 84 = .ok (.iload_n 1, 1) := dk_27 (dk_at dksX0_years_3 14 rfl rfl)
theorem dX0_years_85 : decode cX0_years 85 = .ok (.if_icmp .ge 52, 3) := dk_162 0 52 (dk_at dksX0_years_3 15 rfl rfl)
theorem dX0_years_88 : decode cX0_years 88 = .ok (.aload 5, 2) := dk_25 5 (dk_at dksX0_years_3 18 rfl rfl)
theorem dX0_years_90 : decode cX0_years 90 = .ok (.aload_n 0, 1) := dk_42 (dk_at dksX0_years_3 20 rfl rfl)
theorem dX0_years_91 : decode cX0_years 91 = .ok (.getfield 142, 3) := dk_180 0 142 (dk_at dksX0_years_3 21 rfl rfl)
theorem dX0_years_94 : decode cX0_years 94 = .ok (.invokevirtual 383, 3) := dk_182 1 127 (dk_at dksX0_years_4 0 rfl rfl)
theorem dX0_years_97 : decode cX0_years 97 = .ok (.pop, 1) := dk_87 (dk_at dksX0_years_4 3 rfl rfl)
theorem dX0_years_98 : decode cX0_years 98 = .ok (.iconst 0, 1) := dk_3 (dk_at dksX0_years_4 4 rfl rfl)
theorem dX0_years_99 : decode cX0_years 99 = .ok (.istore 7, 2) := dk_54 7 (dk_at dksX0_years_4 5 rfl rfl)
theorem dX0_years_101 : decode cX0_years 101 = .ok (.iload 7, 2) := dk_21 7 (dk_at dksX0_years_4 7 rfl rfl)
theorem dX0_years_103 : decode cX0_years 103 = .ok (.iload_n 2, 1) := dk_28 (dk_at dksX0_years_4 9 rfl rfl)
theorem dX0_years_104 : decode cX0_years 104 = .ok (.if_icmp .ge 15, 3) := dk_162 0 15 (dk_at dksX0_years_4 10 rfl rfl)
theorem dX0_years_107 : decode cX0_years 107 = .ok (.aload_n 0, 1) := dk_42 (dk_at dksX0_years_4 13 rfl rfl)
theorem dX0_years_108 : decode cX0_years 108 = .ok (.aload 5, 2) := dk_25 5 (dk_at dksX0_years_4 14 rfl rfl)
theorem dX0_years_110 : decode cX0_years 110 = .ok (.invokevirtual 442, 3) := dk_182 1 186 (dk_at dksX0_years_4 16 rfl rfl)
theorem dX0_years_113 : decode cX0_years 113 = .ok (.iinc 7 1, 3) := dk_132 7 1 (dk_at dksX0_years_4 19 rfl rfl)
theorem dX0_years_116 : decode cX0_years 116 = .ok (.goto (-15), 3) := dk_167 255 241 (dk_at dksX0_years_5 0 rfl rfl)
theorem dX0_years_119 : decode cX0_years 119 = .ok (.iload 4, 2) := dk_21 4 (dk_at dksX0_years_5 3 rfl rfl)
theorem dX0_years_121 : decode cX0_years 121 = .ok (.aload 5, 2) := dk_25 5 (dk_at dksX0_years_5 5 rfl rfl)
theorem dX0_years_123 : decode cX0_years 123 = .ok (.bipush 6, 2) := dk_16 6 (dk_at dksX0_years_5 7 rfl rfl)
theorem dX0_years_125 : decode cX0_years 125 = .ok (.invokevirtual 233, 3) := dk_182 0 233 (dk_at dksX0_years_5 9 rfl rfl)
theorem dX0_years_128 : decode cX0_years 128 = .ok (.iadd, 1) := dk_96 (dk_at dksX0_years_5 12 rfl rfl)
theorem dX0_years_129 : decode cX0_years 129 = .ok (.istore 4, 2) := dk_54 4 (dk_at dksX0_years_5 13 rfl rfl)
theorem dX0_years_131 : decode cX0_years 131 = .ok (.iinc 6 1, 3) := dk_132 6 1 (dk_at dksX0_years_5 15 rfl rfl)
theorem dX0_years_134 : decode cX0_years 134 = .ok (.goto (-52), 3) := dk_167 255 204 (dk_at dksX0_years_5 18 rfl rfl)
theorem dX0_years_137 : decode cX0_years 137 = .ok (.iload_n 3, 1) := dk_29 (dk_at dksX0_years_5 21 rfl rfl)
theorem dX0_years_138 : decode cX0_years 138 = .ok (.ifCond .ne 10, 3) := dk_154 0 10 (dk_at dksX0_years_6 0 rfl rfl)
theorem dX0_years_141 : decode cX0_years 141 = .ok (.aload_n 0, 1) := dk_42 (dk_at dksX0_years_6 3 rfl rfl)
theorem dX0_years_142 : decode cX0_years 142 = .ok (.getfield 434, 3) := dk_180 1 178 (dk_at dksX0_years_6 4 rfl rfl)
theorem dX0_years_145 : decode cX0_years 145 = .ok (.goto 17, 3) := dk_167 0 17 (dk_at dksX0_years_6 7 rfl rfl)
theorem dX0_years_148 : decode cX0_years 148 = .ok (.iload_n 3, 1) := dk_29 (dk_at dksX0_years_6 10 rfl rfl)
theorem dX0_years_149 : decode cX0_years 149 = .ok (.iconst 1, 1) := dk_4 (dk_at dksX0_years_6 11 rfl rfl)
theorem dX0_years_150 : decode cX0_years 150 = .ok (.if_icmp .ne 10, 3) := dk_160 0 10 (dk_at dksX0_years_6 12 rfl rfl)
theorem dX0_years_153 : decode cX0_years 153 = .ok (.aload_n 0, 1) := dk_42 (dk_at dksX0_years_6 15 rfl rfl)
theorem dX0_years_154 : decode cX0_years 154 = .ok (.getfield 437, 3) := dk_180 1 181 (dk_at dksX0_years_6 16 rfl rfl)
theorem dX0_years_157 : decode cX0_years 157 = .ok (.goto 5, 3) := dk_167 0 5 (dk_at dksX0_years_6 19 rfl rfl)
theorem dX0_years_160 : decode cX0_years 160 = .ok (.iload 4, 2) := dk_21 4 (dk_at dksX0_years_6 22 rfl rfl)
theorem dX0_years_162 : decode cX0_years 162 = .ok (.ireturn, 1) := dk_172 (dk_at dksX0_years_7 0 rfl rfl)
abbrev cX0_dayDrawn : ByteArray := prog_1_method_72_code
def yX0_dayDrawn : MethodName := ⟨RX0, "dayDrawn", "(LTruthBridge$Gorge;)V"⟩
def dkwX0_dayDrawn_3 : List UInt8 := [162, 0, 7, 4, 167, 0, 4, 3, 96, 181, 1, 181, 132, 2, 1, 167, 255, 172, 43, 182, 1, 45, 177]
abbrev dktX0_dayDrawn_3 : List UInt8 := dkwX0_dayDrawn_3 ++ []
def dkwX0_dayDrawn_2 : List UInt8 := [180, 1, 178, 29, 6, 160, 0, 7, 4, 167, 0, 4, 3, 96, 181, 1, 178, 42, 89, 180, 1, 181, 29, 5]
abbrev dktX0_dayDrawn_2 : List UInt8 := dkwX0_dayDrawn_2 ++ dktX0_dayDrawn_3
def dkwX0_dayDrawn_1 : List UInt8 := [160, 0, 6, 167, 0, 56, 42, 43, 28, 42, 42, 180, 0, 158, 182, 1, 175, 182, 1, 35, 62, 42, 89]
abbrev dktX0_dayDrawn_1 : List UInt8 := dkwX0_dayDrawn_1 ++ dktX0_dayDrawn_2
def dkwX0_dayDrawn_0 : List UInt8 := [3, 61, 28, 43, 180, 0, 145, 162, 0, 82, 42, 180, 0, 158, 158, 0, 75, 43, 180, 0, 196, 28, 46, 4]
abbrev dktX0_dayDrawn_0 : List UInt8 := dkwX0_dayDrawn_0 ++ dktX0_dayDrawn_1
theorem dksX0_dayDrawn_0 : cX0_dayDrawn.data.toList.drop 0 = dktX0_dayDrawn_0 := by decide +kernel
theorem dksX0_dayDrawn_1 : cX0_dayDrawn.data.toList.drop 24 = dktX0_dayDrawn_1 := dk_seg dksX0_dayDrawn_0 24 rfl rfl
theorem dksX0_dayDrawn_2 : cX0_dayDrawn.data.toList.drop 47 = dktX0_dayDrawn_2 := dk_seg dksX0_dayDrawn_1 23 rfl rfl
theorem dksX0_dayDrawn_3 : cX0_dayDrawn.data.toList.drop 71 = dktX0_dayDrawn_3 := dk_seg dksX0_dayDrawn_2 24 rfl rfl
theorem dX0_dayDrawn_0 : decode cX0_dayDrawn 0 = .ok (.iconst 0, 1) := dk_3 (dk_at dksX0_dayDrawn_0 0 rfl rfl)
theorem dX0_dayDrawn_1 : decode cX0_dayDrawn 1 = .ok (.istore_n 2, 1) := dk_61 (dk_at dksX0_dayDrawn_0 1 rfl rfl)
theorem dX0_dayDrawn_2 : decode cX0_dayDrawn 2 = .ok (.iload_n 2, 1) := dk_28 (dk_at dksX0_dayDrawn_0 2 rfl rfl)
theorem dX0_dayDrawn_3 : decode cX0_dayDrawn 3 = .ok (.aload_n 1, 1) := dk_43 (dk_at dksX0_dayDrawn_0 3 rfl rfl)
theorem dX0_dayDrawn_4 : decode cX0_dayDrawn 4 = .ok (.getfield 145, 3) := dk_180 0 145 (dk_at dksX0_dayDrawn_0 4 rfl rfl)
theorem dX0_dayDrawn_7 : decode cX0_dayDrawn 7 = .ok (.if_icmp .ge 82, 3) := dk_162 0 82 (dk_at dksX0_dayDrawn_0 7 rfl rfl)
theorem dX0_dayDrawn_10 : decode cX0_dayDrawn 10 = .ok (.aload_n 0, 1) := dk_42 (dk_at dksX0_dayDrawn_0 10 rfl rfl)
theorem dX0_dayDrawn_11 : decode cX0_dayDrawn 11 = .ok (.getfield 158, 3) := dk_180 0 158 (dk_at dksX0_dayDrawn_0 11 rfl rfl)
theorem dX0_dayDrawn_14 : decode cX0_dayDrawn 14 = .ok (.ifCond .le 75, 3) := dk_158 0 75 (dk_at dksX0_dayDrawn_0 14 rfl rfl)
theorem dX0_dayDrawn_17 : decode cX0_dayDrawn 17 = .ok (.aload_n 1, 1) := dk_43 (dk_at dksX0_dayDrawn_0 17 rfl rfl)
theorem dX0_dayDrawn_18 : decode cX0_dayDrawn 18 = .ok (.getfield 196, 3) := dk_180 0 196 (dk_at dksX0_dayDrawn_0 18 rfl rfl)
theorem dX0_dayDrawn_21 : decode cX0_dayDrawn 21 = .ok (.iload_n 2, 1) := dk_28 (dk_at dksX0_dayDrawn_0 21 rfl rfl)
theorem dX0_dayDrawn_22 : decode cX0_dayDrawn 22 = .ok (.iaload, 1) := dk_46 (dk_at dksX0_dayDrawn_0 22 rfl rfl)
theorem dX0_dayDrawn_23 : decode cX0_dayDrawn 23 = .ok (.iconst 1, 1) := dk_4 (dk_at dksX0_dayDrawn_0 23 rfl rfl)
theorem dX0_dayDrawn_24 : decode cX0_dayDrawn 24 = .ok (.if_icmp .ne 6, 3) := dk_160 0 6 (dk_at dksX0_dayDrawn_1 0 rfl rfl)
theorem dX0_dayDrawn_27 : decode cX0_dayDrawn 27 = .ok (.goto 56, 3) := dk_167 0 56 (dk_at dksX0_dayDrawn_1 3 rfl rfl)
theorem dX0_dayDrawn_30 : decode cX0_dayDrawn 30 = .ok (.aload_n 0, 1) := dk_42 (dk_at dksX0_dayDrawn_1 6 rfl rfl)
theorem dX0_dayDrawn_31 : decode cX0_dayDrawn 31 = .ok (.aload_n 1, 1) := dk_43 (dk_at dksX0_dayDrawn_1 7 rfl rfl)
theorem dX0_dayDrawn_32 : decode cX0_dayDrawn 32 = .ok (.iload_n 2, 1) := dk_28 (dk_at dksX0_dayDrawn_1 8 rfl rfl)
theorem dX0_dayDrawn_33 : decode cX0_dayDrawn 33 = .ok (.aload_n 0, 1) := dk_42 (dk_at dksX0_dayDrawn_1 9 rfl rfl)
theorem dX0_dayDrawn_34 : decode cX0_dayDrawn 34 = .ok (.aload_n 0, 1) := dk_42 (dk_at dksX0_dayDrawn_1 10 rfl rfl)
theorem dX0_dayDrawn_35 : decode cX0_dayDrawn 35 = .ok (.getfield 158, 3) := dk_180 0 158 (dk_at dksX0_dayDrawn_1 11 rfl rfl)
theorem dX0_dayDrawn_38 : decode cX0_dayDrawn 38 = .ok (.invokevirtual 431, 3) := dk_182 1 175 (dk_at dksX0_dayDrawn_1 14 rfl rfl)
theorem dX0_dayDrawn_41 : decode cX0_dayDrawn 41 = .ok (.invokevirtual 291, 3) := dk_182 1 35 (dk_at dksX0_dayDrawn_1 17 rfl rfl)
theorem dX0_dayDrawn_44 : decode cX0_dayDrawn 44 = .ok (.istore_n 3, 1) := dk_62 (dk_at dksX0_dayDrawn_1 20 rfl rfl)
theorem dX0_dayDrawn_45 : decode cX0_dayDrawn 45 = .ok (.aload_n 0, 1) := dk_42 (dk_at dksX0_dayDrawn_1 21 rfl rfl)
theorem dX0_dayDrawn_46 : decode cX0_dayDrawn 46 = .ok (.dup, 1) := dk_89 (dk_at dksX0_dayDrawn_1 22 rfl rfl)
theorem dX0_dayDrawn_47 : decode cX0_dayDrawn 47 = .ok (.getfield 434, 3) := dk_180 1 178 (dk_at dksX0_dayDrawn_2 0 rfl rfl)
theorem dX0_dayDrawn_50 : decode cX0_dayDrawn 50 = .ok (.iload_n 3, 1) := dk_29 (dk_at dksX0_dayDrawn_2 3 rfl rfl)
theorem dX0_dayDrawn_51 : decode cX0_dayDrawn 51 = .ok (.iconst 3, 1) := dk_6 (dk_at dksX0_dayDrawn_2 4 rfl rfl)
theorem dX0_dayDrawn_52 : decode cX0_dayDrawn 52 = .ok (.if_icmp .ne 7, 3) := dk_160 0 7 (dk_at dksX0_dayDrawn_2 5 rfl rfl)
theorem dX0_dayDrawn_55 : decode cX0_dayDrawn 55 = .ok (.iconst 1, 1) := dk_4 (dk_at dksX0_dayDrawn_2 8 rfl rfl)
theorem dX0_dayDrawn_56 : decode cX0_dayDrawn 56 = .ok (.goto 4, 3) := dk_167 0 4 (dk_at dksX0_dayDrawn_2 9 rfl rfl)
theorem dX0_dayDrawn_59 : decode cX0_dayDrawn 59 = .ok (.iconst 0, 1) := dk_3 (dk_at dksX0_dayDrawn_2 12 rfl rfl)
theorem dX0_dayDrawn_60 : decode cX0_dayDrawn 60 = .ok (.iadd, 1) := dk_96 (dk_at dksX0_dayDrawn_2 13 rfl rfl)
theorem dX0_dayDrawn_61 : decode cX0_dayDrawn 61 = .ok (.putfield 434, 3) := dk_181 1 178 (dk_at dksX0_dayDrawn_2 14 rfl rfl)
theorem dX0_dayDrawn_64 : decode cX0_dayDrawn 64 = .ok (.aload_n 0, 1) := dk_42 (dk_at dksX0_dayDrawn_2 17 rfl rfl)
theorem dX0_dayDrawn_65 : decode cX0_dayDrawn 65 = .ok (.dup, 1) := dk_89 (dk_at dksX0_dayDrawn_2 18 rfl rfl)
theorem dX0_dayDrawn_66 : decode cX0_dayDrawn 66 = .ok (.getfield 437, 3) := dk_180 1 181 (dk_at dksX0_dayDrawn_2 19 rfl rfl)
theorem dX0_dayDrawn_69 : decode cX0_dayDrawn 69 = .ok (.iload_n 3, 1) := dk_29 (dk_at dksX0_dayDrawn_2 22 rfl rfl)
theorem dX0_dayDrawn_70 : decode cX0_dayDrawn 70 = .ok (.iconst 2, 1) := dk_5 (dk_at dksX0_dayDrawn_2 23 rfl rfl)
theorem dX0_dayDrawn_71 : decode cX0_dayDrawn 71 = .ok (.if_icmp .ge 7, 3) := dk_162 0 7 (dk_at dksX0_dayDrawn_3 0 rfl rfl)
theorem dX0_dayDrawn_74 : decode cX0_dayDrawn 74 = .ok (.iconst 1, 1) := dk_4 (dk_at dksX0_dayDrawn_3 3 rfl rfl)
theorem dX0_dayDrawn_75 : decode cX0_dayDrawn 75 = .ok (.goto 4, 3) := dk_167 0 4 (dk_at dksX0_dayDrawn_3 4 rfl rfl)
theorem dX0_dayDrawn_78 : decode cX0_dayDrawn 78 = .ok (.iconst 0, 1) := dk_3 (dk_at dksX0_dayDrawn_3 7 rfl rfl)
theorem dX0_dayDrawn_79 : decode cX0_dayDrawn 79 = .ok (.iadd, 1) := dk_96 (dk_at dksX0_dayDrawn_3 8 rfl rfl)
theorem dX0_dayDrawn_80 : decode cX0_dayDrawn 80 = .ok (.putfield 437, 3) := dk_181 1 181 (dk_at dksX0_dayDrawn_3 9 rfl rfl)
theorem dX0_dayDrawn_83 : decode cX0_dayDrawn 83 = .ok (.iinc 2 1, 3) := dk_132 2 1 (dk_at dksX0_dayDrawn_3 12 rfl rfl)
theorem dX0_dayDrawn_86 : decode cX0_dayDrawn 86 = .ok (.goto (-84), 3) := dk_167 255 172 (dk_at dksX0_dayDrawn_3 15 rfl rfl)
theorem dX0_dayDrawn_89 : decode cX0_dayDrawn 89 = .ok (.aload_n 1, 1) := dk_43 (dk_at dksX0_dayDrawn_3 18 rfl rfl)
theorem dX0_dayDrawn_90 : decode cX0_dayDrawn 90 = .ok (.invokevirtual 301, 3) := dk_182 1 45 (dk_at dksX0_dayDrawn_3 19 rfl rfl)
theorem dX0_dayDrawn_93 : decode cX0_dayDrawn 93 = .ok (.return_, 1) := dk_177 (dk_at dksX0_dayDrawn_3 22 rfl rfl)
abbrev cX0_draw : ByteArray := prog_1_method_71_code
def yX0_draw : MethodName := ⟨RX0, "draw", "(I)I"⟩
def dkwX0_draw_1 : List UInt8 := [180, 1, 165, 19, 1, 174, 108, 27, 112, 172]
abbrev dktX0_draw_1 : List UInt8 := dkwX0_draw_1 ++ []
def dkwX0_draw_0 : List UInt8 := [42, 42, 180, 1, 165, 133, 20, 1, 168, 105, 20, 1, 170, 97, 20, 1, 172, 113, 136, 181, 1, 165, 42]
abbrev dktX0_draw_0 : List UInt8 := dkwX0_draw_0 ++ dktX0_draw_1
theorem dksX0_draw_0 : cX0_draw.data.toList.drop 0 = dktX0_draw_0 := by decide +kernel
theorem dksX0_draw_1 : cX0_draw.data.toList.drop 23 = dktX0_draw_1 := dk_seg dksX0_draw_0 23 rfl rfl
theorem dX0_draw_0 : decode cX0_draw 0 = .ok (.aload_n 0, 1) := dk_42 (dk_at dksX0_draw_0 0 rfl rfl)
theorem dX0_draw_1 : decode cX0_draw 1 = .ok (.aload_n 0, 1) := dk_42 (dk_at dksX0_draw_0 1 rfl rfl)
theorem dX0_draw_2 : decode cX0_draw 2 = .ok (.getfield 421, 3) := dk_180 1 165 (dk_at dksX0_draw_0 2 rfl rfl)
theorem dX0_draw_5 : decode cX0_draw 5 = .ok (.i2l, 1) := dk_133 (dk_at dksX0_draw_0 5 rfl rfl)
theorem dX0_draw_6 : decode cX0_draw 6 = .ok (.ldc2_w 424, 3) := dk_20 1 168 (dk_at dksX0_draw_0 6 rfl rfl)
theorem dX0_draw_9 : decode cX0_draw 9 = .ok (.lmul, 1) := dk_105 (dk_at dksX0_draw_0 9 rfl rfl)
theorem dX0_draw_10 : decode cX0_draw 10 = .ok (.ldc2_w 426, 3) := dk_20 1 170 (dk_at dksX0_draw_0 10 rfl rfl)
theorem dX0_draw_13 : decode cX0_draw 13 = .ok (.ladd, 1) := dk_97 (dk_at dksX0_draw_0 13 rfl rfl)
theorem dX0_draw_14 : decode cX0_draw 14 = .ok (.ldc2_w 428, 3) := dk_20 1 172 (dk_at dksX0_draw_0 14 rfl rfl)
theorem dX0_draw_17 : decode cX0_draw 17 = .ok (.lrem, 1) := dk_113 (dk_at dksX0_draw_0 17 rfl rfl)
theorem dX0_draw_18 : decode cX0_draw 18 = .ok (.l2i, 1) := dk_136 (dk_at dksX0_draw_0 18 rfl rfl)
theorem dX0_draw_19 : decode cX0_draw 19 = .ok (.putfield 421, 3) := dk_181 1 165 (dk_at dksX0_draw_0 19 rfl rfl)
theorem dX0_draw_22 : decode cX0_draw 22 = .ok (.aload_n 0, 1) := dk_42 (dk_at dksX0_draw_0 22 rfl rfl)
theorem dX0_draw_23 : decode cX0_draw 23 = .ok (.getfield 421, 3) := dk_180 1 165 (dk_at dksX0_draw_1 0 rfl rfl)
theorem dX0_draw_26 : decode cX0_draw 26 = .ok (.ldc_w 430, 3) := dk_19 1 174 (dk_at dksX0_draw_1 3 rfl rfl)
theorem dX0_draw_29 : decode cX0_draw 29 = .ok (.idiv, 1) := dk_108 (dk_at dksX0_draw_1 6 rfl rfl)
theorem dX0_draw_30 : decode cX0_draw 30 = .ok (.iload_n 1, 1) := dk_27 (dk_at dksX0_draw_1 7 rfl rfl)
theorem dX0_draw_31 : decode cX0_draw 31 = .ok (.irem, 1) := dk_112 (dk_at dksX0_draw_1 8 rfl rfl)
theorem dX0_draw_32 : decode cX0_draw 32 = .ok (.ireturn, 1) := dk_172 (dk_at dksX0_draw_1 9 rfl rfl)
abbrev cX0_count : ByteArray := prog_1_method_74_code
def yX0_count : MethodName := ⟨RX0, "count", "(I)I"⟩
def dkwX0_count_9 : List UInt8 := [180, 1, 145, 172, 42, 180, 0, 142, 180, 1, 8, 172]
abbrev dktX0_count_9 : List UInt8 := dkwX0_count_9 ++ []
def dkwX0_count_8 : List UInt8 := [42, 180, 0, 142, 180, 1, 43, 172, 42, 180, 0, 142, 16, 6, 182, 0, 233, 172, 42, 180, 0, 142]
abbrev dktX0_count_8 : List UInt8 := dkwX0_count_8 ++ dktX0_count_9
def dkwX0_count_7 : List UInt8 := [42, 180, 0, 142, 180, 0, 179, 172, 42, 180, 0, 142, 180, 1, 192, 172, 42, 180, 0, 142, 180, 1, 97, 172]
abbrev dktX0_count_7 : List UInt8 := dkwX0_count_7 ++ dktX0_count_8
def dkwX0_count_6 : List UInt8 := [42, 180, 0, 142, 180, 0, 237, 172, 42, 180, 0, 142, 180, 0, 199, 172, 42, 180, 0, 142, 180, 0, 145, 172]
abbrev dktX0_count_6 : List UInt8 := dkwX0_count_6 ++ dktX0_count_7
def dkwX0_count_5 : List UInt8 := [170, 0, 0, 0, 0, 132, 0, 0, 0, 0, 0, 0, 0, 10, 0, 0, 0, 58, 0, 0, 0, 66, 0, 0, 0, 74, 0, 0, 0, 82, 0, 0, 0, 90, 0, 0, 0, 98, 0, 0, 0, 132, 0, 0, 0, 132, 0, 0, 0, 106, 0, 0, 0, 114, 0, 0, 0, 124]
abbrev dktX0_count_5 : List UInt8 := dkwX0_count_5 ++ dktX0_count_6
def dkwX0_count_4 : List UInt8 := [2, 167, 0, 4, 3, 172, 27]
abbrev dktX0_count_4 : List UInt8 := dkwX0_count_4 ++ dktX0_count_5
def dkwX0_count_3 : List UInt8 := [20, 1, 190, 184, 1, 68, 154, 0, 5, 2, 172, 42, 180, 0, 142, 199, 0, 15, 27, 16, 9, 160, 0, 7]
abbrev dktX0_count_3 : List UInt8 := dkwX0_count_3 ++ dktX0_count_4
def dkwX0_count_2 : List UInt8 := [42, 180, 0, 158, 172, 42, 180, 0, 169, 172, 42, 180, 1, 162, 172, 42, 180, 0, 116, 172, 27, 133, 9]
abbrev dktX0_count_2 : List UInt8 := dkwX0_count_2 ++ dktX0_count_3
def dkwX0_count_1 : List UInt8 := [170, 0, 0, 0, 0, 0, 67, 0, 0, 0, 6, 0, 0, 0, 13, 0, 0, 0, 47, 0, 0, 0, 52, 0, 0, 0, 67, 0, 0, 0, 67, 0, 0, 0, 67, 0, 0, 0, 67, 0, 0, 0, 57, 0, 0, 0, 62]
abbrev dktX0_count_1 : List UInt8 := dkwX0_count_1 ++ dktX0_count_2
def dkwX0_count_0 : List UInt8 := [27]
abbrev dktX0_count_0 : List UInt8 := dkwX0_count_0 ++ dktX0_count_1
theorem dksX0_count_0 : cX0_count.data.toList.drop 0 = dktX0_count_0 := by decide +kernel
theorem dksX0_count_1 : cX0_count.data.toList.drop 1 = dktX0_count_1 := dk_seg dksX0_count_0 1 rfl rfl
theorem dksX0_count_2 : cX0_count.data.toList.drop 48 = dktX0_count_2 := dk_seg dksX0_count_1 47 rfl rfl
theorem dksX0_count_3 : cX0_count.data.toList.drop 71 = dktX0_count_3 := dk_seg dksX0_count_2 23 rfl rfl
theorem dksX0_count_4 : cX0_count.data.toList.drop 95 = dktX0_count_4 := dk_seg dksX0_count_3 24 rfl rfl
theorem dksX0_count_5 : cX0_count.data.toList.drop 102 = dktX0_count_5 := dk_seg dksX0_count_4 7 rfl rfl
theorem dksX0_count_6 : cX0_count.data.toList.drop 160 = dktX0_count_6 := dk_seg dksX0_count_5 58 rfl rfl
theorem dksX0_count_7 : cX0_count.data.toList.drop 184 = dktX0_count_7 := dk_seg dksX0_count_6 24 rfl rfl
theorem dksX0_count_8 : cX0_count.data.toList.drop 208 = dktX0_count_8 := dk_seg dksX0_count_7 24 rfl rfl
theorem dksX0_count_9 : cX0_count.data.toList.drop 230 = dktX0_count_9 := dk_seg dksX0_count_8 22 rfl rfl
theorem dX0_count_0 : decode cX0_count 0 = .ok (.iload_n 1, 1) := dk_27 (dk_at dksX0_count_0 0 rfl rfl)
theorem dX0_count_1 : decode cX0_count 1 = .ok (.tableswitch 67 6 13 #[47, 52, 67, 67, 67, 67, 57, 62], 47) := by decide +kernel
theorem dX0_count_48 : decode cX0_count 48 = .ok (.aload_n 0, 1) := dk_42 (dk_at dksX0_count_2 0 rfl rfl)
theorem dX0_count_49 : decode cX0_count 49 = .ok (.getfield 158, 3) := dk_180 0 158 (dk_at dksX0_count_2 1 rfl rfl)
theorem dX0_count_52 : decode cX0_count 52 = .ok (.ireturn, 1) := dk_172 (dk_at dksX0_count_2 4 rfl rfl)
theorem dX0_count_53 : decode cX0_count 53 = .ok (.aload_n 0, 1) := dk_42 (dk_at dksX0_count_2 5 rfl rfl)
theorem dX0_count_54 : decode cX0_count 54 = .ok (.getfield 169, 3) := dk_180 0 169 (dk_at dksX0_count_2 6 rfl rfl)
theorem dX0_count_57 : decode cX0_count 57 = .ok (.ireturn, 1) := dk_172 (dk_at dksX0_count_2 9 rfl rfl)
theorem dX0_count_58 : decode cX0_count 58 = .ok (.aload_n 0, 1) := dk_42 (dk_at dksX0_count_2 10 rfl rfl)
theorem dX0_count_59 : decode cX0_count 59 = .ok (.getfield 418, 3) := dk_180 1 162 (dk_at dksX0_count_2 11 rfl rfl)
theorem dX0_count_62 : decode cX0_count 62 = .ok (.ireturn, 1) := dk_172 (dk_at dksX0_count_2 14 rfl rfl)
theorem dX0_count_63 : decode cX0_count 63 = .ok (.aload_n 0, 1) := dk_42 (dk_at dksX0_count_2 15 rfl rfl)
theorem dX0_count_64 : decode cX0_count 64 = .ok (.getfield 116, 3) := dk_180 0 116 (dk_at dksX0_count_2 16 rfl rfl)
theorem dX0_count_67 : decode cX0_count 67 = .ok (.ireturn, 1) := dk_172 (dk_at dksX0_count_2 19 rfl rfl)
theorem dX0_count_68 : decode cX0_count 68 = .ok (.iload_n 1, 1) := dk_27 (dk_at dksX0_count_2 20 rfl rfl)
theorem dX0_count_69 : decode cX0_count 69 = .ok (.i2l, 1) := dk_133 (dk_at dksX0_count_2 21 rfl rfl)
theorem dX0_count_70 : decode cX0_count 70 = .ok (.lconst 0, 1) := dk_9 (dk_at dksX0_count_2 22 rfl rfl)
theorem dX0_count_71 : decode cX0_count 71 = .ok (.ldc2_w 446, 3) := dk_20 1 190 (dk_at dksX0_count_3 0 rfl rfl)
theorem dX0_count_74 : decode cX0_count 74 = .ok (.invokestatic 324, 3) := dk_184 1 68 (dk_at dksX0_count_3 3 rfl rfl)
theorem dX0_count_77 : decode cX0_count 77 = .ok (.ifCond .ne 5, 3) := dk_154 0 5 (dk_at dksX0_count_3 6 rfl rfl)
theorem dX0_count_80 : decode cX0_count 80 = .ok (.iconst (-1), 1) := dk_2 (dk_at dksX0_count_3 9 rfl rfl)
theorem dX0_count_81 : decode cX0_count 81 = .ok (.ireturn, 1) := dk_172 (dk_at dksX0_count_3 10 rfl rfl)
theorem dX0_count_82 : decode cX0_count 82 = .ok (.aload_n 0, 1) := dk_42 (dk_at dksX0_count_3 11 rfl rfl)
theorem dX0_count_83 : decode cX0_count 83 = .ok (.getfield 142, 3) := dk_180 0 142 (dk_at dksX0_count_3 12 rfl rfl)
theorem dX0_count_86 : decode cX0_count 86 = .ok (.ifnonnull 15, 3) := dk_199 0 15 (dk_at dksX0_count_3 15 rfl rfl)
theorem dX0_count_89 : decode cX0_count 89 = .ok (.iload_n 1, 1) := dk_27 (dk_at dksX0_count_3 18 rfl rfl)
theorem dX0_count_90 : decode cX0_count 90 = .ok (.bipush 9, 2) := dk_16 9 (dk_at dksX0_count_3 19 rfl rfl)
theorem dX0_count_92 : decode cX0_count 92 = .ok (.if_icmp .ne 7, 3) := dk_160 0 7 (dk_at dksX0_count_3 21 rfl rfl)
theorem dX0_count_95 : decode cX0_count 95 = .ok (.iconst (-1), 1) := dk_2 (dk_at dksX0_count_4 0 rfl rfl)
theorem dX0_count_96 : decode cX0_count 96 = .ok (.goto 4, 3) := dk_167 0 4 (dk_at dksX0_count_4 1 rfl rfl)
theorem dX0_count_99 : decode cX0_count 99 = .ok (.iconst 0, 1) := dk_3 (dk_at dksX0_count_4 4 rfl rfl)
theorem dX0_count_100 : decode cX0_count 100 = .ok (.ireturn, 1) := dk_172 (dk_at dksX0_count_4 5 rfl rfl)
theorem dX0_count_101 : decode cX0_count 101 = .ok (.iload_n 1, 1) := dk_27 (dk_at dksX0_count_4 6 rfl rfl)
theorem dX0_count_102 : decode cX0_count 102 = .ok (.tableswitch 132 0 10 #[58, 66, 74, 82, 90, 98, 132, 132, 106, 114, 124], 58) := by decide +kernel
theorem dX0_count_160 : decode cX0_count 160 = .ok (.aload_n 0, 1) := dk_42 (dk_at dksX0_count_6 0 rfl rfl)
theorem dX0_count_161 : decode cX0_count 161 = .ok (.getfield 142, 3) := dk_180 0 142 (dk_at dksX0_count_6 1 rfl rfl)
theorem dX0_count_164 : decode cX0_count 164 = .ok (.getfield 237, 3) := dk_180 0 237 (dk_at dksX0_count_6 4 rfl rfl)
theorem dX0_count_167 : decode cX0_count 167 = .ok (.ireturn, 1) := dk_172 (dk_at dksX0_count_6 7 rfl rfl)
theorem dX0_count_168 : decode cX0_count 168 = .ok (.aload_n 0, 1) := dk_42 (dk_at dksX0_count_6 8 rfl rfl)
theorem dX0_count_169 : decode cX0_count 169 = .ok (.getfield 142, 3) := dk_180 0 142 (dk_at dksX0_count_6 9 rfl rfl)
theorem dX0_count_172 : decode cX0_count 172 = .ok (.getfield 199, 3) := dk_180 0 199 (dk_at dksX0_count_6 12 rfl rfl)
theorem dX0_count_175 : decode cX0_count 175 = .ok (.ireturn, 1) := dk_172 (dk_at dksX0_count_6 15 rfl rfl)
theorem dX0_count_176 : decode cX0_count 176 = .ok (.aload_n 0, 1) := dk_42 (dk_at dksX0_count_6 16 rfl rfl)
theorem dX0_count_177 : decode cX0_count 177 = .ok (.getfield 142, 3) := dk_180 0 142 (dk_at dksX0_count_6 17 rfl rfl)
theorem dX0_count_180 : decode cX0_count 180 = .ok (.getfield 145, 3) := dk_180 0 145 (dk_at dksX0_count_6 20 rfl rfl)
theorem dX0_count_183 : decode cX0_count 183 = .ok (.ireturn, 1) := dk_172 (dk_at dksX0_count_6 23 rfl rfl)
theorem dX0_count_184 : decode cX0_count 184 = .ok (.aload_n 0, 1) := dk_42 (dk_at dksX0_count_7 0 rfl rfl)
theorem dX0_count_185 : decode cX0_count 185 = .ok (.getfield 142, 3) := dk_180 0 142 (dk_at dksX0_count_7 1 rfl rfl)
theorem dX0_count_188 : decode cX0_count 188 = .ok (.getfield 179, 3) := dk_180 0 179 (dk_at dksX0_count_7 4 rfl rfl)
theorem dX0_count_191 : decode cX0_count 191 = .ok (.ireturn, 1) := dk_172 (dk_at dksX0_count_7 7 rfl rfl)
theorem dX0_count_192 : decode cX0_count 192 = .ok (.aload_n 0, 1) := dk_42 (dk_at dksX0_count_7 8 rfl rfl)
theorem dX0_count_193 : decode cX0_count 193 = .ok (.getfield 142, 3) := dk_180 0 142 (dk_at dksX0_count_7 9 rfl rfl)
theorem dX0_count_196 : decode cX0_count 196 = .ok (.getfield 448, 3) := dk_180 1 192 (dk_at dksX0_count_7 12 rfl rfl)
theorem dX0_count_199 : decode cX0_count 199 = .ok (.ireturn, 1) := dk_172 (dk_at dksX0_count_7 15 rfl rfl)
theorem dX0_count_200 : decode cX0_count 200 = .ok (.aload_n 0, 1) := dk_42 (dk_at dksX0_count_7 16 rfl rfl)
theorem dX0_count_201 : decode cX0_count 201 = .ok (.getfield 142, 3) := dk_180 0 142 (dk_at dksX0_count_7 17 rfl rfl)
theorem dX0_count_204 : decode cX0_count 204 = .ok (.getfield 353, 3) := dk_180 1 97 (dk_at dksX0_count_7 20 rfl rfl)
theorem dX0_count_207 : decode cX0_count 207 = .ok (.ireturn, 1) := dk_172 (dk_at dksX0_count_7 23 rfl rfl)
theorem dX0_count_208 : decode cX0_count 208 = .ok (.aload_n 0, 1) := dk_42 (dk_at dksX0_count_8 0 rfl rfl)
theorem dX0_count_209 : decode cX0_count 209 = .ok (.getfield 142, 3) := dk_180 0 142 (dk_at dksX0_count_8 1 rfl rfl)
theorem dX0_count_212 : decode cX0_count 212 = .ok (.getfield 299, 3) := dk_180 1 43 (dk_at dksX0_count_8 4 rfl rfl)
theorem dX0_count_215 : decode cX0_count 215 = .ok (.ireturn, 1) := dk_172 (dk_at dksX0_count_8 7 rfl rfl)
theorem dX0_count_216 : decode cX0_count 216 = .ok (.aload_n 0, 1) := dk_42 (dk_at dksX0_count_8 8 rfl rfl)
theorem dX0_count_217 : decode cX0_count 217 = .ok (.getfield 142, 3) := dk_180 0 142 (dk_at dksX0_count_8 9 rfl rfl)
theorem dX0_count_220 : decode cX0_count 220 = .ok (.bipush 6, 2) := dk_16 6 (dk_at dksX0_count_8 12 rfl rfl)
theorem dX0_count_222 : decode cX0_count 222 = .ok (.invokevirtual 233, 3) := dk_182 0 233 (dk_at dksX0_count_8 14 rfl rfl)
theorem dX0_count_225 : decode cX0_count 225 = .ok (.ireturn, 1) := dk_172 (dk_at dksX0_count_8 17 rfl rfl)
theorem dX0_count_226 : decode cX0_count 226 = .ok (.aload_n 0, 1) := dk_42 (dk_at dksX0_count_8 18 rfl rfl)
theorem dX0_count_227 : decode cX0_count 227 = .ok (.getfield 142, 3) := dk_180 0 142 (dk_at dksX0_count_8 19 rfl rfl)
theorem dX0_count_230 : decode cX0_count 230 = .ok (.getfield 401, 3) := dk_180 1 145 (dk_at dksX0_count_9 0 rfl rfl)
theorem dX0_count_233 : decode cX0_count 233 = .ok (.ireturn, 1) := dk_172 (dk_at dksX0_count_9 3 rfl rfl)
theorem dX0_count_234 : decode cX0_count 234 = .ok (.aload_n 0, 1) := dk_42 (dk_at dksX0_count_9 4 rfl rfl)
theorem dX0_count_235 : decode cX0_count 235 = .ok (.getfield 142, 3) := dk_180 0 142 (dk_at dksX0_count_9 5 rfl rfl)
theorem dX0_count_238 : decode cX0_count 238 = .ok (.getfield 264, 3) := dk_180 1 8 (dk_at dksX0_count_9 8 rfl rfl)
theorem dX0_count_241 : decode cX0_count 241 = .ok (.ireturn, 1) := dk_172 (dk_at dksX0_count_9 11 rfl rfl)
abbrev cX0_image : ByteArray := prog_1_method_75_code
def yX0_image : MethodName := ⟨RX0, "image", "(I)I"⟩
def dkwX0_image_4 : List UInt8 := [172]
abbrev dktX0_image_4 : List UInt8 := dkwX0_image_4 ++ []
def dkwX0_image_3 : List UInt8 := [199, 0, 5, 3, 172, 44, 180, 1, 202, 42, 180, 0, 142, 182, 0, 138, 87, 42, 180, 0, 142, 180, 1, 43]
abbrev dktX0_image_3 : List UInt8 := dkwX0_image_3 ++ dktX0_image_4
def dkwX0_image_2 : List UInt8 := [198, 0, 7, 4, 167, 0, 4, 3, 181, 1, 198, 44, 42, 180, 1, 162, 181, 1, 201, 42, 180, 0, 142]
abbrev dktX0_image_2 : List UInt8 := dkwX0_image_2 ++ dktX0_image_3
def dkwX0_image_1 : List UInt8 := [180, 0, 112, 27, 187, 0, 110, 89, 183, 1, 197, 83, 42, 180, 0, 112, 27, 50, 77, 44, 42, 180, 0, 142]
abbrev dktX0_image_1 : List UInt8 := dkwX0_image_1 ++ dktX0_image_2
def dkwX0_image_0 : List UInt8 := [27, 133, 9, 20, 1, 195, 184, 1, 68, 154, 0, 5, 2, 172, 42, 180, 0, 112, 27, 50, 199, 0, 16, 42]
abbrev dktX0_image_0 : List UInt8 := dkwX0_image_0 ++ dktX0_image_1
theorem dksX0_image_0 : cX0_image.data.toList.drop 0 = dktX0_image_0 := by decide +kernel
theorem dksX0_image_1 : cX0_image.data.toList.drop 24 = dktX0_image_1 := dk_seg dksX0_image_0 24 rfl rfl
theorem dksX0_image_2 : cX0_image.data.toList.drop 48 = dktX0_image_2 := dk_seg dksX0_image_1 24 rfl rfl
theorem dksX0_image_3 : cX0_image.data.toList.drop 71 = dktX0_image_3 := dk_seg dksX0_image_2 23 rfl rfl
theorem dksX0_image_4 : cX0_image.data.toList.drop 95 = dktX0_image_4 := dk_seg dksX0_image_3 24 rfl rfl
theorem dX0_image_0 : decode cX0_image 0 = .ok (.iload_n 1, 1) := dk_27 (dk_at dksX0_image_0 0 rfl rfl)
theorem dX0_image_1 : decode cX0_image 1 = .ok (.i2l, 1) := dk_133 (dk_at dksX0_image_0 1 rfl rfl)
theorem dX0_image_2 : decode cX0_image 2 = .ok (.lconst 0, 1) := dk_9 (dk_at dksX0_image_0 2 rfl rfl)
theorem dX0_image_3 : decode cX0_image 3 = .ok (.ldc2_w 451, 3) := dk_20 1 195 (dk_at dksX0_image_0 3 rfl rfl)
theorem dX0_image_6 : decode cX0_image 6 = .ok (.invokestatic 324, 3) := dk_184 1 68 (dk_at dksX0_image_0 6 rfl rfl)
theorem dX0_image_9 : decode cX0_image 9 = .ok (.ifCond .ne 5, 3) := dk_154 0 5 (dk_at dksX0_image_0 9 rfl rfl)
theorem dX0_image_12 : decode cX0_image 12 = .ok (.iconst (-1), 1) := dk_2 (dk_at dksX0_image_0 12 rfl rfl)
theorem dX0_image_13 : decode cX0_image 13 = .ok (.ireturn, 1) := dk_172 (dk_at dksX0_image_0 13 rfl rfl)
theorem dX0_image_14 : decode cX0_image 14 = .ok (.aload_n 0, 1) := dk_42 (dk_at dksX0_image_0 14 rfl rfl)
theorem dX0_image_15 : decode cX0_image 15 = .ok (.getfield 112, 3) := dk_180 0 112 (dk_at dksX0_image_0 15 rfl rfl)
theorem dX0_image_18 : decode cX0_image 18 = .ok (.iload_n 1, 1) := dk_27 (dk_at dksX0_image_0 18 rfl rfl)
theorem dX0_image_19 : decode cX0_image 19 = .ok (.aaload, 1) := dk_50 (dk_at dksX0_image_0 19 rfl rfl)
theorem dX0_image_20 : decode cX0_image 20 = .ok (.ifnonnull 16, 3) := dk_199 0 16 (dk_at dksX0_image_0 20 rfl rfl)
theorem dX0_image_23 : decode cX0_image 23 = .ok (.aload_n 0, 1) := dk_42 (dk_at dksX0_image_0 23 rfl rfl)
theorem dX0_image_24 : decode cX0_image 24 = .ok (.getfield 112, 3) := dk_180 0 112 (dk_at dksX0_image_1 0 rfl rfl)
theorem dX0_image_27 : decode cX0_image 27 = .ok (.iload_n 1, 1) := dk_27 (dk_at dksX0_image_1 3 rfl rfl)
theorem dX0_image_28 : decode cX0_image 28 = .ok (.new 110, 3) := dk_187 0 110 (dk_at dksX0_image_1 4 rfl rfl)
theorem dX0_image_31 : decode cX0_image 31 = .ok (.dup, 1) := dk_89 (dk_at dksX0_image_1 7 rfl rfl)
theorem dX0_image_32 : decode cX0_image 32 = .ok (.invokespecial 453, 3) := dk_183 1 197 (dk_at dksX0_image_1 8 rfl rfl)
theorem dX0_image_35 : decode cX0_image 35 = .ok (.aastore, 1) := dk_83 (dk_at dksX0_image_1 11 rfl rfl)
theorem dX0_image_36 : decode cX0_image 36 = .ok (.aload_n 0, 1) := dk_42 (dk_at dksX0_image_1 12 rfl rfl)
theorem dX0_image_37 : decode cX0_image 37 = .ok (.getfield 112, 3) := dk_180 0 112 (dk_at dksX0_image_1 13 rfl rfl)
theorem dX0_image_40 : decode cX0_image 40 = .ok (.iload_n 1, 1) := dk_27 (dk_at dksX0_image_1 16 rfl rfl)
theorem dX0_image_41 : decode cX0_image 41 = .ok (.aaload, 1) := dk_50 (dk_at dksX0_image_1 17 rfl rfl)
theorem dX0_image_42 : decode cX0_image 42 = .ok (.astore_n 2, 1) := dk_77 (dk_at dksX0_image_1 18 rfl rfl)
theorem dX0_image_43 : decode cX0_image 43 = .ok (.aload_n 2, 1) := dk_44 (dk_at dksX0_image_1 19 rfl rfl)
theorem dX0_image_44 : decode cX0_image 44 = .ok (.aload_n 0, 1) := dk_42 (dk_at dksX0_image_1 20 rfl rfl)
theorem dX0_image_45 : decode cX0_image 45 = .ok (.getfield 142, 3) := dk_180 0 142 (dk_at dksX0_image_1 21 rfl rfl)
theorem dX0_image_48 : decode cX0_image 48 = .ok (.ifnull 7, 3) := dk_198 0 7 (dk_at dksX0_image_2 0 rfl rfl)
theorem dX0_image_51 : decode cX0_image 51 = .ok (.iconst 1, 1) := dk_4 (dk_at dksX0_image_2 3 rfl rfl)
theorem dX0_image_52 : decode cX0_image 52 = .ok (.goto 4, 3) := dk_167 0 4 (dk_at dksX0_image_2 4 rfl rfl)
theorem dX0_image_55 : decode cX0_image 55 = .ok (.iconst 0, 1) := dk_3 (dk_at dksX0_image_2 7 rfl rfl)
theorem dX0_image_56 : decode cX0_image 56 = .ok (.putfield 454, 3) := dk_181 1 198 (dk_at dksX0_image_2 8 rfl rfl)
theorem dX0_image_59 : decode cX0_image 59 = .ok (.aload_n 2, 1) := dk_44 (dk_at dksX0_image_2 11 rfl rfl)
theorem dX0_image_60 : decode cX0_image 60 = .ok (.aload_n 0, 1) := dk_42 (dk_at dksX0_image_2 12 rfl rfl)
theorem dX0_image_61 : decode cX0_image 61 = .ok (.getfield 418, 3) := dk_180 1 162 (dk_at dksX0_image_2 13 rfl rfl)
theorem dX0_image_64 : decode cX0_image 64 = .ok (.putfield 457, 3) := dk_181 1 201 (dk_at dksX0_image_2 16 rfl rfl)
theorem dX0_image_67 : decode cX0_image 67 = .ok (.aload_n 0, 1) := dk_42 (dk_at dksX0_image_2 19 rfl rfl)
theorem dX0_image_68 : decode cX0_image 68 = .ok (.getfield 142, 3) := dk_180 0 142 (dk_at dksX0_image_2 20 rfl rfl)
theorem dX0_image_71 : decode cX0_image 71 = .ok (.ifnonnull 5, 3) := dk_199 0 5 (dk_at dksX0_image_3 0 rfl rfl)
theorem dX0_image_74 : decode cX0_image 74 = .ok (.iconst 0, 1) := dk_3 (dk_at dksX0_image_3 3 rfl rfl)
theorem dX0_image_75 : decode cX0_image 75 = .ok (.ireturn, 1) := dk_172 (dk_at dksX0_image_3 4 rfl rfl)
theorem dX0_image_76 : decode cX0_image 76 = .ok (.aload_n 2, 1) := dk_44 (dk_at dksX0_image_3 5 rfl rfl)
theorem dX0_image_77 : decode cX0_image 77 = .ok (.getfield 458, 3) := dk_180 1 202 (dk_at dksX0_image_3 6 rfl rfl)
theorem dX0_image_80 : decode cX0_image 80 = .ok (.aload_n 0, 1) := dk_42 (dk_at dksX0_image_3 9 rfl rfl)
theorem dX0_image_81 : decode cX0_image 81 = .ok (.getfield 142, 3) := dk_180 0 142 (dk_at dksX0_image_3 10 rfl rfl)
theorem dX0_image_84 : decode cX0_image 84 = .ok (.invokevirtual 138, 3) := dk_182 0 138 (dk_at dksX0_image_3 13 rfl rfl)
theorem dX0_image_87 : decode cX0_image 87 = .ok (.pop, 1) := dk_87 (dk_at dksX0_image_3 16 rfl rfl)
theorem dX0_image_88 : decode cX0_image 88 = .ok (.aload_n 0, 1) := dk_42 (dk_at dksX0_image_3 17 rfl rfl)
theorem dX0_image_89 : decode cX0_image 89 = .ok (.getfield 142, 3) := dk_180 0 142 (dk_at dksX0_image_3 18 rfl rfl)
theorem dX0_image_92 : decode cX0_image 92 = .ok (.getfield 299, 3) := dk_180 1 43 (dk_at dksX0_image_3 21 rfl rfl)
theorem dX0_image_95 : decode cX0_image 95 = .ok (.ireturn, 1) := dk_172 (dk_at dksX0_image_4 0 rfl rfl)
abbrev cX0_back : ByteArray := prog_1_method_76_code
def yX0_back : MethodName := ⟨RX0, "back", "(I)I"⟩
def dkwX0_back_3 : List UInt8 := [181, 1, 162, 42, 180, 0, 142, 199, 0, 7, 3, 167, 0, 10, 42, 180, 0, 142, 180, 1, 43, 172]
abbrev dktX0_back_3 : List UInt8 := dkwX0_back_3 ++ []
def dkwX0_back_2 : List UInt8 := [180, 1, 202, 182, 0, 138, 167, 0, 4, 1, 181, 0, 142, 42, 42, 180, 0, 112, 27, 50, 180, 1, 201]
abbrev dktX0_back_2 : List UInt8 := dkwX0_back_2 ++ dktX0_back_3
def dkwX0_back_1 : List UInt8 := [42, 180, 0, 112, 27, 50, 180, 1, 198, 153, 0, 22, 42, 180, 0, 16, 42, 180, 0, 112, 27, 50]
abbrev dktX0_back_1 : List UInt8 := dkwX0_back_1 ++ dktX0_back_2
def dkwX0_back_0 : List UInt8 := [27, 133, 9, 20, 1, 195, 184, 1, 68, 153, 0, 12, 42, 180, 0, 112, 27, 50, 199, 0, 5, 2, 172, 42]
abbrev dktX0_back_0 : List UInt8 := dkwX0_back_0 ++ dktX0_back_1
theorem dksX0_back_0 : cX0_back.data.toList.drop 0 = dktX0_back_0 := by decide +kernel
theorem dksX0_back_1 : cX0_back.data.toList.drop 24 = dktX0_back_1 := dk_seg dksX0_back_0 24 rfl rfl
theorem dksX0_back_2 : cX0_back.data.toList.drop 46 = dktX0_back_2 := dk_seg dksX0_back_1 22 rfl rfl
theorem dksX0_back_3 : cX0_back.data.toList.drop 69 = dktX0_back_3 := dk_seg dksX0_back_2 23 rfl rfl
theorem dX0_back_0 : decode cX0_back 0 = .ok (.iload_n 1, 1) := dk_27 (dk_at dksX0_back_0 0 rfl rfl)
theorem dX0_back_1 : decode cX0_back 1 = .ok (.i2l, 1) := dk_133 (dk_at dksX0_back_0 1 rfl rfl)
theorem dX0_back_2 : decode cX0_back 2 = .ok (.lconst 0, 1) := dk_9 (dk_at dksX0_back_0 2 rfl rfl)
theorem dX0_back_3 : decode cX0_back 3 = .ok (.ldc2_w 451, 3) := dk_20 1 195 (dk_at dksX0_back_0 3 rfl rfl)
theorem dX0_back_6 : decode cX0_back 6 = .ok (.invokestatic 324, 3) := dk_184 1 68 (dk_at dksX0_back_0 6 rfl rfl)
theorem dX0_back_9 : decode cX0_back 9 = .ok (.ifCond .eq 12, 3) := dk_153 0 12 (dk_at dksX0_back_0 9 rfl rfl)
theorem dX0_back_12 : decode cX0_back 12 = .ok (.aload_n 0, 1) := dk_42 (dk_at dksX0_back_0 12 rfl rfl)
theorem dX0_back_13 : decode cX0_back 13 = .ok (.getfield 112, 3) := dk_180 0 112 (dk_at dksX0_back_0 13 rfl rfl)
theorem dX0_back_16 : decode cX0_back 16 = .ok (.iload_n 1, 1) := dk_27 (dk_at dksX0_back_0 16 rfl rfl)
theorem dX0_back_17 : decode cX0_back 17 = .ok (.aaload, 1) := dk_50 (dk_at dksX0_back_0 17 rfl rfl)
theorem dX0_back_18 : decode cX0_back 18 = .ok (.ifnonnull 5, 3) := dk_199 0 5 (dk_at dksX0_back_0 18 rfl rfl)
theorem dX0_back_21 : decode cX0_back 21 = .ok (.iconst (-1), 1) := dk_2 (dk_at dksX0_back_0 21 rfl rfl)
theorem dX0_back_22 : decode cX0_back 22 = .ok (.ireturn, 1) := dk_172 (dk_at dksX0_back_0 22 rfl rfl)
theorem dX0_back_23 : decode cX0_back 23 = .ok (.aload_n 0, 1) := dk_42 (dk_at dksX0_back_0 23 rfl rfl)
theorem dX0_back_24 : decode cX0_back 24 = .ok (.aload_n 0, 1) := dk_42 (dk_at dksX0_back_1 0 rfl rfl)
theorem dX0_back_25 : decode cX0_back 25 = .ok (.getfield 112, 3) := dk_180 0 112 (dk_at dksX0_back_1 1 rfl rfl)
theorem dX0_back_28 : decode cX0_back 28 = .ok (.iload_n 1, 1) := dk_27 (dk_at dksX0_back_1 4 rfl rfl)
theorem dX0_back_29 : decode cX0_back 29 = .ok (.aaload, 1) := dk_50 (dk_at dksX0_back_1 5 rfl rfl)
theorem dX0_back_30 : decode cX0_back 30 = .ok (.getfield 454, 3) := dk_180 1 198 (dk_at dksX0_back_1 6 rfl rfl)
theorem dX0_back_33 : decode cX0_back 33 = .ok (.ifCond .eq 22, 3) := dk_153 0 22 (dk_at dksX0_back_1 9 rfl rfl)
theorem dX0_back_36 : decode cX0_back 36 = .ok (.aload_n 0, 1) := dk_42 (dk_at dksX0_back_1 12 rfl rfl)
theorem dX0_back_37 : decode cX0_back 37 = .ok (.getfield 16, 3) := dk_180 0 16 (dk_at dksX0_back_1 13 rfl rfl)
theorem dX0_back_40 : decode cX0_back 40 = .ok (.aload_n 0, 1) := dk_42 (dk_at dksX0_back_1 16 rfl rfl)
theorem dX0_back_41 : decode cX0_back 41 = .ok (.getfield 112, 3) := dk_180 0 112 (dk_at dksX0_back_1 17 rfl rfl)
theorem dX0_back_44 : decode cX0_back 44 = .ok (.iload_n 1, 1) := dk_27 (dk_at dksX0_back_1 20 rfl rfl)
theorem dX0_back_45 : decode cX0_back 45 = .ok (.aaload, 1) := dk_50 (dk_at dksX0_back_1 21 rfl rfl)
theorem dX0_back_46 : decode cX0_back 46 = .ok (.getfield 458, 3) := dk_180 1 202 (dk_at dksX0_back_2 0 rfl rfl)
theorem dX0_back_49 : decode cX0_back 49 = .ok (.invokevirtual 138, 3) := dk_182 0 138 (dk_at dksX0_back_2 3 rfl rfl)
theorem dX0_back_52 : decode cX0_back 52 = .ok (.goto 4, 3) := dk_167 0 4 (dk_at dksX0_back_2 6 rfl rfl)
theorem dX0_back_55 : decode cX0_back 55 = .ok (.aconst_null, 1) := dk_1 (dk_at dksX0_back_2 9 rfl rfl)
theorem dX0_back_56 : decode cX0_back 56 = .ok (.putfield 142, 3) := dk_181 0 142 (dk_at dksX0_back_2 10 rfl rfl)
theorem dX0_back_59 : decode cX0_back 59 = .ok (.aload_n 0, 1) := dk_42 (dk_at dksX0_back_2 13 rfl rfl)
theorem dX0_back_60 : decode cX0_back 60 = .ok (.aload_n 0, 1) := dk_42 (dk_at dksX0_back_2 14 rfl rfl)
theorem dX0_back_61 : decode cX0_back 61 = .ok (.getfield 112, 3) := dk_180 0 112 (dk_at dksX0_back_2 15 rfl rfl)
theorem dX0_back_64 : decode cX0_back 64 = .ok (.iload_n 1, 1) := dk_27 (dk_at dksX0_back_2 18 rfl rfl)
theorem dX0_back_65 : decode cX0_back 65 = .ok (.aaload, 1) := dk_50 (dk_at dksX0_back_2 19 rfl rfl)
theorem dX0_back_66 : decode cX0_back 66 = .ok (.getfield 457, 3) := dk_180 1 201 (dk_at dksX0_back_2 20 rfl rfl)
theorem dX0_back_69 : decode cX0_back 69 = .ok (.putfield 418, 3) := dk_181 1 162 (dk_at dksX0_back_3 0 rfl rfl)
theorem dX0_back_72 : decode cX0_back 72 = .ok (.aload_n 0, 1) := dk_42 (dk_at dksX0_back_3 3 rfl rfl)
theorem dX0_back_73 : decode cX0_back 73 = .ok (.getfield 142, 3) := dk_180 0 142 (dk_at dksX0_back_3 4 rfl rfl)
theorem dX0_back_76 : decode cX0_back 76 = .ok (.ifnonnull 7, 3) := dk_199 0 7 (dk_at dksX0_back_3 7 rfl rfl)
theorem dX0_back_79 : decode cX0_back 79 = .ok (.iconst 0, 1) := dk_3 (dk_at dksX0_back_3 10 rfl rfl)
theorem dX0_back_80 : decode cX0_back 80 = .ok (.goto 10, 3) := dk_167 0 10 (dk_at dksX0_back_3 11 rfl rfl)
theorem dX0_back_83 : decode cX0_back 83 = .ok (.aload_n 0, 1) := dk_42 (dk_at dksX0_back_3 14 rfl rfl)
theorem dX0_back_84 : decode cX0_back 84 = .ok (.getfield 142, 3) := dk_180 0 142 (dk_at dksX0_back_3 15 rfl rfl)
theorem dX0_back_87 : decode cX0_back 87 = .ok (.getfield 299, 3) := dk_180 1 43 (dk_at dksX0_back_3 18 rfl rfl)
theorem dX0_back_90 : decode cX0_back 90 = .ok (.ireturn, 1) := dk_172 (dk_at dksX0_back_3 21 rfl rfl)
theorem q156 : (Jvm.Cond.initialized "TruthBridge") ∈ lw_all := lw_g (lw_at lw_m1 1 rfl) rfl
theorem q188 : (Jvm.Cond.instantiable "TruthBridge" (30 : Nat)) ∈ lw_all := lw_g (lw_at lw_m1 33 rfl) rfl
theorem q190 : (Jvm.Cond.instanceMethod ({ cls := "TruthBridge", name := "<init>", desc := "()V" } : Jvm.MethodName)) ∈ lw_all := lw_g (lw_at lw_m1 35 rfl) rfl
theorem q191 : (Jvm.Cond.code ({ cls := "TruthBridge", name := "<init>", desc := "()V" } : Jvm.MethodName) prog_1_method_3_code (1 : Nat) (Option.none : Option Jvm.ClassFile.FieldType)) ∈ lw_all := lw_g (lw_at lw_m1 36 rfl) rfl
theorem q192 : (Jvm.Cond.methodLink "TruthBridge" (3 : Nat) ({ cls := "java/lang/Object", name := "<init>", desc := "()V" } : Jvm.MethodName)) ∈ lw_all := lw_g (lw_at lw_m1 37 rfl) rfl
theorem q195 : (Jvm.Cond.classLink "TruthBridge" (13 : Nat) "TruthBridge$Gorge") ∈ lw_all := lw_g (lw_at lw_m1 40 rfl) rfl
theorem q197 : (Jvm.Cond.methodLinkNest "TruthBridge" (15 : Nat) ({ cls := "TruthBridge$Gorge", name := "<init>", desc := "()V" } : Jvm.MethodName) "TruthBridge") ∈ lw_tbl := lw_at lw_m1 42 rfl
theorem q203 : (Jvm.Cond.fieldLinkNest "TruthBridge" (237 : Nat) "TruthBridge$Gorge" "factMany" "I" "TruthBridge") ∈ lw_tbl := lw_at lw_m1 48 rfl
theorem q206 : (Jvm.Cond.fieldLinkNest "TruthBridge" (199 : Nat) "TruthBridge$Gorge" "so" "I" "TruthBridge") ∈ lw_tbl := lw_at lw_m1 51 rfl
theorem q208 : (Jvm.Cond.fieldLinkNest "TruthBridge" (145 : Nat) "TruthBridge$Gorge" "personMany" "I" "TruthBridge") ∈ lw_tbl := lw_at lw_m1 53 rfl
theorem q212 : (Jvm.Cond.fieldLinkNest "TruthBridge" (179 : Nat) "TruthBridge$Gorge" "placeMany" "I" "TruthBridge") ∈ lw_tbl := lw_at lw_m1 57 rfl
theorem q215 : (Jvm.Cond.fieldLinkNest "TruthBridge" (448 : Nat) "TruthBridge$Gorge" "pathMany" "I" "TruthBridge") ∈ lw_tbl := lw_at lw_m1 60 rfl
theorem q218 : (Jvm.Cond.fieldLinkNest "TruthBridge" (353 : Nat) "TruthBridge$Gorge" "turnMany" "I" "TruthBridge") ∈ lw_tbl := lw_at lw_m1 63 rfl
theorem q220 : (Jvm.Cond.fieldLinkNest "TruthBridge" (299 : Nat) "TruthBridge$Gorge" "day" "I" "TruthBridge") ∈ lw_tbl := lw_at lw_m1 65 rfl
theorem q222 : (Jvm.Cond.fieldLinkNest "TruthBridge" (264 : Nat) "TruthBridge$Gorge" "undoMany" "I" "TruthBridge") ∈ lw_tbl := lw_at lw_m1 67 rfl
theorem q224 : (Jvm.Cond.fieldLinkNest "TruthBridge" (401 : Nat) "TruthBridge$Gorge" "trialMany" "I" "TruthBridge") ∈ lw_tbl := lw_at lw_m1 69 rfl
theorem q227 : (Jvm.Cond.fieldLinkNest "TruthBridge" (225 : Nat) "TruthBridge$Gorge" "side" "[I" "TruthBridge") ∈ lw_tbl := lw_at lw_m1 72 rfl
theorem q230 : (Jvm.Cond.fieldLinkNest "TruthBridge" (210 : Nat) "TruthBridge$Gorge" "weight" "[I" "TruthBridge") ∈ lw_tbl := lw_at lw_m1 75 rfl
theorem q233 : (Jvm.Cond.fieldLinkNest "TruthBridge" (227 : Nat) "TruthBridge$Gorge" "coins" "[I" "TruthBridge") ∈ lw_tbl := lw_at lw_m1 78 rfl
theorem q235 : (Jvm.Cond.fieldLinkNest "TruthBridge" (230 : Nat) "TruthBridge$Gorge" "hours" "[I" "TruthBridge") ∈ lw_tbl := lw_at lw_m1 80 rfl
theorem q237 : (Jvm.Cond.fieldLinkNest "TruthBridge" (196 : Nat) "TruthBridge$Gorge" "fell" "[I" "TruthBridge") ∈ lw_tbl := lw_at lw_m1 82 rfl
theorem q240 : (Jvm.Cond.fieldLinkNest "TruthBridge" (249 : Nat) "TruthBridge$Gorge" "seen" "[I" "TruthBridge") ∈ lw_tbl := lw_at lw_m1 85 rfl
theorem q243 : (Jvm.Cond.fieldLinkNest "TruthBridge" (252 : Nat) "TruthBridge$Gorge" "far" "[I" "TruthBridge") ∈ lw_tbl := lw_at lw_m1 88 rfl
theorem q246 : (Jvm.Cond.fieldLinkNest "TruthBridge" (359 : Nat) "TruthBridge$Gorge" "turnFact" "[I" "TruthBridge") ∈ lw_tbl := lw_at lw_m1 91 rfl
theorem q249 : (Jvm.Cond.fieldLinkNest "TruthBridge" (356 : Nat) "TruthBridge$Gorge" "turnDay" "[I" "TruthBridge") ∈ lw_tbl := lw_at lw_m1 94 rfl
theorem q251 : (Jvm.Cond.fieldLinkNest "TruthBridge" (404 : Nat) "TruthBridge$Gorge" "trialOf" "[I" "TruthBridge") ∈ lw_tbl := lw_at lw_m1 96 rfl
theorem q253 : (Jvm.Cond.fieldLinkNest "TruthBridge" (185 : Nat) "TruthBridge$Gorge" "held" "[J" "TruthBridge") ∈ lw_tbl := lw_at lw_m1 98 rfl
theorem q255 : (Jvm.Cond.fieldLinkNest "TruthBridge" (276 : Nat) "TruthBridge$Gorge" "undoHeld" "[J" "TruthBridge") ∈ lw_tbl := lw_at lw_m1 100 rfl
theorem q257 : (Jvm.Cond.fieldLinkNest "TruthBridge" (267 : Nat) "TruthBridge$Gorge" "undo" "[I" "TruthBridge") ∈ lw_tbl := lw_at lw_m1 102 rfl
theorem q305 : (Jvm.Cond.classLink "TruthBridge" (29 : Nat) "TruthBridge$Fault") ∈ lw_all := lw_g (lw_at lw_m1 150 rfl) rfl
theorem q344 : (Jvm.Cond.methodLink "TruthBridge" (31 : Nat) ({ cls := "TruthBridge$Fault", name := "<init>", desc := "()V" } : Jvm.MethodName)) ∈ lw_all := lw_g (lw_at lw_m1 189 rfl) rfl
theorem q358 : (Jvm.Cond.fieldLinkNest "TruthBridge" (126 : Nat) "TruthBridge$Fault" "kind" "I" "TruthBridge") ∈ lw_tbl := lw_at lw_m1 203 rfl
theorem q360 : (Jvm.Cond.fieldLinkNest "TruthBridge" (124 : Nat) "TruthBridge$Fault" "place" "I" "TruthBridge") ∈ lw_tbl := lw_at lw_m1 205 rfl
theorem q379 : (Jvm.Cond.classLink "TruthBridge" (40 : Nat) "java/lang/String") ∈ lw_all := lw_g (lw_at lw_m1 224 rfl) rfl
theorem q381 : (Jvm.Cond.stringRef "TruthBridge" (42 : Nat) "facts") ∈ lw_tbl := lw_at lw_m1 226 rfl
theorem q382 : (Jvm.Cond.stringRef "TruthBridge" (44 : Nat) "person") ∈ lw_tbl := lw_at lw_m1 227 rfl
theorem q383 : (Jvm.Cond.stringRef "TruthBridge" (46 : Nat) "place") ∈ lw_tbl := lw_at lw_m1 228 rfl
theorem q384 : (Jvm.Cond.stringRef "TruthBridge" (48 : Nat) "path") ∈ lw_tbl := lw_at lw_m1 229 rfl
theorem q385 : (Jvm.Cond.stringRef "TruthBridge" (50 : Nat) "turn") ∈ lw_tbl := lw_at lw_m1 230 rfl
theorem q386 : (Jvm.Cond.stringRef "TruthBridge" (56 : Nat) "say") ∈ lw_tbl := lw_at lw_m1 231 rfl
theorem q387 : (Jvm.Cond.stringRef "TruthBridge" (61 : Nat) "side") ∈ lw_tbl := lw_at lw_m1 232 rfl
theorem q388 : (Jvm.Cond.stringRef "TruthBridge" (63 : Nat) "weight") ∈ lw_tbl := lw_at lw_m1 233 rfl
theorem q389 : (Jvm.Cond.stringRef "TruthBridge" (65 : Nat) "saying") ∈ lw_tbl := lw_at lw_m1 234 rfl
theorem q390 : (Jvm.Cond.stringRef "TruthBridge" (67 : Nat) "knows") ∈ lw_tbl := lw_at lw_m1 235 rfl
theorem q391 : (Jvm.Cond.stringRef "TruthBridge" (69 : Nat) "gain") ∈ lw_tbl := lw_at lw_m1 236 rfl
theorem q392 : (Jvm.Cond.stringRef "TruthBridge" (71 : Nat) "left") ∈ lw_tbl := lw_at lw_m1 237 rfl
theorem q393 : (Jvm.Cond.stringRef "TruthBridge" (73 : Nat) "here") ∈ lw_tbl := lw_at lw_m1 238 rfl
theorem q394 : (Jvm.Cond.stringRef "TruthBridge" (75 : Nat) "day") ∈ lw_tbl := lw_at lw_m1 239 rfl
theorem q395 : (Jvm.Cond.stringRef "TruthBridge" (77 : Nat) "price") ∈ lw_tbl := lw_at lw_m2 0 rfl
theorem q396 : (Jvm.Cond.classLink "TruthBridge" (82 : Nat) "TruthBridge$Rule") ∈ lw_all := lw_g (lw_at lw_m2 1 rfl) rfl
theorem q398 : (Jvm.Cond.classLink "TruthBridge" (110 : Nat) "TruthBridge$Image") ∈ lw_all := lw_g (lw_at lw_m2 3 rfl) rfl
theorem q400 : (Jvm.Cond.fieldLink "TruthBridge" (9 : Nat) "TruthBridge" "table" "[J") ∈ lw_all := lw_g (lw_at lw_m2 5 rfl) rfl
theorem q401 : (Jvm.Cond.fieldLink "TruthBridge" (158 : Nat) "TruthBridge" "sayingMany" "I") ∈ lw_all := lw_g (lw_at lw_m2 6 rfl) rfl
theorem q402 : (Jvm.Cond.fieldLink "TruthBridge" (142 : Nat) "TruthBridge" "land" "LTruthBridge$Gorge;") ∈ lw_all := lw_g (lw_at lw_m2 7 rfl) rfl
theorem q403 : (Jvm.Cond.fieldLink "TruthBridge" (16 : Nat) "TruthBridge" "own" "LTruthBridge$Gorge;") ∈ lw_all := lw_g (lw_at lw_m2 8 rfl) rfl
theorem q404 : (Jvm.Cond.fieldLink "TruthBridge" (20 : Nat) "TruthBridge" "spare" "LTruthBridge$Gorge;") ∈ lw_all := lw_g (lw_at lw_m2 9 rfl) rfl
theorem q406 : (Jvm.Cond.fieldLink "TruthBridge" (23 : Nat) "TruthBridge" "reading" "LTruthBridge$Gorge;") ∈ lw_all := lw_g (lw_at lw_m2 11 rfl) rfl
theorem q407 : (Jvm.Cond.fieldLink "TruthBridge" (26 : Nat) "TruthBridge" "blank" "LTruthBridge$Gorge;") ∈ lw_all := lw_g (lw_at lw_m2 12 rfl) rfl
theorem q409 : (Jvm.Cond.fieldLink "TruthBridge" (418 : Nat) "TruthBridge" "x" "I") ∈ lw_all := lw_g (lw_at lw_m2 14 rfl) rfl
theorem q411 : (Jvm.Cond.fieldLink "TruthBridge" (32 : Nat) "TruthBridge" "fault" "LTruthBridge$Fault;") ∈ lw_all := lw_g (lw_at lw_m2 16 rfl) rfl
theorem q413 : (Jvm.Cond.fieldLink "TruthBridge" (36 : Nat) "TruthBridge" "tape" "[B") ∈ lw_all := lw_g (lw_at lw_m2 18 rfl) rfl
theorem q415 : (Jvm.Cond.fieldLink "TruthBridge" (116 : Nat) "TruthBridge" "taped" "I") ∈ lw_all := lw_g (lw_at lw_m2 20 rfl) rfl
theorem q416 : (Jvm.Cond.fieldLink "TruthBridge" (52 : Nat) "TruthBridge" "lineWords" "[Ljava/lang/String;") ∈ lw_all := lw_g (lw_at lw_m2 21 rfl) rfl
theorem q418 : (Jvm.Cond.fieldLink "TruthBridge" (58 : Nat) "TruthBridge" "clauseWords" "[Ljava/lang/String;") ∈ lw_all := lw_g (lw_at lw_m2 23 rfl) rfl
theorem q421 : (Jvm.Cond.fieldLink "TruthBridge" (79 : Nat) "TruthBridge" "wordNames" "[Ljava/lang/String;") ∈ lw_all := lw_g (lw_at lw_m2 26 rfl) rfl
theorem q422 : (Jvm.Cond.fieldLink "TruthBridge" (84 : Nat) "TruthBridge" "rules" "[LTruthBridge$Rule;") ∈ lw_all := lw_g (lw_at lw_m2 27 rfl) rfl
theorem q423 : (Jvm.Cond.fieldLink "TruthBridge" (169 : Nat) "TruthBridge" "ruleMany" "I") ∈ lw_all := lw_g (lw_at lw_m2 28 rfl) rfl
theorem q424 : (Jvm.Cond.fieldLink "TruthBridge" (88 : Nat) "TruthBridge" "words" "[J") ∈ lw_all := lw_g (lw_at lw_m2 29 rfl) rfl
theorem q425 : (Jvm.Cond.fieldLink "TruthBridge" (91 : Nat) "TruthBridge" "goer" "[I") ∈ lw_all := lw_g (lw_at lw_m2 30 rfl) rfl
theorem q426 : (Jvm.Cond.fieldLink "TruthBridge" (372 : Nat) "TruthBridge" "goerMany" "I") ∈ lw_all := lw_g (lw_at lw_m2 31 rfl) rfl
theorem q427 : (Jvm.Cond.fieldLink "TruthBridge" (95 : Nat) "TruthBridge" "step" "[I") ∈ lw_all := lw_g (lw_at lw_m2 32 rfl) rfl
theorem q428 : (Jvm.Cond.fieldLink "TruthBridge" (98 : Nat) "TruthBridge" "bestStep" "[I") ∈ lw_all := lw_g (lw_at lw_m2 33 rfl) rfl
theorem q429 : (Jvm.Cond.fieldLink "TruthBridge" (101 : Nat) "TruthBridge" "heldAhead" "[J") ∈ lw_all := lw_g (lw_at lw_m2 34 rfl) rfl
theorem q430 : (Jvm.Cond.fieldLink "TruthBridge" (369 : Nat) "TruthBridge" "mostOver" "I") ∈ lw_all := lw_g (lw_at lw_m2 35 rfl) rfl
theorem q431 : (Jvm.Cond.fieldLink "TruthBridge" (104 : Nat) "TruthBridge" "hoursTo" "[I") ∈ lw_all := lw_g (lw_at lw_m2 36 rfl) rfl
theorem q432 : (Jvm.Cond.fieldLink "TruthBridge" (107 : Nat) "TruthBridge" "fit" "[I") ∈ lw_all := lw_g (lw_at lw_m2 37 rfl) rfl
theorem q433 : (Jvm.Cond.fieldLink "TruthBridge" (407 : Nat) "TruthBridge" "fitMany" "I") ∈ lw_all := lw_g (lw_at lw_m2 38 rfl) rfl
theorem q434 : (Jvm.Cond.fieldLink "TruthBridge" (421 : Nat) "TruthBridge" "drawX" "I") ∈ lw_all := lw_g (lw_at lw_m2 39 rfl) rfl
theorem q435 : (Jvm.Cond.fieldLink "TruthBridge" (434 : Nat) "TruthBridge" "overs" "I") ∈ lw_all := lw_g (lw_at lw_m2 40 rfl) rfl
theorem q436 : (Jvm.Cond.fieldLink "TruthBridge" (437 : Nat) "TruthBridge" "falls" "I") ∈ lw_all := lw_g (lw_at lw_m2 41 rfl) rfl
theorem q437 : (Jvm.Cond.fieldLink "TruthBridge" (112 : Nat) "TruthBridge" "images" "[LTruthBridge$Image;") ∈ lw_all := lw_g (lw_at lw_m2 42 rfl) rfl
theorem q438 : (Jvm.Cond.laysFinal "TruthBridge" "TruthBridge" "table" "[J") ∈ lw_all := lw_g (lw_at lw_m2 43 rfl) rfl
theorem q439 : (Jvm.Cond.soleField "TruthBridge" "table") ∈ lw_all := lw_g (lw_at lw_m2 44 rfl) rfl
theorem q440 : (Jvm.Cond.lays "TruthBridge" "TruthBridge" "sayingMany" "I") ∈ lw_all := lw_g (lw_at lw_m2 45 rfl) rfl
theorem q441 : (Jvm.Cond.soleField "TruthBridge" "sayingMany") ∈ lw_all := lw_g (lw_at lw_m2 46 rfl) rfl
theorem q442 : (Jvm.Cond.lays "TruthBridge" "TruthBridge" "land" "LTruthBridge$Gorge;") ∈ lw_all := lw_g (lw_at lw_m2 47 rfl) rfl
theorem q443 : (Jvm.Cond.soleField "TruthBridge" "land") ∈ lw_all := lw_g (lw_at lw_m2 48 rfl) rfl
theorem q444 : (Jvm.Cond.laysFinal "TruthBridge" "TruthBridge" "own" "LTruthBridge$Gorge;") ∈ lw_all := lw_g (lw_at lw_m2 49 rfl) rfl
theorem q445 : (Jvm.Cond.soleField "TruthBridge" "own") ∈ lw_all := lw_g (lw_at lw_m2 50 rfl) rfl
theorem q446 : (Jvm.Cond.laysFinal "TruthBridge" "TruthBridge" "spare" "LTruthBridge$Gorge;") ∈ lw_all := lw_g (lw_at lw_m2 51 rfl) rfl
theorem q447 : (Jvm.Cond.soleField "TruthBridge" "spare") ∈ lw_all := lw_g (lw_at lw_m2 52 rfl) rfl
theorem q448 : (Jvm.Cond.laysFinal "TruthBridge" "TruthBridge" "reading" "LTruthBridge$Gorge;") ∈ lw_all := lw_g (lw_at lw_m2 53 rfl) rfl
theorem q449 : (Jvm.Cond.soleField "TruthBridge" "reading") ∈ lw_all := lw_g (lw_at lw_m2 54 rfl) rfl
theorem q450 : (Jvm.Cond.laysFinal "TruthBridge" "TruthBridge" "blank" "LTruthBridge$Gorge;") ∈ lw_all := lw_g (lw_at lw_m2 55 rfl) rfl
theorem q451 : (Jvm.Cond.soleField "TruthBridge" "blank") ∈ lw_all := lw_g (lw_at lw_m2 56 rfl) rfl
theorem q452 : (Jvm.Cond.lays "TruthBridge" "TruthBridge" "x" "I") ∈ lw_all := lw_g (lw_at lw_m2 57 rfl) rfl
theorem q453 : (Jvm.Cond.soleField "TruthBridge" "x") ∈ lw_all := lw_g (lw_at lw_m2 58 rfl) rfl
theorem q454 : (Jvm.Cond.laysFinal "TruthBridge" "TruthBridge" "fault" "LTruthBridge$Fault;") ∈ lw_all := lw_g (lw_at lw_m2 59 rfl) rfl
theorem q455 : (Jvm.Cond.soleField "TruthBridge" "fault") ∈ lw_all := lw_g (lw_at lw_m2 60 rfl) rfl
theorem q456 : (Jvm.Cond.laysFinal "TruthBridge" "TruthBridge" "tape" "[B") ∈ lw_all := lw_g (lw_at lw_m2 61 rfl) rfl
theorem q457 : (Jvm.Cond.soleField "TruthBridge" "tape") ∈ lw_all := lw_g (lw_at lw_m2 62 rfl) rfl
theorem q458 : (Jvm.Cond.lays "TruthBridge" "TruthBridge" "taped" "I") ∈ lw_all := lw_g (lw_at lw_m2 63 rfl) rfl
theorem q459 : (Jvm.Cond.soleField "TruthBridge" "taped") ∈ lw_all := lw_g (lw_at lw_m2 64 rfl) rfl
theorem q460 : (Jvm.Cond.laysFinal "TruthBridge" "TruthBridge" "lineWords" "[Ljava/lang/String;") ∈ lw_all := lw_g (lw_at lw_m2 65 rfl) rfl
theorem q461 : (Jvm.Cond.soleField "TruthBridge" "lineWords") ∈ lw_all := lw_g (lw_at lw_m2 66 rfl) rfl
theorem q462 : (Jvm.Cond.laysFinal "TruthBridge" "TruthBridge" "clauseWords" "[Ljava/lang/String;") ∈ lw_all := lw_g (lw_at lw_m2 67 rfl) rfl
theorem q463 : (Jvm.Cond.soleField "TruthBridge" "clauseWords") ∈ lw_all := lw_g (lw_at lw_m2 68 rfl) rfl
theorem q464 : (Jvm.Cond.laysFinal "TruthBridge" "TruthBridge" "wordNames" "[Ljava/lang/String;") ∈ lw_all := lw_g (lw_at lw_m2 69 rfl) rfl
theorem q465 : (Jvm.Cond.soleField "TruthBridge" "wordNames") ∈ lw_all := lw_g (lw_at lw_m2 70 rfl) rfl
theorem q466 : (Jvm.Cond.laysFinal "TruthBridge" "TruthBridge" "rules" "[LTruthBridge$Rule;") ∈ lw_all := lw_g (lw_at lw_m2 71 rfl) rfl
theorem q467 : (Jvm.Cond.soleField "TruthBridge" "rules") ∈ lw_all := lw_g (lw_at lw_m2 72 rfl) rfl
theorem q468 : (Jvm.Cond.lays "TruthBridge" "TruthBridge" "ruleMany" "I") ∈ lw_all := lw_g (lw_at lw_m2 73 rfl) rfl
theorem q469 : (Jvm.Cond.soleField "TruthBridge" "ruleMany") ∈ lw_all := lw_g (lw_at lw_m2 74 rfl) rfl
theorem q470 : (Jvm.Cond.laysFinal "TruthBridge" "TruthBridge" "words" "[J") ∈ lw_all := lw_g (lw_at lw_m2 75 rfl) rfl
theorem q471 : (Jvm.Cond.soleField "TruthBridge" "words") ∈ lw_all := lw_g (lw_at lw_m2 76 rfl) rfl
theorem q472 : (Jvm.Cond.laysFinal "TruthBridge" "TruthBridge" "goer" "[I") ∈ lw_all := lw_g (lw_at lw_m2 77 rfl) rfl
theorem q473 : (Jvm.Cond.soleField "TruthBridge" "goer") ∈ lw_all := lw_g (lw_at lw_m2 78 rfl) rfl
theorem q474 : (Jvm.Cond.lays "TruthBridge" "TruthBridge" "goerMany" "I") ∈ lw_all := lw_g (lw_at lw_m2 79 rfl) rfl
theorem q475 : (Jvm.Cond.soleField "TruthBridge" "goerMany") ∈ lw_all := lw_g (lw_at lw_m2 80 rfl) rfl
theorem q476 : (Jvm.Cond.laysFinal "TruthBridge" "TruthBridge" "step" "[I") ∈ lw_all := lw_g (lw_at lw_m2 81 rfl) rfl
theorem q477 : (Jvm.Cond.soleField "TruthBridge" "step") ∈ lw_all := lw_g (lw_at lw_m2 82 rfl) rfl
theorem q478 : (Jvm.Cond.laysFinal "TruthBridge" "TruthBridge" "bestStep" "[I") ∈ lw_all := lw_g (lw_at lw_m2 83 rfl) rfl
theorem q479 : (Jvm.Cond.soleField "TruthBridge" "bestStep") ∈ lw_all := lw_g (lw_at lw_m2 84 rfl) rfl
theorem q480 : (Jvm.Cond.laysFinal "TruthBridge" "TruthBridge" "heldAhead" "[J") ∈ lw_all := lw_g (lw_at lw_m2 85 rfl) rfl
theorem q481 : (Jvm.Cond.soleField "TruthBridge" "heldAhead") ∈ lw_all := lw_g (lw_at lw_m2 86 rfl) rfl
theorem q482 : (Jvm.Cond.lays "TruthBridge" "TruthBridge" "mostOver" "I") ∈ lw_all := lw_g (lw_at lw_m2 87 rfl) rfl
theorem q483 : (Jvm.Cond.soleField "TruthBridge" "mostOver") ∈ lw_all := lw_g (lw_at lw_m2 88 rfl) rfl
theorem q484 : (Jvm.Cond.laysFinal "TruthBridge" "TruthBridge" "hoursTo" "[I") ∈ lw_all := lw_g (lw_at lw_m2 89 rfl) rfl
theorem q485 : (Jvm.Cond.soleField "TruthBridge" "hoursTo") ∈ lw_all := lw_g (lw_at lw_m2 90 rfl) rfl
theorem q486 : (Jvm.Cond.laysFinal "TruthBridge" "TruthBridge" "fit" "[I") ∈ lw_all := lw_g (lw_at lw_m2 91 rfl) rfl
theorem q487 : (Jvm.Cond.soleField "TruthBridge" "fit") ∈ lw_all := lw_g (lw_at lw_m2 92 rfl) rfl
theorem q488 : (Jvm.Cond.lays "TruthBridge" "TruthBridge" "fitMany" "I") ∈ lw_all := lw_g (lw_at lw_m2 93 rfl) rfl
theorem q489 : (Jvm.Cond.soleField "TruthBridge" "fitMany") ∈ lw_all := lw_g (lw_at lw_m2 94 rfl) rfl
theorem q490 : (Jvm.Cond.lays "TruthBridge" "TruthBridge" "drawX" "I") ∈ lw_all := lw_g (lw_at lw_m2 95 rfl) rfl
theorem q491 : (Jvm.Cond.soleField "TruthBridge" "drawX") ∈ lw_all := lw_g (lw_at lw_m2 96 rfl) rfl
theorem q492 : (Jvm.Cond.lays "TruthBridge" "TruthBridge" "overs" "I") ∈ lw_all := lw_g (lw_at lw_m2 97 rfl) rfl
theorem q493 : (Jvm.Cond.soleField "TruthBridge" "overs") ∈ lw_all := lw_g (lw_at lw_m2 98 rfl) rfl
theorem q494 : (Jvm.Cond.lays "TruthBridge" "TruthBridge" "falls" "I") ∈ lw_all := lw_g (lw_at lw_m2 99 rfl) rfl
theorem q495 : (Jvm.Cond.soleField "TruthBridge" "falls") ∈ lw_all := lw_g (lw_at lw_m2 100 rfl) rfl
theorem q496 : (Jvm.Cond.laysFinal "TruthBridge" "TruthBridge" "images" "[LTruthBridge$Image;") ∈ lw_all := lw_g (lw_at lw_m2 101 rfl) rfl
theorem q497 : (Jvm.Cond.soleField "TruthBridge" "images") ∈ lw_all := lw_g (lw_at lw_m2 102 rfl) rfl
theorem q498 : (Jvm.Cond.superclass "TruthBridge" "java/lang/Object") ∈ lw_all := lw_g (lw_at lw_m2 103 rfl) rfl
theorem q500 : (Jvm.Cond.instanceMethod ({ cls := "TruthBridge", name := "feed", desc := "(IIIII)I" } : Jvm.MethodName)) ∈ lw_all := lw_g (lw_at lw_m2 105 rfl) rfl
theorem q501 : (Jvm.Cond.selects "TruthBridge" ({ cls := "TruthBridge", name := "feed", desc := "(IIIII)I" } : Jvm.MethodName) ({ cls := "TruthBridge", name := "feed", desc := "(IIIII)I" } : Jvm.MethodName)) ∈ lw_all := lw_g (lw_at lw_m2 106 rfl) rfl
theorem q502 : (Jvm.Cond.code ({ cls := "TruthBridge", name := "feed", desc := "(IIIII)I" } : Jvm.MethodName) prog_1_method_4_code (6 : Nat) (Option.some Jvm.ClassFile.FieldType.int)) ∈ lw_all := lw_g (lw_at lw_m2 107 rfl) rfl
theorem q503 : (Jvm.Cond.methodLink "TruthBridge" (120 : Nat) ({ cls := "TruthBridge", name := "four", desc := "(I)V" } : Jvm.MethodName)) ∈ lw_all := lw_g (lw_at lw_m2 108 rfl) rfl
theorem q504 : (Jvm.Cond.privateMethod ({ cls := "TruthBridge", name := "four", desc := "(I)V" } : Jvm.MethodName)) ∈ lw_tbl := lw_at lw_m2 109 rfl
theorem q505 : (Jvm.Cond.instanceMethod ({ cls := "TruthBridge", name := "four", desc := "(I)V" } : Jvm.MethodName)) ∈ lw_all := lw_g (lw_at lw_m2 110 rfl) rfl
theorem q506 : (Jvm.Cond.code ({ cls := "TruthBridge", name := "four", desc := "(I)V" } : Jvm.MethodName) prog_1_method_5_code (3 : Nat) (Option.none : Option Jvm.ClassFile.FieldType)) ∈ lw_all := lw_g (lw_at lw_m2 111 rfl) rfl
theorem q508 : (Jvm.Cond.instanceMethod ({ cls := "TruthBridge", name := "end", desc := "(I)I" } : Jvm.MethodName)) ∈ lw_all := lw_g (lw_at lw_m2 113 rfl) rfl
theorem q509 : (Jvm.Cond.selects "TruthBridge" ({ cls := "TruthBridge", name := "end", desc := "(I)I" } : Jvm.MethodName) ({ cls := "TruthBridge", name := "end", desc := "(I)I" } : Jvm.MethodName)) ∈ lw_all := lw_g (lw_at lw_m2 114 rfl) rfl
theorem q510 : (Jvm.Cond.code ({ cls := "TruthBridge", name := "end", desc := "(I)I" } : Jvm.MethodName) prog_1_method_6_code (2 : Nat) (Option.some Jvm.ClassFile.FieldType.int)) ∈ lw_all := lw_g (lw_at lw_m2 115 rfl) rfl
theorem q512 : (Jvm.Cond.instanceMethod ({ cls := "TruthBridge", name := "land", desc := "()I" } : Jvm.MethodName)) ∈ lw_all := lw_g (lw_at lw_m2 117 rfl) rfl
theorem q513 : (Jvm.Cond.selects "TruthBridge" ({ cls := "TruthBridge", name := "land", desc := "()I" } : Jvm.MethodName) ({ cls := "TruthBridge", name := "land", desc := "()I" } : Jvm.MethodName)) ∈ lw_all := lw_g (lw_at lw_m2 118 rfl) rfl
theorem q514 : (Jvm.Cond.codeWith ({ cls := "TruthBridge", name := "land", desc := "()I" } : Jvm.MethodName) prog_1_method_8_code (3 : Nat) (Option.some Jvm.ClassFile.FieldType.int) [((0 : Nat), (30 : Nat), (33 : Nat), (29 : Nat))]) ∈ lw_all := lw_g (lw_at lw_m2 119 rfl) rfl
theorem q515 : (Jvm.Cond.classLink "TruthBridge" (129 : Nat) "TruthBridge$Text") ∈ lw_all := lw_g (lw_at lw_m2 120 rfl) rfl
theorem q517 : (Jvm.Cond.methodLinkNest "TruthBridge" (131 : Nat) ({ cls := "TruthBridge$Text", name := "<init>", desc := "(LTruthBridge;)V" } : Jvm.MethodName) "TruthBridge") ∈ lw_tbl := lw_at lw_m2 122 rfl
theorem q546 : (Jvm.Cond.methodLink "TruthBridge" (134 : Nat) ({ cls := "TruthBridge$Text", name := "landTold", desc := "()LTruthBridge$Gorge;" } : Jvm.MethodName)) ∈ lw_all := lw_g (lw_at lw_m2 151 rfl) rfl
theorem q650 : (Jvm.Cond.static ({ cls := "TruthBridge", name := "in", desc := "(JJJ)Z" } : Jvm.MethodName)) ∈ lw_all := lw_g (lw_at lw_m3 15 rfl) rfl
theorem q651 : (Jvm.Cond.code ({ cls := "TruthBridge", name := "in", desc := "(JJJ)Z" } : Jvm.MethodName) prog_1_method_1_code (6 : Nat) (Option.some Jvm.ClassFile.FieldType.boolean)) ∈ lw_all := lw_g (lw_at lw_m3 16 rfl) rfl
theorem q666 : (Jvm.Cond.static ({ cls := "TruthBridge", name := "has", desc := "(II)Z" } : Jvm.MethodName)) ∈ lw_all := lw_g (lw_at lw_m3 31 rfl) rfl
theorem q667 : (Jvm.Cond.code ({ cls := "TruthBridge", name := "has", desc := "(II)Z" } : Jvm.MethodName) prog_1_method_2_code (2 : Nat) (Option.some Jvm.ClassFile.FieldType.boolean)) ∈ lw_all := lw_g (lw_at lw_m3 32 rfl) rfl
theorem q697 : (Jvm.Cond.methodLink "TruthBridge" (138 : Nat) ({ cls := "TruthBridge$Gorge", name := "copies", desc := "(LTruthBridge$Gorge;)LTruthBridge$Gorge;" } : Jvm.MethodName)) ∈ lw_all := lw_g (lw_at lw_m3 62 rfl) rfl
theorem q698 : (Jvm.Cond.methodLink "TruthBridge" (148 : Nat) ({ cls := "TruthBridge", name := "faulted", desc := "()I" } : Jvm.MethodName)) ∈ lw_all := lw_g (lw_at lw_m3 63 rfl) rfl
theorem q699 : (Jvm.Cond.privateMethod ({ cls := "TruthBridge", name := "faulted", desc := "()I" } : Jvm.MethodName)) ∈ lw_tbl := lw_at lw_m3 64 rfl
theorem q700 : (Jvm.Cond.instanceMethod ({ cls := "TruthBridge", name := "faulted", desc := "()I" } : Jvm.MethodName)) ∈ lw_all := lw_g (lw_at lw_m3 65 rfl) rfl
theorem q701 : (Jvm.Cond.code ({ cls := "TruthBridge", name := "faulted", desc := "()I" } : Jvm.MethodName) prog_1_method_7_code (1 : Nat) (Option.some Jvm.ClassFile.FieldType.int)) ∈ lw_all := lw_g (lw_at lw_m3 66 rfl) rfl
theorem q703 : (Jvm.Cond.instanceMethod ({ cls := "TruthBridge", name := "saying", desc := "()I" } : Jvm.MethodName)) ∈ lw_all := lw_g (lw_at lw_m3 68 rfl) rfl
theorem q704 : (Jvm.Cond.selects "TruthBridge" ({ cls := "TruthBridge", name := "saying", desc := "()I" } : Jvm.MethodName) ({ cls := "TruthBridge", name := "saying", desc := "()I" } : Jvm.MethodName)) ∈ lw_all := lw_g (lw_at lw_m3 69 rfl) rfl
theorem q705 : (Jvm.Cond.codeWith ({ cls := "TruthBridge", name := "saying", desc := "()I" } : Jvm.MethodName) prog_1_method_10_code (3 : Nat) (Option.some Jvm.ClassFile.FieldType.int) [((16 : Nat), (45 : Nat), (48 : Nat), (29 : Nat))]) ∈ lw_all := lw_g (lw_at lw_m3 70 rfl) rfl
theorem q706 : (Jvm.Cond.methodLink "TruthBridge" (161 : Nat) ({ cls := "TruthBridge$Text", name := "sayingTold", desc := "()LTruthBridge$Form;" } : Jvm.MethodName)) ∈ lw_all := lw_g (lw_at lw_m3 71 rfl) rfl
theorem q774 : (Jvm.Cond.methodLink "TruthBridge" (165 : Nat) ({ cls := "TruthBridge", name := "lays", desc := "(LTruthBridge$Form;I)V" } : Jvm.MethodName)) ∈ lw_all := lw_g (lw_at lw_m3 139 rfl) rfl
theorem q775 : (Jvm.Cond.privateMethod ({ cls := "TruthBridge", name := "lays", desc := "(LTruthBridge$Form;I)V" } : Jvm.MethodName)) ∈ lw_tbl := lw_at lw_m3 140 rfl
theorem q776 : (Jvm.Cond.instanceMethod ({ cls := "TruthBridge", name := "lays", desc := "(LTruthBridge$Form;I)V" } : Jvm.MethodName)) ∈ lw_all := lw_g (lw_at lw_m3 141 rfl) rfl
theorem q777 : (Jvm.Cond.code ({ cls := "TruthBridge", name := "lays", desc := "(LTruthBridge$Form;I)V" } : Jvm.MethodName) prog_1_method_9_code (4 : Nat) (Option.none : Option Jvm.ClassFile.FieldType)) ∈ lw_all := lw_g (lw_at lw_m3 142 rfl) rfl
theorem q778 : (Jvm.Cond.methodLink "TruthBridge" (152 : Nat) ({ cls := "TruthBridge$Form", name := "holdsIn", desc := "(I)Z" } : Jvm.MethodName)) ∈ lw_all := lw_g (lw_at lw_m3 143 rfl) rfl
theorem q794 : (Jvm.Cond.instanceMethod ({ cls := "TruthBridge", name := "rule", desc := "()I" } : Jvm.MethodName)) ∈ lw_all := lw_g (lw_at lw_m3 159 rfl) rfl
theorem q795 : (Jvm.Cond.selects "TruthBridge" ({ cls := "TruthBridge", name := "rule", desc := "()I" } : Jvm.MethodName) ({ cls := "TruthBridge", name := "rule", desc := "()I" } : Jvm.MethodName)) ∈ lw_all := lw_g (lw_at lw_m3 160 rfl) rfl
theorem q796 : (Jvm.Cond.codeWith ({ cls := "TruthBridge", name := "rule", desc := "()I" } : Jvm.MethodName) prog_1_method_11_code (3 : Nat) (Option.some Jvm.ClassFile.FieldType.int) [((16 : Nat), (46 : Nat), (49 : Nat), (29 : Nat))]) ∈ lw_all := lw_g (lw_at lw_m3 161 rfl) rfl
theorem q797 : (Jvm.Cond.methodLink "TruthBridge" (172 : Nat) ({ cls := "TruthBridge$Text", name := "ruleTold", desc := "()LTruthBridge$Rule;" } : Jvm.MethodName)) ∈ lw_all := lw_g (lw_at lw_m3 162 rfl) rfl
theorem q956 : (Jvm.Cond.instanceMethod ({ cls := "TruthBridge", name := "person", desc := "(II)I" } : Jvm.MethodName)) ∈ lw_all := lw_g (lw_at lw_m4 81 rfl) rfl
theorem q957 : (Jvm.Cond.selects "TruthBridge" ({ cls := "TruthBridge", name := "person", desc := "(II)I" } : Jvm.MethodName) ({ cls := "TruthBridge", name := "person", desc := "(II)I" } : Jvm.MethodName)) ∈ lw_all := lw_g (lw_at lw_m4 82 rfl) rfl
theorem q958 : (Jvm.Cond.code ({ cls := "TruthBridge", name := "person", desc := "(II)I" } : Jvm.MethodName) prog_1_method_25_code (5 : Nat) (Option.some Jvm.ClassFile.FieldType.int)) ∈ lw_all := lw_g (lw_at lw_m4 83 rfl) rfl
theorem q959 : (Jvm.Cond.methodLink "TruthBridge" (222 : Nat) ({ cls := "TruthBridge", name := "isPerson", desc := "(I)Z" } : Jvm.MethodName)) ∈ lw_all := lw_g (lw_at lw_m4 84 rfl) rfl
theorem q960 : (Jvm.Cond.privateMethod ({ cls := "TruthBridge", name := "isPerson", desc := "(I)Z" } : Jvm.MethodName)) ∈ lw_tbl := lw_at lw_m4 85 rfl
theorem q961 : (Jvm.Cond.instanceMethod ({ cls := "TruthBridge", name := "isPerson", desc := "(I)Z" } : Jvm.MethodName)) ∈ lw_all := lw_g (lw_at lw_m4 86 rfl) rfl
theorem q962 : (Jvm.Cond.code ({ cls := "TruthBridge", name := "isPerson", desc := "(I)Z" } : Jvm.MethodName) prog_1_method_15_code (2 : Nat) (Option.some Jvm.ClassFile.FieldType.boolean)) ∈ lw_all := lw_g (lw_at lw_m4 87 rfl) rfl
theorem q963 : (Jvm.Cond.methodLink "TruthBridge" (233 : Nat) ({ cls := "TruthBridge$Gorge", name := "heldMany", desc := "(I)I" } : Jvm.MethodName)) ∈ lw_all := lw_g (lw_at lw_m4 88 rfl) rfl
theorem q973 : (Jvm.Cond.methodLink "TruthBridge" (240 : Nat) ({ cls := "TruthBridge$Gorge", name := "knowsFact", desc := "(II)Z" } : Jvm.MethodName)) ∈ lw_all := lw_g (lw_at lw_m4 98 rfl) rfl
theorem q982 : (Jvm.Cond.instanceMethod ({ cls := "TruthBridge", name := "fact", desc := "(I)I" } : Jvm.MethodName)) ∈ lw_all := lw_g (lw_at lw_m4 107 rfl) rfl
theorem q983 : (Jvm.Cond.selects "TruthBridge" ({ cls := "TruthBridge", name := "fact", desc := "(I)I" } : Jvm.MethodName) ({ cls := "TruthBridge", name := "fact", desc := "(I)I" } : Jvm.MethodName)) ∈ lw_all := lw_g (lw_at lw_m4 108 rfl) rfl
theorem q984 : (Jvm.Cond.code ({ cls := "TruthBridge", name := "fact", desc := "(I)I" } : Jvm.MethodName) prog_1_method_26_code (2 : Nat) (Option.some Jvm.ClassFile.FieldType.int)) ∈ lw_all := lw_g (lw_at lw_m4 109 rfl) rfl
theorem q985 : (Jvm.Cond.methodLink "TruthBridge" (243 : Nat) ({ cls := "TruthBridge", name := "has", desc := "(II)Z" } : Jvm.MethodName)) ∈ lw_all := lw_g (lw_at lw_m4 110 rfl) rfl
theorem q987 : (Jvm.Cond.instanceMethod ({ cls := "TruthBridge", name := "place", desc := "(I)I" } : Jvm.MethodName)) ∈ lw_all := lw_g (lw_at lw_m4 112 rfl) rfl
theorem q988 : (Jvm.Cond.selects "TruthBridge" ({ cls := "TruthBridge", name := "place", desc := "(I)I" } : Jvm.MethodName) ({ cls := "TruthBridge", name := "place", desc := "(I)I" } : Jvm.MethodName)) ∈ lw_all := lw_g (lw_at lw_m4 113 rfl) rfl
theorem q989 : (Jvm.Cond.code ({ cls := "TruthBridge", name := "place", desc := "(I)I" } : Jvm.MethodName) prog_1_method_27_code (2 : Nat) (Option.some Jvm.ClassFile.FieldType.int)) ∈ lw_all := lw_g (lw_at lw_m4 114 rfl) rfl
theorem q990 : (Jvm.Cond.methodLink "TruthBridge" (246 : Nat) ({ cls := "TruthBridge", name := "isPlace", desc := "(I)Z" } : Jvm.MethodName)) ∈ lw_all := lw_g (lw_at lw_m4 115 rfl) rfl
theorem q991 : (Jvm.Cond.privateMethod ({ cls := "TruthBridge", name := "isPlace", desc := "(I)Z" } : Jvm.MethodName)) ∈ lw_tbl := lw_at lw_m4 116 rfl
theorem q992 : (Jvm.Cond.instanceMethod ({ cls := "TruthBridge", name := "isPlace", desc := "(I)Z" } : Jvm.MethodName)) ∈ lw_all := lw_g (lw_at lw_m4 117 rfl) rfl
theorem q993 : (Jvm.Cond.code ({ cls := "TruthBridge", name := "isPlace", desc := "(I)Z" } : Jvm.MethodName) prog_1_method_16_code (2 : Nat) (Option.some Jvm.ClassFile.FieldType.boolean)) ∈ lw_all := lw_g (lw_at lw_m4 118 rfl) rfl
theorem q995 : (Jvm.Cond.instanceMethod ({ cls := "TruthBridge", name := "way", desc := "(II)I" } : Jvm.MethodName)) ∈ lw_all := lw_g (lw_at lw_m4 120 rfl) rfl
theorem q996 : (Jvm.Cond.selects "TruthBridge" ({ cls := "TruthBridge", name := "way", desc := "(II)I" } : Jvm.MethodName) ({ cls := "TruthBridge", name := "way", desc := "(II)I" } : Jvm.MethodName)) ∈ lw_all := lw_g (lw_at lw_m4 121 rfl) rfl
theorem q997 : (Jvm.Cond.code ({ cls := "TruthBridge", name := "way", desc := "(II)I" } : Jvm.MethodName) prog_1_method_28_code (4 : Nat) (Option.some Jvm.ClassFile.FieldType.int)) ∈ lw_all := lw_g (lw_at lw_m4 122 rfl) rfl
theorem q999 : (Jvm.Cond.instanceMethod ({ cls := "TruthBridge", name := "so", desc := "(II)I" } : Jvm.MethodName)) ∈ lw_all := lw_g (lw_at lw_m4 124 rfl) rfl
theorem q1000 : (Jvm.Cond.selects "TruthBridge" ({ cls := "TruthBridge", name := "so", desc := "(II)I" } : Jvm.MethodName) ({ cls := "TruthBridge", name := "so", desc := "(II)I" } : Jvm.MethodName)) ∈ lw_all := lw_g (lw_at lw_m4 125 rfl) rfl
theorem q1001 : (Jvm.Cond.code ({ cls := "TruthBridge", name := "so", desc := "(II)I" } : Jvm.MethodName) prog_1_method_29_code (3 : Nat) (Option.some Jvm.ClassFile.FieldType.int)) ∈ lw_all := lw_g (lw_at lw_m4 126 rfl) rfl
theorem q1002 : (Jvm.Cond.methodLink "TruthBridge" (176 : Nat) ({ cls := "TruthBridge", name := "isSaying", desc := "(I)Z" } : Jvm.MethodName)) ∈ lw_all := lw_g (lw_at lw_m4 127 rfl) rfl
theorem q1003 : (Jvm.Cond.privateMethod ({ cls := "TruthBridge", name := "isSaying", desc := "(I)Z" } : Jvm.MethodName)) ∈ lw_tbl := lw_at lw_m4 128 rfl
theorem q1004 : (Jvm.Cond.instanceMethod ({ cls := "TruthBridge", name := "isSaying", desc := "(I)Z" } : Jvm.MethodName)) ∈ lw_all := lw_g (lw_at lw_m4 129 rfl) rfl
theorem q1005 : (Jvm.Cond.code ({ cls := "TruthBridge", name := "isSaying", desc := "(I)Z" } : Jvm.MethodName) prog_1_method_13_code (2 : Nat) (Option.some Jvm.ClassFile.FieldType.boolean)) ∈ lw_all := lw_g (lw_at lw_m4 130 rfl) rfl
theorem q1006 : (Jvm.Cond.methodLink "TruthBridge" (255 : Nat) ({ cls := "TruthBridge", name := "isWorld", desc := "(I)Z" } : Jvm.MethodName)) ∈ lw_all := lw_g (lw_at lw_m4 131 rfl) rfl
theorem q1007 : (Jvm.Cond.privateMethod ({ cls := "TruthBridge", name := "isWorld", desc := "(I)Z" } : Jvm.MethodName)) ∈ lw_tbl := lw_at lw_m4 132 rfl
theorem q1008 : (Jvm.Cond.instanceMethod ({ cls := "TruthBridge", name := "isWorld", desc := "(I)Z" } : Jvm.MethodName)) ∈ lw_all := lw_g (lw_at lw_m4 133 rfl) rfl
theorem q1009 : (Jvm.Cond.code ({ cls := "TruthBridge", name := "isWorld", desc := "(I)Z" } : Jvm.MethodName) prog_1_method_17_code (2 : Nat) (Option.some Jvm.ClassFile.FieldType.boolean)) ∈ lw_all := lw_g (lw_at lw_m4 134 rfl) rfl
theorem q1010 : (Jvm.Cond.methodLink "TruthBridge" (182 : Nat) ({ cls := "TruthBridge$Gorge", name := "worlds", desc := "()I" } : Jvm.MethodName)) ∈ lw_all := lw_g (lw_at lw_m4 135 rfl) rfl
theorem q1011 : (Jvm.Cond.methodLink "TruthBridge" (202 : Nat) ({ cls := "TruthBridge", name := "isSo", desc := "(II)Z" } : Jvm.MethodName)) ∈ lw_all := lw_g (lw_at lw_m4 136 rfl) rfl
theorem q1012 : (Jvm.Cond.privateMethod ({ cls := "TruthBridge", name := "isSo", desc := "(II)Z" } : Jvm.MethodName)) ∈ lw_tbl := lw_at lw_m4 137 rfl
theorem q1013 : (Jvm.Cond.instanceMethod ({ cls := "TruthBridge", name := "isSo", desc := "(II)Z" } : Jvm.MethodName)) ∈ lw_all := lw_g (lw_at lw_m4 138 rfl) rfl
theorem q1014 : (Jvm.Cond.code ({ cls := "TruthBridge", name := "isSo", desc := "(II)Z" } : Jvm.MethodName) prog_1_method_18_code (3 : Nat) (Option.some Jvm.ClassFile.FieldType.boolean)) ∈ lw_all := lw_g (lw_at lw_m4 139 rfl) rfl
theorem q1016 : (Jvm.Cond.instanceMethod ({ cls := "TruthBridge", name := "isTrue", desc := "(I)I" } : Jvm.MethodName)) ∈ lw_all := lw_g (lw_at lw_m4 141 rfl) rfl
theorem q1017 : (Jvm.Cond.selects "TruthBridge" ({ cls := "TruthBridge", name := "isTrue", desc := "(I)I" } : Jvm.MethodName) ({ cls := "TruthBridge", name := "isTrue", desc := "(I)I" } : Jvm.MethodName)) ∈ lw_all := lw_g (lw_at lw_m4 142 rfl) rfl
theorem q1018 : (Jvm.Cond.code ({ cls := "TruthBridge", name := "isTrue", desc := "(I)I" } : Jvm.MethodName) prog_1_method_30_code (2 : Nat) (Option.some Jvm.ClassFile.FieldType.int)) ∈ lw_all := lw_g (lw_at lw_m4 143 rfl) rfl
theorem q1019 : (Jvm.Cond.methodLink "TruthBridge" (258 : Nat) ({ cls := "TruthBridge", name := "isAsked", desc := "(I)Z" } : Jvm.MethodName)) ∈ lw_all := lw_g (lw_at lw_m4 144 rfl) rfl
theorem q1020 : (Jvm.Cond.privateMethod ({ cls := "TruthBridge", name := "isAsked", desc := "(I)Z" } : Jvm.MethodName)) ∈ lw_tbl := lw_at lw_m4 145 rfl
theorem q1021 : (Jvm.Cond.instanceMethod ({ cls := "TruthBridge", name := "isAsked", desc := "(I)Z" } : Jvm.MethodName)) ∈ lw_all := lw_g (lw_at lw_m4 146 rfl) rfl
theorem q1022 : (Jvm.Cond.code ({ cls := "TruthBridge", name := "isAsked", desc := "(I)Z" } : Jvm.MethodName) prog_1_method_14_code (2 : Nat) (Option.some Jvm.ClassFile.FieldType.boolean)) ∈ lw_all := lw_g (lw_at lw_m4 147 rfl) rfl
theorem q1024 : (Jvm.Cond.instanceMethod ({ cls := "TruthBridge", name := "knows", desc := "(II)I" } : Jvm.MethodName)) ∈ lw_all := lw_g (lw_at lw_m4 149 rfl) rfl
theorem q1025 : (Jvm.Cond.selects "TruthBridge" ({ cls := "TruthBridge", name := "knows", desc := "(II)I" } : Jvm.MethodName) ({ cls := "TruthBridge", name := "knows", desc := "(II)I" } : Jvm.MethodName)) ∈ lw_all := lw_g (lw_at lw_m4 150 rfl) rfl
theorem q1026 : (Jvm.Cond.code ({ cls := "TruthBridge", name := "knows", desc := "(II)I" } : Jvm.MethodName) prog_1_method_31_code (3 : Nat) (Option.some Jvm.ClassFile.FieldType.int)) ∈ lw_all := lw_g (lw_at lw_m4 151 rfl) rfl
theorem q1027 : (Jvm.Cond.methodLink "TruthBridge" (212 : Nat) ({ cls := "TruthBridge", name := "isKnown", desc := "(LTruthBridge$Gorge;II)Z" } : Jvm.MethodName)) ∈ lw_all := lw_g (lw_at lw_m4 152 rfl) rfl
theorem q1028 : (Jvm.Cond.privateMethod ({ cls := "TruthBridge", name := "isKnown", desc := "(LTruthBridge$Gorge;II)Z" } : Jvm.MethodName)) ∈ lw_tbl := lw_at lw_m4 153 rfl
theorem q1029 : (Jvm.Cond.instanceMethod ({ cls := "TruthBridge", name := "isKnown", desc := "(LTruthBridge$Gorge;II)Z" } : Jvm.MethodName)) ∈ lw_all := lw_g (lw_at lw_m4 154 rfl) rfl
theorem q1030 : (Jvm.Cond.code ({ cls := "TruthBridge", name := "isKnown", desc := "(LTruthBridge$Gorge;II)Z" } : Jvm.MethodName) prog_1_method_19_code (5 : Nat) (Option.some Jvm.ClassFile.FieldType.boolean)) ∈ lw_all := lw_g (lw_at lw_m4 155 rfl) rfl
theorem q1031 : (Jvm.Cond.constantLong "TruthBridge" (188 : Nat) (-1 : Int64)) ∈ lw_all := lw_g (lw_at lw_m4 156 rfl) rfl
theorem q1033 : (Jvm.Cond.instanceMethod ({ cls := "TruthBridge", name := "possible", desc := "(II)I" } : Jvm.MethodName)) ∈ lw_all := lw_g (lw_at lw_m4 158 rfl) rfl
theorem q1034 : (Jvm.Cond.selects "TruthBridge" ({ cls := "TruthBridge", name := "possible", desc := "(II)I" } : Jvm.MethodName) ({ cls := "TruthBridge", name := "possible", desc := "(II)I" } : Jvm.MethodName)) ∈ lw_all := lw_g (lw_at lw_m4 159 rfl) rfl
theorem q1035 : (Jvm.Cond.code ({ cls := "TruthBridge", name := "possible", desc := "(II)I" } : Jvm.MethodName) prog_1_method_32_code (3 : Nat) (Option.some Jvm.ClassFile.FieldType.int)) ∈ lw_all := lw_g (lw_at lw_m4 160 rfl) rfl
theorem q1036 : (Jvm.Cond.methodLink "TruthBridge" (261 : Nat) ({ cls := "TruthBridge$Gorge", name := "isHeld", desc := "(II)Z" } : Jvm.MethodName)) ∈ lw_all := lw_g (lw_at lw_m4 161 rfl) rfl
theorem q1038 : (Jvm.Cond.instanceMethod ({ cls := "TruthBridge", name := "gain", desc := "(I)I" } : Jvm.MethodName)) ∈ lw_all := lw_g (lw_at lw_m4 163 rfl) rfl
theorem q1039 : (Jvm.Cond.selects "TruthBridge" ({ cls := "TruthBridge", name := "gain", desc := "(I)I" } : Jvm.MethodName) ({ cls := "TruthBridge", name := "gain", desc := "(I)I" } : Jvm.MethodName)) ∈ lw_all := lw_g (lw_at lw_m4 164 rfl) rfl
theorem q1040 : (Jvm.Cond.code ({ cls := "TruthBridge", name := "gain", desc := "(I)I" } : Jvm.MethodName) prog_1_method_33_code (2 : Nat) (Option.some Jvm.ClassFile.FieldType.int)) ∈ lw_all := lw_g (lw_at lw_m4 165 rfl) rfl
theorem q1041 : (Jvm.Cond.methodLink "TruthBridge" (206 : Nat) ({ cls := "TruthBridge", name := "gainOf", desc := "(LTruthBridge$Gorge;I)I" } : Jvm.MethodName)) ∈ lw_all := lw_g (lw_at lw_m4 166 rfl) rfl
theorem q1042 : (Jvm.Cond.privateMethod ({ cls := "TruthBridge", name := "gainOf", desc := "(LTruthBridge$Gorge;I)I" } : Jvm.MethodName)) ∈ lw_tbl := lw_at lw_m4 167 rfl
theorem q1043 : (Jvm.Cond.instanceMethod ({ cls := "TruthBridge", name := "gainOf", desc := "(LTruthBridge$Gorge;I)I" } : Jvm.MethodName)) ∈ lw_all := lw_g (lw_at lw_m4 168 rfl) rfl
theorem q1044 : (Jvm.Cond.code ({ cls := "TruthBridge", name := "gainOf", desc := "(LTruthBridge$Gorge;I)I" } : Jvm.MethodName) prog_1_method_21_code (5 : Nat) (Option.some Jvm.ClassFile.FieldType.int)) ∈ lw_all := lw_g (lw_at lw_m4 169 rfl) rfl
theorem q1045 : (Jvm.Cond.methodLink "TruthBridge" (190 : Nat) ({ cls := "java/lang/Long", name := "bitCount", desc := "(J)I" } : Jvm.MethodName)) ∈ lw_all := lw_g (lw_at lw_m4 170 rfl) rfl
theorem q1047 : (Jvm.Cond.instanceMethod ({ cls := "TruthBridge", name := "shown", desc := "(I)I" } : Jvm.MethodName)) ∈ lw_all := lw_g (lw_at lw_m4 172 rfl) rfl
theorem q1048 : (Jvm.Cond.selects "TruthBridge" ({ cls := "TruthBridge", name := "shown", desc := "(I)I" } : Jvm.MethodName) ({ cls := "TruthBridge", name := "shown", desc := "(I)I" } : Jvm.MethodName)) ∈ lw_all := lw_g (lw_at lw_m4 173 rfl) rfl
theorem q1049 : (Jvm.Cond.code ({ cls := "TruthBridge", name := "shown", desc := "(I)I" } : Jvm.MethodName) prog_1_method_34_code (3 : Nat) (Option.some Jvm.ClassFile.FieldType.int)) ∈ lw_all := lw_g (lw_at lw_m4 174 rfl) rfl
theorem q1051 : (Jvm.Cond.instanceMethod ({ cls := "TruthBridge", name := "undo", desc := "()I" } : Jvm.MethodName)) ∈ lw_all := lw_g (lw_at lw_m4 176 rfl) rfl
theorem q1052 : (Jvm.Cond.selects "TruthBridge" ({ cls := "TruthBridge", name := "undo", desc := "()I" } : Jvm.MethodName) ({ cls := "TruthBridge", name := "undo", desc := "()I" } : Jvm.MethodName)) ∈ lw_all := lw_g (lw_at lw_m4 177 rfl) rfl
theorem q1053 : (Jvm.Cond.code ({ cls := "TruthBridge", name := "undo", desc := "()I" } : Jvm.MethodName) prog_1_method_36_code (1 : Nat) (Option.some Jvm.ClassFile.FieldType.int)) ∈ lw_all := lw_g (lw_at lw_m4 178 rfl) rfl
theorem q1054 : (Jvm.Cond.methodLink "TruthBridge" (281 : Nat) ({ cls := "TruthBridge$Gorge", name := "takes", desc := "(I)V" } : Jvm.MethodName)) ∈ lw_all := lw_g (lw_at lw_m4 179 rfl) rfl
theorem q1059 : (Jvm.Cond.instanceMethod ({ cls := "TruthBridge", name := "cross", desc := "(II)I" } : Jvm.MethodName)) ∈ lw_all := lw_g (lw_at lw_m4 184 rfl) rfl
theorem q1060 : (Jvm.Cond.selects "TruthBridge" ({ cls := "TruthBridge", name := "cross", desc := "(II)I" } : Jvm.MethodName) ({ cls := "TruthBridge", name := "cross", desc := "(II)I" } : Jvm.MethodName)) ∈ lw_all := lw_g (lw_at lw_m4 185 rfl) rfl
theorem q1061 : (Jvm.Cond.code ({ cls := "TruthBridge", name := "cross", desc := "(II)I" } : Jvm.MethodName) prog_1_method_38_code (3 : Nat) (Option.some Jvm.ClassFile.FieldType.int)) ∈ lw_all := lw_g (lw_at lw_m4 186 rfl) rfl
theorem q1062 : (Jvm.Cond.methodLink "TruthBridge" (288 : Nat) ({ cls := "TruthBridge", name := "keepsAct", desc := "()V" } : Jvm.MethodName)) ∈ lw_all := lw_g (lw_at lw_m4 187 rfl) rfl
theorem q1063 : (Jvm.Cond.privateMethod ({ cls := "TruthBridge", name := "keepsAct", desc := "()V" } : Jvm.MethodName)) ∈ lw_tbl := lw_at lw_m4 188 rfl
theorem q1064 : (Jvm.Cond.instanceMethod ({ cls := "TruthBridge", name := "keepsAct", desc := "()V" } : Jvm.MethodName)) ∈ lw_all := lw_g (lw_at lw_m4 189 rfl) rfl
theorem q1065 : (Jvm.Cond.code ({ cls := "TruthBridge", name := "keepsAct", desc := "()V" } : Jvm.MethodName) prog_1_method_35_code (1 : Nat) (Option.none : Option Jvm.ClassFile.FieldType)) ∈ lw_all := lw_g (lw_at lw_m4 190 rfl) rfl
theorem q1066 : (Jvm.Cond.methodLink "TruthBridge" (270 : Nat) ({ cls := "java/lang/System", name := "arraycopy", desc := "(Ljava/lang/Object;ILjava/lang/Object;II)V" } : Jvm.MethodName)) ∈ lw_all := lw_g (lw_at lw_m4 191 rfl) rfl
theorem q1067 : (Jvm.Cond.methodLink "TruthBridge" (279 : Nat) ({ cls := "TruthBridge$Gorge", name := "lays", desc := "(I)V" } : Jvm.MethodName)) ∈ lw_all := lw_g (lw_at lw_m4 192 rfl) rfl
theorem q1071 : (Jvm.Cond.methodLink "TruthBridge" (291 : Nat) ({ cls := "TruthBridge", name := "crosses", desc := "(LTruthBridge$Gorge;II)I" } : Jvm.MethodName)) ∈ lw_all := lw_g (lw_at lw_m4 196 rfl) rfl
theorem q1072 : (Jvm.Cond.privateMethod ({ cls := "TruthBridge", name := "crosses", desc := "(LTruthBridge$Gorge;II)I" } : Jvm.MethodName)) ∈ lw_tbl := lw_at lw_m4 197 rfl
theorem q1073 : (Jvm.Cond.instanceMethod ({ cls := "TruthBridge", name := "crosses", desc := "(LTruthBridge$Gorge;II)I" } : Jvm.MethodName)) ∈ lw_all := lw_g (lw_at lw_m4 198 rfl) rfl
theorem q1074 : (Jvm.Cond.code ({ cls := "TruthBridge", name := "crosses", desc := "(LTruthBridge$Gorge;II)I" } : Jvm.MethodName) prog_1_method_37_code (6 : Nat) (Option.some Jvm.ClassFile.FieldType.int)) ∈ lw_all := lw_g (lw_at lw_m4 199 rfl) rfl
theorem q1075 : (Jvm.Cond.methodLink "TruthBridge" (284 : Nat) ({ cls := "TruthBridge", name := "isTold", desc := "(LTruthBridge$Gorge;II)V" } : Jvm.MethodName)) ∈ lw_all := lw_g (lw_at lw_m4 200 rfl) rfl
theorem q1076 : (Jvm.Cond.privateMethod ({ cls := "TruthBridge", name := "isTold", desc := "(LTruthBridge$Gorge;II)V" } : Jvm.MethodName)) ∈ lw_tbl := lw_at lw_m4 201 rfl
theorem q1077 : (Jvm.Cond.instanceMethod ({ cls := "TruthBridge", name := "isTold", desc := "(LTruthBridge$Gorge;II)V" } : Jvm.MethodName)) ∈ lw_all := lw_g (lw_at lw_m4 202 rfl) rfl
theorem q1078 : (Jvm.Cond.code ({ cls := "TruthBridge", name := "isTold", desc := "(LTruthBridge$Gorge;II)V" } : Jvm.MethodName) prog_1_method_20_code (5 : Nat) (Option.none : Option Jvm.ClassFile.FieldType)) ∈ lw_all := lw_g (lw_at lw_m4 203 rfl) rfl
theorem q1080 : (Jvm.Cond.instanceMethod ({ cls := "TruthBridge", name := "tell", desc := "(III)I" } : Jvm.MethodName)) ∈ lw_all := lw_g (lw_at lw_m4 205 rfl) rfl
theorem q1081 : (Jvm.Cond.selects "TruthBridge" ({ cls := "TruthBridge", name := "tell", desc := "(III)I" } : Jvm.MethodName) ({ cls := "TruthBridge", name := "tell", desc := "(III)I" } : Jvm.MethodName)) ∈ lw_all := lw_g (lw_at lw_m4 206 rfl) rfl
theorem q1082 : (Jvm.Cond.code ({ cls := "TruthBridge", name := "tell", desc := "(III)I" } : Jvm.MethodName) prog_1_method_39_code (4 : Nat) (Option.some Jvm.ClassFile.FieldType.int)) ∈ lw_all := lw_g (lw_at lw_m4 207 rfl) rfl
theorem q1084 : (Jvm.Cond.instanceMethod ({ cls := "TruthBridge", name := "look", desc := "(II)I" } : Jvm.MethodName)) ∈ lw_all := lw_g (lw_at lw_m4 209 rfl) rfl
theorem q1085 : (Jvm.Cond.selects "TruthBridge" ({ cls := "TruthBridge", name := "look", desc := "(II)I" } : Jvm.MethodName) ({ cls := "TruthBridge", name := "look", desc := "(II)I" } : Jvm.MethodName)) ∈ lw_all := lw_g (lw_at lw_m4 210 rfl) rfl
theorem q1086 : (Jvm.Cond.code ({ cls := "TruthBridge", name := "look", desc := "(II)I" } : Jvm.MethodName) prog_1_method_40_code (3 : Nat) (Option.some Jvm.ClassFile.FieldType.int)) ∈ lw_all := lw_g (lw_at lw_m4 211 rfl) rfl
theorem q1087 : (Jvm.Cond.methodLink "TruthBridge" (295 : Nat) ({ cls := "TruthBridge$Gorge", name := "isToldFact", desc := "(II)V" } : Jvm.MethodName)) ∈ lw_all := lw_g (lw_at lw_m4 212 rfl) rfl
theorem q1089 : (Jvm.Cond.instanceMethod ({ cls := "TruthBridge", name := "midnight", desc := "()I" } : Jvm.MethodName)) ∈ lw_all := lw_g (lw_at lw_m4 214 rfl) rfl
theorem q1090 : (Jvm.Cond.selects "TruthBridge" ({ cls := "TruthBridge", name := "midnight", desc := "()I" } : Jvm.MethodName) ({ cls := "TruthBridge", name := "midnight", desc := "()I" } : Jvm.MethodName)) ∈ lw_all := lw_g (lw_at lw_m4 215 rfl) rfl
theorem q1091 : (Jvm.Cond.code ({ cls := "TruthBridge", name := "midnight", desc := "()I" } : Jvm.MethodName) prog_1_method_41_code (1 : Nat) (Option.some Jvm.ClassFile.FieldType.int)) ∈ lw_all := lw_g (lw_at lw_m4 216 rfl) rfl
theorem q1092 : (Jvm.Cond.methodLink "TruthBridge" (301 : Nat) ({ cls := "TruthBridge$Gorge", name := "dayGoes", desc := "()V" } : Jvm.MethodName)) ∈ lw_all := lw_g (lw_at lw_m4 217 rfl) rfl
theorem q1101 : (Jvm.Cond.laysStatic "TruthBridge" "WITHOUT" "[J") ∈ lw_tbl := lw_at lw_m4 226 rfl
theorem q1103 : (Jvm.Cond.instanceMethod ({ cls := "TruthBridge", name := "run", desc := "(II)I" } : Jvm.MethodName)) ∈ lw_all := lw_g (lw_at lw_m4 228 rfl) rfl
theorem q1104 : (Jvm.Cond.selects "TruthBridge" ({ cls := "TruthBridge", name := "run", desc := "(II)I" } : Jvm.MethodName) ({ cls := "TruthBridge", name := "run", desc := "(II)I" } : Jvm.MethodName)) ∈ lw_all := lw_g (lw_at lw_m4 229 rfl) rfl
theorem q1105 : (Jvm.Cond.code ({ cls := "TruthBridge", name := "run", desc := "(II)I" } : Jvm.MethodName) prog_1_method_46_code (5 : Nat) (Option.some Jvm.ClassFile.FieldType.int)) ∈ lw_all := lw_g (lw_at lw_m4 230 rfl) rfl
theorem q1106 : (Jvm.Cond.methodLink "TruthBridge" (319 : Nat) ({ cls := "TruthBridge", name := "isRule", desc := "(I)Z" } : Jvm.MethodName)) ∈ lw_all := lw_g (lw_at lw_m4 231 rfl) rfl
theorem q1107 : (Jvm.Cond.privateMethod ({ cls := "TruthBridge", name := "isRule", desc := "(I)Z" } : Jvm.MethodName)) ∈ lw_tbl := lw_at lw_m4 232 rfl
theorem q1108 : (Jvm.Cond.instanceMethod ({ cls := "TruthBridge", name := "isRule", desc := "(I)Z" } : Jvm.MethodName)) ∈ lw_all := lw_g (lw_at lw_m4 233 rfl) rfl
theorem q1109 : (Jvm.Cond.code ({ cls := "TruthBridge", name := "isRule", desc := "(I)Z" } : Jvm.MethodName) prog_1_method_12_code (2 : Nat) (Option.some Jvm.ClassFile.FieldType.boolean)) ∈ lw_all := lw_g (lw_at lw_m4 234 rfl) rfl
theorem q1110 : (Jvm.Cond.constantLong "TruthBridge" (322 : Nat) (60 : Int64)) ∈ lw_all := lw_g (lw_at lw_m4 235 rfl) rfl
theorem q1111 : (Jvm.Cond.methodLink "TruthBridge" (324 : Nat) ({ cls := "TruthBridge", name := "in", desc := "(JJJ)Z" } : Jvm.MethodName)) ∈ lw_all := lw_g (lw_at lw_m4 236 rfl) rfl
theorem q1112 : (Jvm.Cond.methodLink "TruthBridge" (328 : Nat) ({ cls := "TruthBridge", name := "dayBy", desc := "(LTruthBridge$Rule;)I" } : Jvm.MethodName)) ∈ lw_all := lw_g (lw_at lw_m4 237 rfl) rfl
theorem q1113 : (Jvm.Cond.privateMethod ({ cls := "TruthBridge", name := "dayBy", desc := "(LTruthBridge$Rule;)I" } : Jvm.MethodName)) ∈ lw_tbl := lw_at lw_m4 238 rfl
theorem q1114 : (Jvm.Cond.instanceMethod ({ cls := "TruthBridge", name := "dayBy", desc := "(LTruthBridge$Rule;)I" } : Jvm.MethodName)) ∈ lw_all := lw_g (lw_at lw_m4 239 rfl) rfl
theorem q1115 : (Jvm.Cond.code ({ cls := "TruthBridge", name := "dayBy", desc := "(LTruthBridge$Rule;)I" } : Jvm.MethodName) prog_1_method_45_code (5 : Nat) (Option.some Jvm.ClassFile.FieldType.int)) ∈ lw_all := lw_g (lw_at lw_m5 0 rfl) rfl
theorem q1116 : (Jvm.Cond.methodLink "TruthBridge" (315 : Nat) ({ cls := "TruthBridge", name := "sayingBy", desc := "(LTruthBridge$Rule;I)I" } : Jvm.MethodName)) ∈ lw_all := lw_g (lw_at lw_m5 1 rfl) rfl
theorem q1117 : (Jvm.Cond.privateMethod ({ cls := "TruthBridge", name := "sayingBy", desc := "(LTruthBridge$Rule;I)I" } : Jvm.MethodName)) ∈ lw_tbl := lw_at lw_m5 2 rfl
theorem q1118 : (Jvm.Cond.instanceMethod ({ cls := "TruthBridge", name := "sayingBy", desc := "(LTruthBridge$Rule;I)I" } : Jvm.MethodName)) ∈ lw_all := lw_g (lw_at lw_m5 3 rfl) rfl
theorem q1119 : (Jvm.Cond.code ({ cls := "TruthBridge", name := "sayingBy", desc := "(LTruthBridge$Rule;I)I" } : Jvm.MethodName) prog_1_method_44_code (9 : Nat) (Option.some Jvm.ClassFile.FieldType.int)) ∈ lw_all := lw_g (lw_at lw_m5 4 rfl) rfl
theorem q1120 : (Jvm.Cond.methodLink "TruthBridge" (307 : Nat) ({ cls := "TruthBridge", name := "wordsOf", desc := "(II)[J" } : Jvm.MethodName)) ∈ lw_all := lw_g (lw_at lw_m5 5 rfl) rfl
theorem q1121 : (Jvm.Cond.privateMethod ({ cls := "TruthBridge", name := "wordsOf", desc := "(II)[J" } : Jvm.MethodName)) ∈ lw_tbl := lw_at lw_m5 6 rfl
theorem q1122 : (Jvm.Cond.instanceMethod ({ cls := "TruthBridge", name := "wordsOf", desc := "(II)[J" } : Jvm.MethodName)) ∈ lw_all := lw_g (lw_at lw_m5 7 rfl) rfl
theorem q1123 : (Jvm.Cond.code ({ cls := "TruthBridge", name := "wordsOf", desc := "(II)[J" } : Jvm.MethodName) prog_1_method_43_code (3 : Nat) (Option.some (Jvm.ClassFile.FieldType.array Jvm.ClassFile.FieldType.long))) ∈ lw_all := lw_g (lw_at lw_m5 8 rfl) rfl
theorem q1124 : (Jvm.Cond.methodLink "TruthBridge" (304 : Nat) ({ cls := "TruthBridge", name := "othersWith", desc := "(LTruthBridge$Gorge;I)I" } : Jvm.MethodName)) ∈ lw_all := lw_g (lw_at lw_m5 9 rfl) rfl
theorem q1125 : (Jvm.Cond.privateMethod ({ cls := "TruthBridge", name := "othersWith", desc := "(LTruthBridge$Gorge;I)I" } : Jvm.MethodName)) ∈ lw_tbl := lw_at lw_m5 10 rfl
theorem q1126 : (Jvm.Cond.instanceMethod ({ cls := "TruthBridge", name := "othersWith", desc := "(LTruthBridge$Gorge;I)I" } : Jvm.MethodName)) ∈ lw_all := lw_g (lw_at lw_m5 11 rfl) rfl
theorem q1127 : (Jvm.Cond.code ({ cls := "TruthBridge", name := "othersWith", desc := "(LTruthBridge$Gorge;I)I" } : Jvm.MethodName) prog_1_method_42_code (5 : Nat) (Option.some Jvm.ClassFile.FieldType.int)) ∈ lw_all := lw_g (lw_at lw_m5 12 rfl) rfl
theorem q1128 : (Jvm.Cond.methodLink "TruthBridge" (311 : Nat) ({ cls := "TruthBridge$Rule", name := "sumFor", desc := "([J)J" } : Jvm.MethodName)) ∈ lw_all := lw_g (lw_at lw_m5 13 rfl) rfl
theorem q1165 : (Jvm.Cond.instanceMethod ({ cls := "TruthBridge", name := "follows", desc := "(II)I" } : Jvm.MethodName)) ∈ lw_all := lw_g (lw_at lw_m5 50 rfl) rfl
theorem q1166 : (Jvm.Cond.selects "TruthBridge" ({ cls := "TruthBridge", name := "follows", desc := "(II)I" } : Jvm.MethodName) ({ cls := "TruthBridge", name := "follows", desc := "(II)I" } : Jvm.MethodName)) ∈ lw_all := lw_g (lw_at lw_m5 51 rfl) rfl
theorem q1167 : (Jvm.Cond.code ({ cls := "TruthBridge", name := "follows", desc := "(II)I" } : Jvm.MethodName) prog_1_method_50_code (3 : Nat) (Option.some Jvm.ClassFile.FieldType.int)) ∈ lw_all := lw_g (lw_at lw_m5 52 rfl) rfl
theorem q1168 : (Jvm.Cond.methodLink "TruthBridge" (335 : Nat) ({ cls := "TruthBridge", name := "isSet", desc := "(I)Z" } : Jvm.MethodName)) ∈ lw_all := lw_g (lw_at lw_m5 53 rfl) rfl
theorem q1169 : (Jvm.Cond.privateMethod ({ cls := "TruthBridge", name := "isSet", desc := "(I)Z" } : Jvm.MethodName)) ∈ lw_tbl := lw_at lw_m5 54 rfl
theorem q1170 : (Jvm.Cond.instanceMethod ({ cls := "TruthBridge", name := "isSet", desc := "(I)Z" } : Jvm.MethodName)) ∈ lw_all := lw_g (lw_at lw_m5 55 rfl) rfl
theorem q1171 : (Jvm.Cond.code ({ cls := "TruthBridge", name := "isSet", desc := "(I)Z" } : Jvm.MethodName) prog_1_method_47_code (2 : Nat) (Option.some Jvm.ClassFile.FieldType.boolean)) ∈ lw_all := lw_g (lw_at lw_m5 56 rfl) rfl
theorem q1172 : (Jvm.Cond.methodLink "TruthBridge" (338 : Nat) ({ cls := "TruthBridge", name := "followsFrom", desc := "(II)Z" } : Jvm.MethodName)) ∈ lw_all := lw_g (lw_at lw_m5 57 rfl) rfl
theorem q1173 : (Jvm.Cond.privateMethod ({ cls := "TruthBridge", name := "followsFrom", desc := "(II)Z" } : Jvm.MethodName)) ∈ lw_tbl := lw_at lw_m5 58 rfl
theorem q1174 : (Jvm.Cond.instanceMethod ({ cls := "TruthBridge", name := "followsFrom", desc := "(II)Z" } : Jvm.MethodName)) ∈ lw_all := lw_g (lw_at lw_m5 59 rfl) rfl
theorem q1175 : (Jvm.Cond.code ({ cls := "TruthBridge", name := "followsFrom", desc := "(II)Z" } : Jvm.MethodName) prog_1_method_49_code (4 : Nat) (Option.some Jvm.ClassFile.FieldType.boolean)) ∈ lw_all := lw_g (lw_at lw_m5 60 rfl) rfl
theorem q1176 : (Jvm.Cond.methodLink "TruthBridge" (332 : Nat) ({ cls := "TruthBridge", name := "isSoAll", desc := "(II)Z" } : Jvm.MethodName)) ∈ lw_all := lw_g (lw_at lw_m5 61 rfl) rfl
theorem q1177 : (Jvm.Cond.privateMethod ({ cls := "TruthBridge", name := "isSoAll", desc := "(II)Z" } : Jvm.MethodName)) ∈ lw_tbl := lw_at lw_m5 62 rfl
theorem q1178 : (Jvm.Cond.instanceMethod ({ cls := "TruthBridge", name := "isSoAll", desc := "(II)Z" } : Jvm.MethodName)) ∈ lw_all := lw_g (lw_at lw_m5 63 rfl) rfl
theorem q1179 : (Jvm.Cond.code ({ cls := "TruthBridge", name := "isSoAll", desc := "(II)Z" } : Jvm.MethodName) prog_1_method_48_code (4 : Nat) (Option.some Jvm.ClassFile.FieldType.boolean)) ∈ lw_all := lw_g (lw_at lw_m5 64 rfl) rfl
theorem q1181 : (Jvm.Cond.instanceMethod ({ cls := "TruthBridge", name := "fewest", desc := "(II)I" } : Jvm.MethodName)) ∈ lw_all := lw_g (lw_at lw_m5 66 rfl) rfl
theorem q1182 : (Jvm.Cond.selects "TruthBridge" ({ cls := "TruthBridge", name := "fewest", desc := "(II)I" } : Jvm.MethodName) ({ cls := "TruthBridge", name := "fewest", desc := "(II)I" } : Jvm.MethodName)) ∈ lw_all := lw_g (lw_at lw_m5 67 rfl) rfl
theorem q1183 : (Jvm.Cond.code ({ cls := "TruthBridge", name := "fewest", desc := "(II)I" } : Jvm.MethodName) prog_1_method_51_code (5 : Nat) (Option.some Jvm.ClassFile.FieldType.int)) ∈ lw_all := lw_g (lw_at lw_m5 68 rfl) rfl
theorem q1184 : (Jvm.Cond.methodLink "TruthBridge" (341 : Nat) ({ cls := "java/lang/Integer", name := "bitCount", desc := "(I)I" } : Jvm.MethodName)) ∈ lw_all := lw_g (lw_at lw_m5 69 rfl) rfl
theorem q1191 : (Jvm.Cond.instanceMethod ({ cls := "TruthBridge", name := "opposite", desc := "(II)I" } : Jvm.MethodName)) ∈ lw_all := lw_g (lw_at lw_m5 76 rfl) rfl
theorem q1192 : (Jvm.Cond.selects "TruthBridge" ({ cls := "TruthBridge", name := "opposite", desc := "(II)I" } : Jvm.MethodName) ({ cls := "TruthBridge", name := "opposite", desc := "(II)I" } : Jvm.MethodName)) ∈ lw_all := lw_g (lw_at lw_m5 77 rfl) rfl
theorem q1193 : (Jvm.Cond.code ({ cls := "TruthBridge", name := "opposite", desc := "(II)I" } : Jvm.MethodName) prog_1_method_52_code (4 : Nat) (Option.some Jvm.ClassFile.FieldType.int)) ∈ lw_all := lw_g (lw_at lw_m5 78 rfl) rfl
theorem q1195 : (Jvm.Cond.instanceMethod ({ cls := "TruthBridge", name := "when", desc := "(II)I" } : Jvm.MethodName)) ∈ lw_all := lw_g (lw_at lw_m5 80 rfl) rfl
theorem q1196 : (Jvm.Cond.selects "TruthBridge" ({ cls := "TruthBridge", name := "when", desc := "(II)I" } : Jvm.MethodName) ({ cls := "TruthBridge", name := "when", desc := "(II)I" } : Jvm.MethodName)) ∈ lw_all := lw_g (lw_at lw_m5 81 rfl) rfl
theorem q1197 : (Jvm.Cond.code ({ cls := "TruthBridge", name := "when", desc := "(II)I" } : Jvm.MethodName) prog_1_method_53_code (7 : Nat) (Option.some Jvm.ClassFile.FieldType.int)) ∈ lw_all := lw_g (lw_at lw_m5 82 rfl) rfl
theorem q1198 : (Jvm.Cond.constantLong "TruthBridge" (345 : Nat) (9999 : Int64)) ∈ lw_all := lw_g (lw_at lw_m5 83 rfl) rfl
theorem q1199 : (Jvm.Cond.methodLink "TruthBridge" (347 : Nat) ({ cls := "java/lang/Math", name := "max", desc := "(II)I" } : Jvm.MethodName)) ∈ lw_all := lw_g (lw_at lw_m5 84 rfl) rfl
theorem q1203 : (Jvm.Cond.instanceMethod ({ cls := "TruthBridge", name := "least", desc := "(II)I" } : Jvm.MethodName)) ∈ lw_all := lw_g (lw_at lw_m5 88 rfl) rfl
theorem q1204 : (Jvm.Cond.selects "TruthBridge" ({ cls := "TruthBridge", name := "least", desc := "(II)I" } : Jvm.MethodName) ({ cls := "TruthBridge", name := "least", desc := "(II)I" } : Jvm.MethodName)) ∈ lw_all := lw_g (lw_at lw_m5 89 rfl) rfl
theorem q1205 : (Jvm.Cond.code ({ cls := "TruthBridge", name := "least", desc := "(II)I" } : Jvm.MethodName) prog_1_method_55_code (7 : Nat) (Option.some Jvm.ClassFile.FieldType.int)) ∈ lw_all := lw_g (lw_at lw_m5 90 rfl) rfl
theorem q1206 : (Jvm.Cond.methodLink "TruthBridge" (362 : Nat) ({ cls := "TruthBridge", name := "leastOf", desc := "(I)I" } : Jvm.MethodName)) ∈ lw_all := lw_g (lw_at lw_m5 91 rfl) rfl
theorem q1207 : (Jvm.Cond.privateMethod ({ cls := "TruthBridge", name := "leastOf", desc := "(I)I" } : Jvm.MethodName)) ∈ lw_tbl := lw_at lw_m5 92 rfl
theorem q1208 : (Jvm.Cond.instanceMethod ({ cls := "TruthBridge", name := "leastOf", desc := "(I)I" } : Jvm.MethodName)) ∈ lw_all := lw_g (lw_at lw_m5 93 rfl) rfl
theorem q1209 : (Jvm.Cond.code ({ cls := "TruthBridge", name := "leastOf", desc := "(I)I" } : Jvm.MethodName) prog_1_method_54_code (4 : Nat) (Option.some Jvm.ClassFile.FieldType.int)) ∈ lw_all := lw_g (lw_at lw_m5 94 rfl) rfl
theorem q1210 : (Jvm.Cond.methodLink "TruthBridge" (219 : Nat) ({ cls := "TruthBridge", name := "canCross", desc := "(LTruthBridge$Gorge;II)Z" } : Jvm.MethodName)) ∈ lw_all := lw_g (lw_at lw_m5 95 rfl) rfl
theorem q1211 : (Jvm.Cond.privateMethod ({ cls := "TruthBridge", name := "canCross", desc := "(LTruthBridge$Gorge;II)Z" } : Jvm.MethodName)) ∈ lw_tbl := lw_at lw_m5 96 rfl
theorem q1212 : (Jvm.Cond.instanceMethod ({ cls := "TruthBridge", name := "canCross", desc := "(LTruthBridge$Gorge;II)Z" } : Jvm.MethodName)) ∈ lw_all := lw_g (lw_at lw_m5 97 rfl) rfl
theorem q1213 : (Jvm.Cond.code ({ cls := "TruthBridge", name := "canCross", desc := "(LTruthBridge$Gorge;II)Z" } : Jvm.MethodName) prog_1_method_23_code (4 : Nat) (Option.some Jvm.ClassFile.FieldType.boolean)) ∈ lw_all := lw_g (lw_at lw_m5 98 rfl) rfl
theorem q1214 : (Jvm.Cond.methodLink "TruthBridge" (216 : Nat) ({ cls := "TruthBridge", name := "getsOver", desc := "(LTruthBridge$Gorge;II)Z" } : Jvm.MethodName)) ∈ lw_all := lw_g (lw_at lw_m5 99 rfl) rfl
theorem q1215 : (Jvm.Cond.privateMethod ({ cls := "TruthBridge", name := "getsOver", desc := "(LTruthBridge$Gorge;II)Z" } : Jvm.MethodName)) ∈ lw_tbl := lw_at lw_m5 100 rfl
theorem q1216 : (Jvm.Cond.instanceMethod ({ cls := "TruthBridge", name := "getsOver", desc := "(LTruthBridge$Gorge;II)Z" } : Jvm.MethodName)) ∈ lw_all := lw_g (lw_at lw_m5 101 rfl) rfl
theorem q1217 : (Jvm.Cond.code ({ cls := "TruthBridge", name := "getsOver", desc := "(LTruthBridge$Gorge;II)Z" } : Jvm.MethodName) prog_1_method_22_code (4 : Nat) (Option.some Jvm.ClassFile.FieldType.boolean)) ∈ lw_all := lw_g (lw_at lw_m5 102 rfl) rfl
theorem q1218 : (Jvm.Cond.methodLink "TruthBridge" (365 : Nat) ({ cls := "TruthBridge", name := "hasWay", desc := "(LTruthBridge$Gorge;I)Z" } : Jvm.MethodName)) ∈ lw_all := lw_g (lw_at lw_m5 103 rfl) rfl
theorem q1219 : (Jvm.Cond.privateMethod ({ cls := "TruthBridge", name := "hasWay", desc := "(LTruthBridge$Gorge;I)Z" } : Jvm.MethodName)) ∈ lw_tbl := lw_at lw_m5 104 rfl
theorem q1220 : (Jvm.Cond.instanceMethod ({ cls := "TruthBridge", name := "hasWay", desc := "(LTruthBridge$Gorge;I)Z" } : Jvm.MethodName)) ∈ lw_all := lw_g (lw_at lw_m5 105 rfl) rfl
theorem q1221 : (Jvm.Cond.code ({ cls := "TruthBridge", name := "hasWay", desc := "(LTruthBridge$Gorge;I)Z" } : Jvm.MethodName) prog_1_method_24_code (4 : Nat) (Option.some Jvm.ClassFile.FieldType.boolean)) ∈ lw_all := lw_g (lw_at lw_m5 106 rfl) rfl
theorem q1223 : (Jvm.Cond.instanceMethod ({ cls := "TruthBridge", name := "plan", desc := "(II)I" } : Jvm.MethodName)) ∈ lw_all := lw_g (lw_at lw_m5 108 rfl) rfl
theorem q1224 : (Jvm.Cond.selects "TruthBridge" ({ cls := "TruthBridge", name := "plan", desc := "(II)I" } : Jvm.MethodName) ({ cls := "TruthBridge", name := "plan", desc := "(II)I" } : Jvm.MethodName)) ∈ lw_all := lw_g (lw_at lw_m5 109 rfl) rfl
theorem q1225 : (Jvm.Cond.code ({ cls := "TruthBridge", name := "plan", desc := "(II)I" } : Jvm.MethodName) prog_1_method_57_code (5 : Nat) (Option.some Jvm.ClassFile.FieldType.int)) ∈ lw_all := lw_g (lw_at lw_m5 110 rfl) rfl
theorem q1226 : (Jvm.Cond.constantLong "TruthBridge" (381 : Nat) (8 : Int64)) ∈ lw_all := lw_g (lw_at lw_m5 111 rfl) rfl
theorem q1227 : (Jvm.Cond.methodLink "TruthBridge" (378 : Nat) ({ cls := "TruthBridge", name := "plans", desc := "(LTruthBridge$Gorge;II)V" } : Jvm.MethodName)) ∈ lw_all := lw_g (lw_at lw_m5 112 rfl) rfl
theorem q1228 : (Jvm.Cond.privateMethod ({ cls := "TruthBridge", name := "plans", desc := "(LTruthBridge$Gorge;II)V" } : Jvm.MethodName)) ∈ lw_tbl := lw_at lw_m5 113 rfl
theorem q1229 : (Jvm.Cond.instanceMethod ({ cls := "TruthBridge", name := "plans", desc := "(LTruthBridge$Gorge;II)V" } : Jvm.MethodName)) ∈ lw_all := lw_g (lw_at lw_m5 114 rfl) rfl
theorem q1230 : (Jvm.Cond.code ({ cls := "TruthBridge", name := "plans", desc := "(LTruthBridge$Gorge;II)V" } : Jvm.MethodName) prog_1_method_56_code (6 : Nat) (Option.none : Option Jvm.ClassFile.FieldType)) ∈ lw_all := lw_g (lw_at lw_m5 115 rfl) rfl
theorem q1231 : (Jvm.Cond.methodLink "TruthBridge" (375 : Nat) ({ cls := "java/lang/Math", name := "min", desc := "(II)I" } : Jvm.MethodName)) ∈ lw_all := lw_g (lw_at lw_m5 116 rfl) rfl
theorem q1233 : (Jvm.Cond.instanceMethod ({ cls := "TruthBridge", name := "walk", desc := "(II)I" } : Jvm.MethodName)) ∈ lw_all := lw_g (lw_at lw_m5 118 rfl) rfl
theorem q1234 : (Jvm.Cond.selects "TruthBridge" ({ cls := "TruthBridge", name := "walk", desc := "(II)I" } : Jvm.MethodName) ({ cls := "TruthBridge", name := "walk", desc := "(II)I" } : Jvm.MethodName)) ∈ lw_all := lw_g (lw_at lw_m5 119 rfl) rfl
theorem q1235 : (Jvm.Cond.code ({ cls := "TruthBridge", name := "walk", desc := "(II)I" } : Jvm.MethodName) prog_1_method_61_code (6 : Nat) (Option.some Jvm.ClassFile.FieldType.int)) ∈ lw_all := lw_g (lw_at lw_m5 120 rfl) rfl
theorem q1236 : (Jvm.Cond.methodLink "TruthBridge" (386 : Nat) ({ cls := "TruthBridge", name := "fillsWalks", desc := "()V" } : Jvm.MethodName)) ∈ lw_all := lw_g (lw_at lw_m5 121 rfl) rfl
theorem q1237 : (Jvm.Cond.privateMethod ({ cls := "TruthBridge", name := "fillsWalks", desc := "()V" } : Jvm.MethodName)) ∈ lw_tbl := lw_at lw_m5 122 rfl
theorem q1238 : (Jvm.Cond.instanceMethod ({ cls := "TruthBridge", name := "fillsWalks", desc := "()V" } : Jvm.MethodName)) ∈ lw_all := lw_g (lw_at lw_m5 123 rfl) rfl
theorem q1239 : (Jvm.Cond.code ({ cls := "TruthBridge", name := "fillsWalks", desc := "()V" } : Jvm.MethodName) prog_1_method_58_code (7 : Nat) (Option.none : Option Jvm.ClassFile.FieldType)) ∈ lw_all := lw_g (lw_at lw_m5 124 rfl) rfl
theorem q1240 : (Jvm.Cond.methodLink "TruthBridge" (389 : Nat) ({ cls := "TruthBridge", name := "walkOf", desc := "(I)I" } : Jvm.MethodName)) ∈ lw_all := lw_g (lw_at lw_m5 125 rfl) rfl
theorem q1241 : (Jvm.Cond.privateMethod ({ cls := "TruthBridge", name := "walkOf", desc := "(I)I" } : Jvm.MethodName)) ∈ lw_tbl := lw_at lw_m5 126 rfl
theorem q1242 : (Jvm.Cond.instanceMethod ({ cls := "TruthBridge", name := "walkOf", desc := "(I)I" } : Jvm.MethodName)) ∈ lw_all := lw_g (lw_at lw_m5 127 rfl) rfl
theorem q1243 : (Jvm.Cond.code ({ cls := "TruthBridge", name := "walkOf", desc := "(I)I" } : Jvm.MethodName) prog_1_method_59_code (4 : Nat) (Option.some Jvm.ClassFile.FieldType.int)) ∈ lw_all := lw_g (lw_at lw_m5 128 rfl) rfl
theorem q1244 : (Jvm.Cond.methodLink "TruthBridge" (392 : Nat) ({ cls := "TruthBridge", name := "isWalkGood", desc := "(II)Z" } : Jvm.MethodName)) ∈ lw_all := lw_g (lw_at lw_m5 129 rfl) rfl
theorem q1245 : (Jvm.Cond.privateMethod ({ cls := "TruthBridge", name := "isWalkGood", desc := "(II)Z" } : Jvm.MethodName)) ∈ lw_tbl := lw_at lw_m5 130 rfl
theorem q1246 : (Jvm.Cond.instanceMethod ({ cls := "TruthBridge", name := "isWalkGood", desc := "(II)Z" } : Jvm.MethodName)) ∈ lw_all := lw_g (lw_at lw_m5 131 rfl) rfl
theorem q1247 : (Jvm.Cond.code ({ cls := "TruthBridge", name := "isWalkGood", desc := "(II)Z" } : Jvm.MethodName) prog_1_method_60_code (5 : Nat) (Option.some Jvm.ClassFile.FieldType.boolean)) ∈ lw_all := lw_g (lw_at lw_m5 132 rfl) rfl
theorem q1248 : (Jvm.Cond.methodLink "TruthBridge" (383 : Nat) ({ cls := "TruthBridge$Gorge", name := "standsAs", desc := "(LTruthBridge$Gorge;)LTruthBridge$Gorge;" } : Jvm.MethodName)) ∈ lw_all := lw_g (lw_at lw_m5 133 rfl) rfl
theorem q1250 : (Jvm.Cond.instanceMethod ({ cls := "TruthBridge", name := "bought", desc := "(II)I" } : Jvm.MethodName)) ∈ lw_all := lw_g (lw_at lw_m5 135 rfl) rfl
theorem q1251 : (Jvm.Cond.selects "TruthBridge" ({ cls := "TruthBridge", name := "bought", desc := "(II)I" } : Jvm.MethodName) ({ cls := "TruthBridge", name := "bought", desc := "(II)I" } : Jvm.MethodName)) ∈ lw_all := lw_g (lw_at lw_m5 136 rfl) rfl
theorem q1252 : (Jvm.Cond.code ({ cls := "TruthBridge", name := "bought", desc := "(II)I" } : Jvm.MethodName) prog_1_method_64_code (5 : Nat) (Option.some Jvm.ClassFile.FieldType.int)) ∈ lw_all := lw_g (lw_at lw_m5 137 rfl) rfl
theorem q1253 : (Jvm.Cond.methodLink "TruthBridge" (395 : Nat) ({ cls := "TruthBridge", name := "paidFor", desc := "(I)I" } : Jvm.MethodName)) ∈ lw_all := lw_g (lw_at lw_m5 138 rfl) rfl
theorem q1254 : (Jvm.Cond.privateMethod ({ cls := "TruthBridge", name := "paidFor", desc := "(I)I" } : Jvm.MethodName)) ∈ lw_tbl := lw_at lw_m5 139 rfl
theorem q1255 : (Jvm.Cond.instanceMethod ({ cls := "TruthBridge", name := "paidFor", desc := "(I)I" } : Jvm.MethodName)) ∈ lw_all := lw_g (lw_at lw_m5 140 rfl) rfl
theorem q1256 : (Jvm.Cond.code ({ cls := "TruthBridge", name := "paidFor", desc := "(I)I" } : Jvm.MethodName) prog_1_method_62_code (4 : Nat) (Option.some Jvm.ClassFile.FieldType.int)) ∈ lw_all := lw_g (lw_at lw_m5 141 rfl) rfl
theorem q1257 : (Jvm.Cond.methodLink "TruthBridge" (398 : Nat) ({ cls := "TruthBridge", name := "isBuyGood", desc := "(II)Z" } : Jvm.MethodName)) ∈ lw_all := lw_g (lw_at lw_m5 142 rfl) rfl
theorem q1258 : (Jvm.Cond.privateMethod ({ cls := "TruthBridge", name := "isBuyGood", desc := "(II)Z" } : Jvm.MethodName)) ∈ lw_tbl := lw_at lw_m5 143 rfl
theorem q1259 : (Jvm.Cond.instanceMethod ({ cls := "TruthBridge", name := "isBuyGood", desc := "(II)Z" } : Jvm.MethodName)) ∈ lw_all := lw_g (lw_at lw_m5 144 rfl) rfl
theorem q1260 : (Jvm.Cond.code ({ cls := "TruthBridge", name := "isBuyGood", desc := "(II)Z" } : Jvm.MethodName) prog_1_method_63_code (6 : Nat) (Option.some Jvm.ClassFile.FieldType.boolean)) ∈ lw_all := lw_g (lw_at lw_m5 145 rfl) rfl
theorem q1262 : (Jvm.Cond.instanceMethod ({ cls := "TruthBridge", name := "trial", desc := "(IZ)I" } : Jvm.MethodName)) ∈ lw_all := lw_g (lw_at lw_m5 147 rfl) rfl
theorem q1263 : (Jvm.Cond.selects "TruthBridge" ({ cls := "TruthBridge", name := "trial", desc := "(IZ)I" } : Jvm.MethodName) ({ cls := "TruthBridge", name := "trial", desc := "(IZ)I" } : Jvm.MethodName)) ∈ lw_all := lw_g (lw_at lw_m5 148 rfl) rfl
theorem q1264 : (Jvm.Cond.code ({ cls := "TruthBridge", name := "trial", desc := "(IZ)I" } : Jvm.MethodName) prog_1_method_65_code (3 : Nat) (Option.some Jvm.ClassFile.FieldType.int)) ∈ lw_all := lw_g (lw_at lw_m5 149 rfl) rfl
theorem q1266 : (Jvm.Cond.instanceMethod ({ cls := "TruthBridge", name := "sets", desc := "(I)I" } : Jvm.MethodName)) ∈ lw_all := lw_g (lw_at lw_m5 151 rfl) rfl
theorem q1267 : (Jvm.Cond.selects "TruthBridge" ({ cls := "TruthBridge", name := "sets", desc := "(I)I" } : Jvm.MethodName) ({ cls := "TruthBridge", name := "sets", desc := "(I)I" } : Jvm.MethodName)) ∈ lw_all := lw_g (lw_at lw_m5 152 rfl) rfl
theorem q1268 : (Jvm.Cond.code ({ cls := "TruthBridge", name := "sets", desc := "(I)I" } : Jvm.MethodName) prog_1_method_68_code (6 : Nat) (Option.some Jvm.ClassFile.FieldType.int)) ∈ lw_all := lw_g (lw_at lw_m5 153 rfl) rfl
theorem q1269 : (Jvm.Cond.constantLong "TruthBridge" (413 : Nat) (2 : Int64)) ∈ lw_all := lw_g (lw_at lw_m5 154 rfl) rfl
theorem q1270 : (Jvm.Cond.methodLink "TruthBridge" (415 : Nat) ({ cls := "TruthBridge", name := "gathersFit", desc := "()V" } : Jvm.MethodName)) ∈ lw_all := lw_g (lw_at lw_m5 155 rfl) rfl
theorem q1271 : (Jvm.Cond.privateMethod ({ cls := "TruthBridge", name := "gathersFit", desc := "()V" } : Jvm.MethodName)) ∈ lw_tbl := lw_at lw_m5 156 rfl
theorem q1272 : (Jvm.Cond.instanceMethod ({ cls := "TruthBridge", name := "gathersFit", desc := "()V" } : Jvm.MethodName)) ∈ lw_all := lw_g (lw_at lw_m5 157 rfl) rfl
theorem q1273 : (Jvm.Cond.code ({ cls := "TruthBridge", name := "gathersFit", desc := "()V" } : Jvm.MethodName) prog_1_method_67_code (2 : Nat) (Option.none : Option Jvm.ClassFile.FieldType)) ∈ lw_all := lw_g (lw_at lw_m5 158 rfl) rfl
theorem q1274 : (Jvm.Cond.methodLink "TruthBridge" (410 : Nat) ({ cls := "TruthBridge", name := "isTried", desc := "(I)Z" } : Jvm.MethodName)) ∈ lw_all := lw_g (lw_at lw_m5 159 rfl) rfl
theorem q1275 : (Jvm.Cond.privateMethod ({ cls := "TruthBridge", name := "isTried", desc := "(I)Z" } : Jvm.MethodName)) ∈ lw_tbl := lw_at lw_m5 160 rfl
theorem q1276 : (Jvm.Cond.instanceMethod ({ cls := "TruthBridge", name := "isTried", desc := "(I)Z" } : Jvm.MethodName)) ∈ lw_all := lw_g (lw_at lw_m5 161 rfl) rfl
theorem q1277 : (Jvm.Cond.code ({ cls := "TruthBridge", name := "isTried", desc := "(I)Z" } : Jvm.MethodName) prog_1_method_66_code (3 : Nat) (Option.some Jvm.ClassFile.FieldType.boolean)) ∈ lw_all := lw_g (lw_at lw_m5 162 rfl) rfl
theorem q1279 : (Jvm.Cond.instanceMethod ({ cls := "TruthBridge", name := "next", desc := "(I)I" } : Jvm.MethodName)) ∈ lw_all := lw_g (lw_at lw_m5 164 rfl) rfl
theorem q1280 : (Jvm.Cond.selects "TruthBridge" ({ cls := "TruthBridge", name := "next", desc := "(I)I" } : Jvm.MethodName) ({ cls := "TruthBridge", name := "next", desc := "(I)I" } : Jvm.MethodName)) ∈ lw_all := lw_g (lw_at lw_m5 165 rfl) rfl
theorem q1281 : (Jvm.Cond.code ({ cls := "TruthBridge", name := "next", desc := "(I)I" } : Jvm.MethodName) prog_1_method_69_code (7 : Nat) (Option.some Jvm.ClassFile.FieldType.int)) ∈ lw_all := lw_g (lw_at lw_m5 166 rfl) rfl
theorem q1283 : (Jvm.Cond.instanceMethod ({ cls := "TruthBridge", name := "seed", desc := "(I)I" } : Jvm.MethodName)) ∈ lw_all := lw_g (lw_at lw_m5 168 rfl) rfl
theorem q1284 : (Jvm.Cond.selects "TruthBridge" ({ cls := "TruthBridge", name := "seed", desc := "(I)I" } : Jvm.MethodName) ({ cls := "TruthBridge", name := "seed", desc := "(I)I" } : Jvm.MethodName)) ∈ lw_all := lw_g (lw_at lw_m5 169 rfl) rfl
theorem q1285 : (Jvm.Cond.code ({ cls := "TruthBridge", name := "seed", desc := "(I)I" } : Jvm.MethodName) prog_1_method_70_code (3 : Nat) (Option.some Jvm.ClassFile.FieldType.int)) ∈ lw_all := lw_g (lw_at lw_m5 170 rfl) rfl
theorem q1287 : (Jvm.Cond.instanceMethod ({ cls := "TruthBridge", name := "years", desc := "(III)I" } : Jvm.MethodName)) ∈ lw_all := lw_g (lw_at lw_m5 172 rfl) rfl
theorem q1288 : (Jvm.Cond.selects "TruthBridge" ({ cls := "TruthBridge", name := "years", desc := "(III)I" } : Jvm.MethodName) ({ cls := "TruthBridge", name := "years", desc := "(III)I" } : Jvm.MethodName)) ∈ lw_all := lw_g (lw_at lw_m5 173 rfl) rfl
theorem q1289 : (Jvm.Cond.code ({ cls := "TruthBridge", name := "years", desc := "(III)I" } : Jvm.MethodName) prog_1_method_73_code (8 : Nat) (Option.some Jvm.ClassFile.FieldType.int)) ∈ lw_all := lw_g (lw_at lw_m5 174 rfl) rfl
theorem q1290 : (Jvm.Cond.constantLong "TruthBridge" (440 : Nat) (10 : Int64)) ∈ lw_all := lw_g (lw_at lw_m5 175 rfl) rfl
theorem q1291 : (Jvm.Cond.methodLink "TruthBridge" (442 : Nat) ({ cls := "TruthBridge", name := "dayDrawn", desc := "(LTruthBridge$Gorge;)V" } : Jvm.MethodName)) ∈ lw_all := lw_g (lw_at lw_m5 176 rfl) rfl
theorem q1292 : (Jvm.Cond.privateMethod ({ cls := "TruthBridge", name := "dayDrawn", desc := "(LTruthBridge$Gorge;)V" } : Jvm.MethodName)) ∈ lw_tbl := lw_at lw_m5 177 rfl
theorem q1293 : (Jvm.Cond.instanceMethod ({ cls := "TruthBridge", name := "dayDrawn", desc := "(LTruthBridge$Gorge;)V" } : Jvm.MethodName)) ∈ lw_all := lw_g (lw_at lw_m5 178 rfl) rfl
theorem q1294 : (Jvm.Cond.code ({ cls := "TruthBridge", name := "dayDrawn", desc := "(LTruthBridge$Gorge;)V" } : Jvm.MethodName) prog_1_method_72_code (4 : Nat) (Option.none : Option Jvm.ClassFile.FieldType)) ∈ lw_all := lw_g (lw_at lw_m5 179 rfl) rfl
theorem q1295 : (Jvm.Cond.methodLink "TruthBridge" (431 : Nat) ({ cls := "TruthBridge", name := "draw", desc := "(I)I" } : Jvm.MethodName)) ∈ lw_all := lw_g (lw_at lw_m5 180 rfl) rfl
theorem q1296 : (Jvm.Cond.privateMethod ({ cls := "TruthBridge", name := "draw", desc := "(I)I" } : Jvm.MethodName)) ∈ lw_tbl := lw_at lw_m5 181 rfl
theorem q1297 : (Jvm.Cond.instanceMethod ({ cls := "TruthBridge", name := "draw", desc := "(I)I" } : Jvm.MethodName)) ∈ lw_all := lw_g (lw_at lw_m5 182 rfl) rfl
theorem q1298 : (Jvm.Cond.code ({ cls := "TruthBridge", name := "draw", desc := "(I)I" } : Jvm.MethodName) prog_1_method_71_code (2 : Nat) (Option.some Jvm.ClassFile.FieldType.int)) ∈ lw_all := lw_g (lw_at lw_m5 183 rfl) rfl
theorem q1299 : (Jvm.Cond.constantLong "TruthBridge" (424 : Nat) (1103515245 : Int64)) ∈ lw_all := lw_g (lw_at lw_m5 184 rfl) rfl
theorem q1300 : (Jvm.Cond.constantLong "TruthBridge" (426 : Nat) (12345 : Int64)) ∈ lw_all := lw_g (lw_at lw_m5 185 rfl) rfl
theorem q1301 : (Jvm.Cond.constantLong "TruthBridge" (428 : Nat) (2147483648 : Int64)) ∈ lw_all := lw_g (lw_at lw_m5 186 rfl) rfl
theorem q1302 : (Jvm.Cond.constant "TruthBridge" (430 : Nat) (65536 : Int32)) ∈ lw_all := lw_g (lw_at lw_m5 187 rfl) rfl
theorem q1304 : (Jvm.Cond.instanceMethod ({ cls := "TruthBridge", name := "count", desc := "(I)I" } : Jvm.MethodName)) ∈ lw_all := lw_g (lw_at lw_m5 189 rfl) rfl
theorem q1305 : (Jvm.Cond.selects "TruthBridge" ({ cls := "TruthBridge", name := "count", desc := "(I)I" } : Jvm.MethodName) ({ cls := "TruthBridge", name := "count", desc := "(I)I" } : Jvm.MethodName)) ∈ lw_all := lw_g (lw_at lw_m5 190 rfl) rfl
theorem q1306 : (Jvm.Cond.code ({ cls := "TruthBridge", name := "count", desc := "(I)I" } : Jvm.MethodName) prog_1_method_74_code (2 : Nat) (Option.some Jvm.ClassFile.FieldType.int)) ∈ lw_all := lw_g (lw_at lw_m5 191 rfl) rfl
theorem q1307 : (Jvm.Cond.constantLong "TruthBridge" (446 : Nat) (13 : Int64)) ∈ lw_all := lw_g (lw_at lw_m5 192 rfl) rfl
theorem q1309 : (Jvm.Cond.instanceMethod ({ cls := "TruthBridge", name := "image", desc := "(I)I" } : Jvm.MethodName)) ∈ lw_all := lw_g (lw_at lw_m5 194 rfl) rfl
theorem q1310 : (Jvm.Cond.selects "TruthBridge" ({ cls := "TruthBridge", name := "image", desc := "(I)I" } : Jvm.MethodName) ({ cls := "TruthBridge", name := "image", desc := "(I)I" } : Jvm.MethodName)) ∈ lw_all := lw_g (lw_at lw_m5 195 rfl) rfl
theorem q1311 : (Jvm.Cond.code ({ cls := "TruthBridge", name := "image", desc := "(I)I" } : Jvm.MethodName) prog_1_method_75_code (3 : Nat) (Option.some Jvm.ClassFile.FieldType.int)) ∈ lw_all := lw_g (lw_at lw_m5 196 rfl) rfl
theorem q1312 : (Jvm.Cond.constantLong "TruthBridge" (451 : Nat) (3 : Int64)) ∈ lw_all := lw_g (lw_at lw_m5 197 rfl) rfl
theorem q1314 : (Jvm.Cond.methodLinkNest "TruthBridge" (453 : Nat) ({ cls := "TruthBridge$Image", name := "<init>", desc := "()V" } : Jvm.MethodName) "TruthBridge") ∈ lw_tbl := lw_at lw_m5 199 rfl
theorem q1321 : (Jvm.Cond.fieldLinkNest "TruthBridge" (458 : Nat) "TruthBridge$Image" "land" "LTruthBridge$Gorge;" "TruthBridge") ∈ lw_tbl := lw_at lw_m5 206 rfl
theorem q1322 : (Jvm.Cond.fieldLinkNest "TruthBridge" (454 : Nat) "TruthBridge$Image" "isTold" "Z" "TruthBridge") ∈ lw_tbl := lw_at lw_m5 207 rfl
theorem q1323 : (Jvm.Cond.fieldLinkNest "TruthBridge" (457 : Nat) "TruthBridge$Image" "x" "I" "TruthBridge") ∈ lw_tbl := lw_at lw_m5 208 rfl
theorem q1332 : (Jvm.Cond.instanceMethod ({ cls := "TruthBridge", name := "back", desc := "(I)I" } : Jvm.MethodName)) ∈ lw_all := lw_g (lw_at lw_m5 217 rfl) rfl
theorem q1333 : (Jvm.Cond.selects "TruthBridge" ({ cls := "TruthBridge", name := "back", desc := "(I)I" } : Jvm.MethodName) ({ cls := "TruthBridge", name := "back", desc := "(I)I" } : Jvm.MethodName)) ∈ lw_all := lw_g (lw_at lw_m5 218 rfl) rfl
theorem q1334 : (Jvm.Cond.code ({ cls := "TruthBridge", name := "back", desc := "(I)I" } : Jvm.MethodName) prog_1_method_76_code (2 : Nat) (Option.some Jvm.ClassFile.FieldType.int)) ∈ lw_all := lw_g (lw_at lw_m5 219 rfl) rfl
theorem in_X0 : ∀ w ∈ wsX00, w ∈ lw_all := lw_in wsX00 [438, 440, 442, 444, 446, 448, 450, 452, 454, 456, 458, 460, 462, 464, 466, 468, 470, 472, 474, 476, 478, 480, 482, 484, 486, 488, 490, 492, 494, 496] (by decide +kernel) (by decide +kernel)
