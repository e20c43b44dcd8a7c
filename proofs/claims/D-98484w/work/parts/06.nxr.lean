/-! TruthBridge$Gorge -/
set_option maxRecDepth 100000
def RX1 : String := "TruthBridge$Gorge"
def TX1 : u_T := fun k => match k with
  | 0 => ("TruthBridge$Gorge", "factMany", "I", false)
  | 1 => ("TruthBridge$Gorge", "so", "I", false)
  | 2 => ("TruthBridge$Gorge", "personMany", "I", false)
  | 3 => ("TruthBridge$Gorge", "placeMany", "I", false)
  | 4 => ("TruthBridge$Gorge", "pathMany", "I", false)
  | 5 => ("TruthBridge$Gorge", "turnMany", "I", false)
  | 6 => ("TruthBridge$Gorge", "day", "I", false)
  | 7 => ("TruthBridge$Gorge", "undoMany", "I", false)
  | 8 => ("TruthBridge$Gorge", "trialMany", "I", false)
  | 9 => ("TruthBridge$Gorge", "side", "[I", true)
  | 10 => ("TruthBridge$Gorge", "weight", "[I", true)
  | 11 => ("TruthBridge$Gorge", "coins", "[I", true)
  | 12 => ("TruthBridge$Gorge", "hours", "[I", true)
  | 13 => ("TruthBridge$Gorge", "fell", "[I", true)
  | 14 => ("TruthBridge$Gorge", "seen", "[I", true)
  | 15 => ("TruthBridge$Gorge", "far", "[I", true)
  | 16 => ("TruthBridge$Gorge", "turnFact", "[I", true)
  | 17 => ("TruthBridge$Gorge", "turnDay", "[I", true)
  | 18 => ("TruthBridge$Gorge", "trialOf", "[I", true)
  | 19 => ("TruthBridge$Gorge", "held", "[J", true)
  | 20 => ("TruthBridge$Gorge", "undoHeld", "[J", true)
  | _ => ("TruthBridge$Gorge", "undo", "[I", true)
def tyX1 : Nat → FieldType := fun k => match k with
  | 0 => .int
  | 1 => .int
  | 2 => .int
  | 3 => .int
  | 4 => .int
  | 5 => .int
  | 6 => .int
  | 7 => .int
  | 8 => .int
  | 9 => .array .int
  | 10 => .array .int
  | 11 => .array .int
  | 12 => .array .int
  | 13 => .array .int
  | 14 => .array .int
  | 15 => .array .int
  | 16 => .array .int
  | 17 => .array .int
  | 18 => .array .int
  | 19 => .array .long
  | 20 => .array .long
  | _ => .array .int
abbrev wsX10 : List Cond := u_ws RX1 TX1 22
set_option maxRecDepth 100000 in
theorem nmX1 : ∀ a, a < 22 → ∀ b, b < 22 → a ≠ b → (TX1 a).2.1 ≠ (TX1 b).2.1 := by decide +kernel
set_option maxRecDepth 100000 in
theorem tyX1_ok : ∀ k, k < 22 → parseFieldDescriptor (TX1 k).2.2.1 = some (tyX1 k) := by decide +kernel
abbrev cX1_init : ByteArray := prog_7_method_1_code
def yX1_init : MethodName := ⟨RX1, "<init>", "()V"⟩
def dkwX1_init_4 : List UInt8 := [17, 2, 48, 188, 11, 181, 0, 46, 42, 17, 1, 144, 188, 10, 181, 0, 49, 177]
abbrev dktX1_init_4 : List UInt8 := dkwX1_init_4 ++ []
def dkwX1_init_3 : List UInt8 := [188, 10, 181, 0, 36, 42, 16, 20, 188, 10, 181, 0, 39, 42, 16, 28, 188, 11, 181, 0, 42, 42]
abbrev dktX1_init_3 : List UInt8 := dkwX1_init_3 ++ dktX1_init_4
def dkwX1_init_2 : List UInt8 := [188, 10, 181, 0, 27, 42, 16, 36, 188, 10, 181, 0, 30, 42, 16, 8, 188, 10, 181, 0, 33, 42, 16, 8]
abbrev dktX1_init_2 : List UInt8 := dkwX1_init_2 ++ dktX1_init_3
def dkwX1_init_1 : List UInt8 := [188, 10, 181, 0, 18, 42, 16, 6, 188, 10, 181, 0, 21, 42, 16, 6, 188, 10, 181, 0, 24, 42, 16, 6]
abbrev dktX1_init_1 : List UInt8 := dkwX1_init_1 ++ dktX1_init_2
def dkwX1_init_0 : List UInt8 := [42, 183, 0, 3, 42, 16, 6, 188, 10, 181, 0, 9, 42, 16, 6, 188, 10, 181, 0, 15, 42, 16, 6]
abbrev dktX1_init_0 : List UInt8 := dkwX1_init_0 ++ dktX1_init_1
theorem dksX1_init_0 : cX1_init.data.toList.drop 0 = dktX1_init_0 := by decide +kernel
theorem dksX1_init_1 : cX1_init.data.toList.drop 23 = dktX1_init_1 := dk_seg dksX1_init_0 23 rfl rfl
theorem dksX1_init_2 : cX1_init.data.toList.drop 47 = dktX1_init_2 := dk_seg dksX1_init_1 24 rfl rfl
theorem dksX1_init_3 : cX1_init.data.toList.drop 71 = dktX1_init_3 := dk_seg dksX1_init_2 24 rfl rfl
theorem dksX1_init_4 : cX1_init.data.toList.drop 93 = dktX1_init_4 := dk_seg dksX1_init_3 22 rfl rfl
theorem dX1_init_0 : decode cX1_init 0 = .ok (.aload_n 0, 1) := dk_42 (dk_at dksX1_init_0 0 rfl rfl)
theorem dX1_init_1 : decode cX1_init 1 = .ok (.invokespecial 3, 3) := dk_183 0 3 (dk_at dksX1_init_0 1 rfl rfl)
theorem dX1_init_4 : decode cX1_init 4 = .ok (.aload_n 0, 1) := dk_42 (dk_at dksX1_init_0 4 rfl rfl)
theorem dX1_init_5 : decode cX1_init 5 = .ok (.bipush 6, 2) := dk_16 6 (dk_at dksX1_init_0 5 rfl rfl)
theorem dX1_init_7 : decode cX1_init 7 = .ok (.newarray .int, 2) := dk_188_10 (dk_at dksX1_init_0 7 rfl rfl)
theorem dX1_init_9 : decode cX1_init 9 = .ok (.putfield 9, 3) := dk_181 0 9 (dk_at dksX1_init_0 9 rfl rfl)
theorem dX1_init_12 : decode cX1_init 12 = .ok (.aload_n 0, 1) := dk_42 (dk_at dksX1_init_0 12 rfl rfl)
theorem dX1_init_13 : decode cX1_init 13 = .ok (.bipush 6, 2) := dk_16 6 (dk_at dksX1_init_0 13 rfl rfl)
theorem dX1_init_15 : decode cX1_init 15 = .ok (.newarray .int, 2) := dk_188_10 (dk_at dksX1_init_0 15 rfl rfl)
theorem dX1_init_17 : decode cX1_init 17 = .ok (.putfield 15, 3) := dk_181 0 15 (dk_at dksX1_init_0 17 rfl rfl)
theorem dX1_init_20 : decode cX1_init 20 = .ok (.aload_n 0, 1) := dk_42 (dk_at dksX1_init_0 20 rfl rfl)
theorem dX1_init_21 : decode cX1_init 21 = .ok (.bipush 6, 2) := dk_16 6 (dk_at dksX1_init_0 21 rfl rfl)
theorem dX1_init_23 : decode cX1_init 23 = .ok (.newarray .int, 2) := dk_188_10 (dk_at dksX1_init_1 0 rfl rfl)
theorem dX1_init_25 : decode cX1_init 25 = .ok (.putfield 18, 3) := dk_181 0 18 (dk_at dksX1_init_1 2 rfl rfl)
theorem dX1_init_28 : decode cX1_init 28 = .ok (.aload_n 0, 1) := dk_42 (dk_at dksX1_init_1 5 rfl rfl)
theorem dX1_init_29 : decode cX1_init 29 = .ok (.bipush 6, 2) := dk_16 6 (dk_at dksX1_init_1 6 rfl rfl)
theorem dX1_init_31 : decode cX1_init 31 = .ok (.newarray .int, 2) := dk_188_10 (dk_at dksX1_init_1 8 rfl rfl)
theorem dX1_init_33 : decode cX1_init 33 = .ok (.putfield 21, 3) := dk_181 0 21 (dk_at dksX1_init_1 10 rfl rfl)
theorem dX1_init_36 : decode cX1_init 36 = .ok (.aload_n 0, 1) := dk_42 (dk_at dksX1_init_1 13 rfl rfl)
theorem dX1_init_37 : decode cX1_init 37 = .ok (.bipush 6, 2) := dk_16 6 (dk_at dksX1_init_1 14 rfl rfl)
theorem dX1_init_39 : decode cX1_init 39 = .ok (.newarray .int, 2) := dk_188_10 (dk_at dksX1_init_1 16 rfl rfl)
theorem dX1_init_41 : decode cX1_init 41 = .ok (.putfield 24, 3) := dk_181 0 24 (dk_at dksX1_init_1 18 rfl rfl)
theorem dX1_init_44 : decode cX1_init 44 = .ok (.aload_n 0, 1) := dk_42 (dk_at dksX1_init_1 21 rfl rfl)
theorem dX1_init_45 : decode cX1_init 45 = .ok (.bipush 6, 2) := dk_16 6 (dk_at dksX1_init_1 22 rfl rfl)
theorem dX1_init_47 : decode cX1_init 47 = .ok (.newarray .int, 2) := dk_188_10 (dk_at dksX1_init_2 0 rfl rfl)
theorem dX1_init_49 : decode cX1_init 49 = .ok (.putfield 27, 3) := dk_181 0 27 (dk_at dksX1_init_2 2 rfl rfl)
theorem dX1_init_52 : decode cX1_init 52 = .ok (.aload_n 0, 1) := dk_42 (dk_at dksX1_init_2 5 rfl rfl)
theorem dX1_init_53 : decode cX1_init 53 = .ok (.bipush 36, 2) := dk_16 36 (dk_at dksX1_init_2 6 rfl rfl)
theorem dX1_init_55 : decode cX1_init 55 = .ok (.newarray .int, 2) := dk_188_10 (dk_at dksX1_init_2 8 rfl rfl)
theorem dX1_init_57 : decode cX1_init 57 = .ok (.putfield 30, 3) := dk_181 0 30 (dk_at dksX1_init_2 10 rfl rfl)
theorem dX1_init_60 : decode cX1_init 60 = .ok (.aload_n 0, 1) := dk_42 (dk_at dksX1_init_2 13 rfl rfl)
theorem dX1_init_61 : decode cX1_init 61 = .ok (.bipush 8, 2) := dk_16 8 (dk_at dksX1_init_2 14 rfl rfl)
theorem dX1_init_63 : decode cX1_init 63 = .ok (.newarray .int, 2) := dk_188_10 (dk_at dksX1_init_2 16 rfl rfl)
theorem dX1_init_65 : decode cX1_init 65 = .ok (.putfield 33, 3) := dk_181 0 33 (dk_at dksX1_init_2 18 rfl rfl)
theorem dX1_init_68 : decode cX1_init 68 = .ok (.aload_n 0, 1) := dk_42 (dk_at dksX1_init_2 21 rfl rfl)
theorem dX1_init_69 : decode cX1_init 69 = .ok (.bipush 8, 2) := dk_16 8 (dk_at dksX1_init_2 22 rfl rfl)
theorem dX1_init_71 : decode cX1_init 71 = .ok (.newarray .int, 2) := dk_188_10 (dk_at dksX1_init_3 0 rfl rfl)
theorem dX1_init_73 : decode cX1_init 73 = .ok (.putfield 36, 3) := dk_181 0 36 (dk_at dksX1_init_3 2 rfl rfl)
theorem dX1_init_76 : decode cX1_init 76 = .ok (.aload_n 0, 1) := dk_42 (dk_at dksX1_init_3 5 rfl rfl)
theorem dX1_init_77 : decode cX1_init 77 = .ok (.bipush 20, 2) := dk_16 20 (dk_at dksX1_init_3 6 rfl rfl)
theorem dX1_init_79 : decode cX1_init 79 = .ok (.newarray .int, 2) := dk_188_10 (dk_at dksX1_init_3 8 rfl rfl)
theorem dX1_init_81 : decode cX1_init 81 = .ok (.putfield 39, 3) := dk_181 0 39 (dk_at dksX1_init_3 10 rfl rfl)
theorem dX1_init_84 : decode cX1_init 84 = .ok (.aload_n 0, 1) := dk_42 (dk_at dksX1_init_3 13 rfl rfl)
theorem dX1_init_85 : decode cX1_init 85 = .ok (.bipush 28, 2) := dk_16 28 (dk_at dksX1_init_3 14 rfl rfl)
theorem dX1_init_87 : decode cX1_init 87 = .ok (.newarray .long, 2) := dk_188_11 (dk_at dksX1_init_3 16 rfl rfl)
theorem dX1_init_89 : decode cX1_init 89 = .ok (.putfield 42, 3) := dk_181 0 42 (dk_at dksX1_init_3 18 rfl rfl)
theorem dX1_init_92 : decode cX1_init 92 = .ok (.aload_n 0, 1) := dk_42 (dk_at dksX1_init_3 21 rfl rfl)
theorem dX1_init_93 : decode cX1_init 93 = .ok (.sipush 560, 3) := dk_17 2 48 (dk_at dksX1_init_4 0 rfl rfl)
theorem dX1_init_96 : decode cX1_init 96 = .ok (.newarray .long, 2) := dk_188_11 (dk_at dksX1_init_4 3 rfl rfl)
theorem dX1_init_98 : decode cX1_init 98 = .ok (.putfield 46, 3) := dk_181 0 46 (dk_at dksX1_init_4 5 rfl rfl)
theorem dX1_init_101 : decode cX1_init 101 = .ok (.aload_n 0, 1) := dk_42 (dk_at dksX1_init_4 8 rfl rfl)
theorem dX1_init_102 : decode cX1_init 102 = .ok (.sipush 400, 3) := dk_17 1 144 (dk_at dksX1_init_4 9 rfl rfl)
theorem dX1_init_105 : decode cX1_init 105 = .ok (.newarray .int, 2) := dk_188_10 (dk_at dksX1_init_4 12 rfl rfl)
theorem dX1_init_107 : decode cX1_init 107 = .ok (.putfield 49, 3) := dk_181 0 49 (dk_at dksX1_init_4 14 rfl rfl)
theorem dX1_init_110 : decode cX1_init 110 = .ok (.return_, 1) := dk_177 (dk_at dksX1_init_4 17 rfl rfl)
abbrev cX1_copies : ByteArray := prog_7_method_2_code
def yX1_copies : MethodName := ⟨RX1, "copies", "(LTruthBridge$Gorge;)LTruthBridge$Gorge;"⟩
def dkwX1_copies_8 : List UInt8 := [184, 0, 74, 42, 43, 182, 0, 80, 176]
abbrev dktX1_copies_8 : List UInt8 := dkwX1_copies_8 ++ []
def dkwX1_copies_7 : List UInt8 := [180, 0, 46, 3, 17, 2, 48, 184, 0, 74, 43, 180, 0, 49, 3, 42, 180, 0, 49, 3, 17, 1, 144]
abbrev dktX1_copies_7 : List UInt8 := dkwX1_copies_7 ++ dktX1_copies_8
def dkwX1_copies_6 : List UInt8 := [184, 0, 74, 43, 180, 0, 39, 3, 42, 180, 0, 39, 3, 16, 20, 184, 0, 74, 43, 180, 0, 46, 3, 42]
abbrev dktX1_copies_6 : List UInt8 := dkwX1_copies_6 ++ dktX1_copies_7
def dkwX1_copies_5 : List UInt8 := [3, 42, 180, 0, 33, 3, 16, 8, 184, 0, 74, 43, 180, 0, 36, 3, 42, 180, 0, 36, 3, 16, 8]
abbrev dktX1_copies_5 : List UInt8 := dkwX1_copies_5 ++ dktX1_copies_6
def dkwX1_copies_4 : List UInt8 := [16, 6, 184, 0, 74, 43, 180, 0, 30, 3, 42, 180, 0, 30, 3, 16, 36, 184, 0, 74, 43, 180, 0, 33]
abbrev dktX1_copies_4 : List UInt8 := dkwX1_copies_4 ++ dktX1_copies_5
def dkwX1_copies_3 : List UInt8 := [180, 0, 18, 3, 42, 180, 0, 18, 3, 16, 6, 184, 0, 74, 43, 180, 0, 27, 3, 42, 180, 0, 27, 3]
abbrev dktX1_copies_3 : List UInt8 := dkwX1_copies_3 ++ dktX1_copies_4
def dkwX1_copies_2 : List UInt8 := [42, 43, 180, 0, 71, 181, 0, 71, 43, 180, 0, 15, 3, 42, 180, 0, 15, 3, 16, 6, 184, 0, 74, 43]
abbrev dktX1_copies_2 : List UInt8 := dkwX1_copies_2 ++ dktX1_copies_3
def dkwX1_copies_1 : List UInt8 := [42, 43, 180, 0, 62, 181, 0, 62, 42, 43, 180, 0, 65, 181, 0, 65, 42, 43, 180, 0, 68, 181, 0, 68]
abbrev dktX1_copies_1 : List UInt8 := dkwX1_copies_1 ++ dktX1_copies_2
def dkwX1_copies_0 : List UInt8 := [42, 43, 180, 0, 52, 181, 0, 52, 42, 43, 180, 0, 56, 181, 0, 56, 42, 43, 180, 0, 59, 181, 0, 59]
abbrev dktX1_copies_0 : List UInt8 := dkwX1_copies_0 ++ dktX1_copies_1
theorem dksX1_copies_0 : cX1_copies.data.toList.drop 0 = dktX1_copies_0 := by decide +kernel
theorem dksX1_copies_1 : cX1_copies.data.toList.drop 24 = dktX1_copies_1 := dk_seg dksX1_copies_0 24 rfl rfl
theorem dksX1_copies_2 : cX1_copies.data.toList.drop 48 = dktX1_copies_2 := dk_seg dksX1_copies_1 24 rfl rfl
theorem dksX1_copies_3 : cX1_copies.data.toList.drop 72 = dktX1_copies_3 := dk_seg dksX1_copies_2 24 rfl rfl
theorem dksX1_copies_4 : cX1_copies.data.toList.drop 96 = dktX1_copies_4 := dk_seg dksX1_copies_3 24 rfl rfl
theorem dksX1_copies_5 : cX1_copies.data.toList.drop 120 = dktX1_copies_5 := dk_seg dksX1_copies_4 24 rfl rfl
theorem dksX1_copies_6 : cX1_copies.data.toList.drop 143 = dktX1_copies_6 := dk_seg dksX1_copies_5 23 rfl rfl
theorem dksX1_copies_7 : cX1_copies.data.toList.drop 167 = dktX1_copies_7 := dk_seg dksX1_copies_6 24 rfl rfl
theorem dksX1_copies_8 : cX1_copies.data.toList.drop 190 = dktX1_copies_8 := dk_seg dksX1_copies_7 23 rfl rfl
theorem dX1_copies_0 : decode cX1_copies 0 = .ok (.aload_n 0, 1) := dk_42 (dk_at dksX1_copies_0 0 rfl rfl)
theorem dX1_copies_1 : decode cX1_copies 1 = .ok (.aload_n 1, 1) := dk_43 (dk_at dksX1_copies_0 1 rfl rfl)
theorem dX1_copies_2 : decode cX1_copies 2 = .ok (.getfield 52, 3) := dk_180 0 52 (dk_at dksX1_copies_0 2 rfl rfl)
theorem dX1_copies_5 : decode cX1_copies 5 = .ok (.putfield 52, 3) := dk_181 0 52 (dk_at dksX1_copies_0 5 rfl rfl)
theorem dX1_copies_8 : decode cX1_copies 8 = .ok (.aload_n 0, 1) := dk_42 (dk_at dksX1_copies_0 8 rfl rfl)
theorem dX1_copies_9 : decode cX1_copies 9 = .ok (.aload_n 1, 1) := dk_43 (dk_at dksX1_copies_0 9 rfl rfl)
theorem dX1_copies_10 : decode cX1_copies 10 = .ok (.getfield 56, 3) := dk_180 0 56 (dk_at dksX1_copies_0 10 rfl rfl)
theorem dX1_copies_13 : decode cX1_copies 13 = .ok (.putfield 56, 3) := dk_181 0 56 (dk_at dksX1_copies_0 13 rfl rfl)
theorem dX1_copies_16 : decode cX1_copies 16 = .ok (.aload_n 0, 1) := dk_42 (dk_at dksX1_copies_0 16 rfl rfl)
theorem dX1_copies_17 : decode cX1_copies 17 = .ok (.aload_n 1, 1) := dk_43 (dk_at dksX1_copies_0 17 rfl rfl)
theorem dX1_copies_18 : decode cX1_copies 18 = .ok (.getfield 59, 3) := dk_180 0 59 (dk_at dksX1_copies_0 18 rfl rfl)
theorem dX1_copies_21 : decode cX1_copies 21 = .ok (.putfield 59, 3) := dk_181 0 59 (dk_at dksX1_copies_0 21 rfl rfl)
theorem dX1_copies_24 : decode cX1_copies 24 = .ok (.aload_n 0, 1) := dk_42 (dk_at dksX1_copies_1 0 rfl rfl)
theorem dX1_copies_25 : decode cX1_copies 25 = .ok (.aload_n 1, 1) := dk_43 (dk_at dksX1_copies_1 1 rfl rfl)
theorem dX1_copies_26 : decode cX1_copies 26 = .ok (.getfield 62, 3) := dk_180 0 62 (dk_at dksX1_copies_1 2 rfl rfl)
theorem dX1_copies_29 : decode cX1_copies 29 = .ok (.putfield 62, 3) := dk_181 0 62 (dk_at dksX1_copies_1 5 rfl rfl)
theorem dX1_copies_32 : decode cX1_copies 32 = .ok (.aload_n 0, 1) := dk_42 (dk_at dksX1_copies_1 8 rfl rfl)
theorem dX1_copies_33 : decode cX1_copies 33 = .ok (.aload_n 1, 1) := dk_43 (dk_at dksX1_copies_1 9 rfl rfl)
theorem dX1_copies_34 : decode cX1_copies 34 = .ok (.getfield 65, 3) := dk_180 0 65 (dk_at dksX1_copies_1 10 rfl rfl)
theorem dX1_copies_37 : decode cX1_copies 37 = .ok (.putfield 65, 3) := dk_181 0 65 (dk_at dksX1_copies_1 13 rfl rfl)
theorem dX1_copies_40 : decode cX1_copies 40 = .ok (.aload_n 0, 1) := dk_42 (dk_at dksX1_copies_1 16 rfl rfl)
theorem dX1_copies_41 : decode cX1_copies 41 = .ok (.aload_n 1, 1) := dk_43 (dk_at dksX1_copies_1 17 rfl rfl)
theorem dX1_copies_42 : decode cX1_copies 42 = .ok (.getfield 68, 3) := dk_180 0 68 (dk_at dksX1_copies_1 18 rfl rfl)
theorem dX1_copies_45 : decode cX1_copies 45 = .ok (.putfield 68, 3) := dk_181 0 68 (dk_at dksX1_copies_1 21 rfl rfl)
theorem dX1_copies_48 : decode cX1_copies 48 = .ok (.aload_n 0, 1) := dk_42 (dk_at dksX1_copies_2 0 rfl rfl)
theorem dX1_copies_49 : decode cX1_copies 49 = .ok (.aload_n 1, 1) := dk_43 (dk_at dksX1_copies_2 1 rfl rfl)
theorem dX1_copies_50 : decode cX1_copies 50 = .ok (.getfield 71, 3) := dk_180 0 71 (dk_at dksX1_copies_2 2 rfl rfl)
theorem dX1_copies_53 : decode cX1_copies 53 = .ok (.putfield 71, 3) := dk_181 0 71 (dk_at dksX1_copies_2 5 rfl rfl)
theorem dX1_copies_56 : decode cX1_copies 56 = .ok (.aload_n 1, 1) := dk_43 (dk_at dksX1_copies_2 8 rfl rfl)
theorem dX1_copies_57 : decode cX1_copies 57 = .ok (.getfield 15, 3) := dk_180 0 15 (dk_at dksX1_copies_2 9 rfl rfl)
theorem dX1_copies_60 : decode cX1_copies 60 = .ok (.iconst 0, 1) := dk_3 (dk_at dksX1_copies_2 12 rfl rfl)
theorem dX1_copies_61 : decode cX1_copies 61 = .ok (.aload_n 0, 1) := dk_42 (dk_at dksX1_copies_2 13 rfl rfl)
theorem dX1_copies_62 : decode cX1_copies 62 = .ok (.getfield 15, 3) := dk_180 0 15 (dk_at dksX1_copies_2 14 rfl rfl)
theorem dX1_copies_65 : decode cX1_copies 65 = .ok (.iconst 0, 1) := dk_3 (dk_at dksX1_copies_2 17 rfl rfl)
theorem dX1_copies_66 : decode cX1_copies 66 = .ok (.bipush 6, 2) := dk_16 6 (dk_at dksX1_copies_2 18 rfl rfl)
theorem dX1_copies_68 : decode cX1_copies 68 = .ok (.invokestatic 74, 3) := dk_184 0 74 (dk_at dksX1_copies_2 20 rfl rfl)
theorem dX1_copies_71 : decode cX1_copies 71 = .ok (.aload_n 1, 1) := dk_43 (dk_at dksX1_copies_2 23 rfl rfl)
theorem dX1_copies_72 : decode cX1_copies 72 = .ok (.getfield 18, 3) := dk_180 0 18 (dk_at dksX1_copies_3 0 rfl rfl)
theorem dX1_copies_75 : decode cX1_copies 75 = .ok (.iconst 0, 1) := dk_3 (dk_at dksX1_copies_3 3 rfl rfl)
theorem dX1_copies_76 : decode cX1_copies 76 = .ok (.aload_n 0, 1) := dk_42 (dk_at dksX1_copies_3 4 rfl rfl)
theorem dX1_copies_77 : decode cX1_copies 77 = .ok (.getfield 18, 3) := dk_180 0 18 (dk_at dksX1_copies_3 5 rfl rfl)
theorem dX1_copies_80 : decode cX1_copies 80 = .ok (.iconst 0, 1) := dk_3 (dk_at dksX1_copies_3 8 rfl rfl)
theorem dX1_copies_81 : decode cX1_copies 81 = .ok (.bipush 6, 2) := dk_16 6 (dk_at dksX1_copies_3 9 rfl rfl)
theorem dX1_copies_83 : decode cX1_copies 83 = .ok (.invokestatic 74, 3) := dk_184 0 74 (dk_at dksX1_copies_3 11 rfl rfl)
theorem dX1_copies_86 : decode cX1_copies 86 = .ok (.aload_n 1, 1) := dk_43 (dk_at dksX1_copies_3 14 rfl rfl)
theorem dX1_copies_87 : decode cX1_copies 87 = .ok (.getfield 27, 3) := dk_180 0 27 (dk_at dksX1_copies_3 15 rfl rfl)
theorem dX1_copies_90 : decode cX1_copies 90 = .ok (.iconst 0, 1) := dk_3 (dk_at dksX1_copies_3 18 rfl rfl)
theorem dX1_copies_91 : decode cX1_copies 91 = .ok (.aload_n 0, 1) := dk_42 (dk_at dksX1_copies_3 19 rfl rfl)
theorem dX1_copies_92 : decode cX1_copies 92 = .ok (.getfield 27, 3) := dk_180 0 27 (dk_at dksX1_copies_3 20 rfl rfl)
theorem dX1_copies_95 : decode cX1_copies 95 = .ok (.iconst 0, 1) := dk_3 (dk_at dksX1_copies_3 23 rfl rfl)
theorem dX1_copies_96 : decode cX1_copies 96 = .ok (.bipush 6, 2) := dk_16 6 (dk_at dksX1_copies_4 0 rfl rfl)
theorem dX1_copies_98 : decode cX1_copies 98 = .ok (.invokestatic 74, 3) := dk_184 0 74 (dk_at dksX1_copies_4 2 rfl rfl)
theorem dX1_copies_101 : decode cX1_copies 101 = .ok (.aload_n 1, 1) := dk_43 (dk_at dksX1_copies_4 5 rfl rfl)
theorem dX1_copies_102 : decode cX1_copies 102 = .ok (.getfield 30, 3) := dk_180 0 30 (dk_at dksX1_copies_4 6 rfl rfl)
theorem dX1_copies_105 : decode cX1_copies 105 = .ok (.iconst 0, 1) := dk_3 (dk_at dksX1_copies_4 9 rfl rfl)
theorem dX1_copies_106 : decode cX1_copies 106 = .ok (.aload_n 0, 1) := dk_42 (dk_at dksX1_copies_4 10 rfl rfl)
theorem dX1_copies_107 : decode cX1_copies 107 = .ok (.getfield 30, 3) := dk_180 0 30 (dk_at dksX1_copies_4 11 rfl rfl)
theorem dX1_copies_110 : decode cX1_copies 110 = .ok (.iconst 0, 1) := dk_3 (dk_at dksX1_copies_4 14 rfl rfl)
theorem dX1_copies_111 : decode cX1_copies 111 = .ok (.bipush 36, 2) := dk_16 36 (dk_at dksX1_copies_4 15 rfl rfl)
theorem dX1_copies_113 : decode cX1_copies 113 = .ok (.invokestatic 74, 3) := dk_184 0 74 (dk_at dksX1_copies_4 17 rfl rfl)
theorem dX1_copies_116 : decode cX1_copies 116 = .ok (.aload_n 1, 1) := dk_43 (dk_at dksX1_copies_4 20 rfl rfl)
theorem dX1_copies_117 : decode cX1_copies 117 = .ok (.getfield 33, 3) := dk_180 0 33 (dk_at dksX1_copies_4 21 rfl rfl)
theorem dX1_copies_120 : decode cX1_copies 120 = .ok (.iconst 0, 1) := dk_3 (dk_at dksX1_copies_5 0 rfl rfl)
theorem dX1_copies_121 : decode cX1_copies 121 = .ok (.aload_n 0, 1) := dk_42 (dk_at dksX1_copies_5 1 rfl rfl)
theorem dX1_copies_122 : decode cX1_copies 122 = .ok (.getfield 33, 3) := dk_180 0 33 (dk_at dksX1_copies_5 2 rfl rfl)
theorem dX1_copies_125 : decode cX1_copies 125 = .ok (.iconst 0, 1) := dk_3 (dk_at dksX1_copies_5 5 rfl rfl)
theorem dX1_copies_126 : decode cX1_copies 126 = .ok (.bipush 8, 2) := dk_16 8 (dk_at dksX1_copies_5 6 rfl rfl)
theorem dX1_copies_128 : decode cX1_copies 128 = .ok (.invokestatic 74, 3) := dk_184 0 74 (dk_at dksX1_copies_5 8 rfl rfl)
theorem dX1_copies_131 : decode cX1_copies 131 = .ok (.aload_n 1, 1) := dk_43 (dk_at dksX1_copies_5 11 rfl rfl)
theorem dX1_copies_132 : decode cX1_copies 132 = .ok (.getfield 36, 3) := dk_180 0 36 (dk_at dksX1_copies_5 12 rfl rfl)
theorem dX1_copies_135 : decode cX1_copies 135 = .ok (.iconst 0, 1) := dk_3 (dk_at dksX1_copies_5 15 rfl rfl)
theorem dX1_copies_136 : decode cX1_copies 136 = .ok (.aload_n 0, 1) := dk_42 (dk_at dksX1_copies_5 16 rfl rfl)
theorem dX1_copies_137 : decode cX1_copies 137 = .ok (.getfield 36, 3) := dk_180 0 36 (dk_at dksX1_copies_5 17 rfl rfl)
theorem dX1_copies_140 : decode cX1_copies 140 = .ok (.iconst 0, 1) := dk_3 (dk_at dksX1_copies_5 20 rfl rfl)
theorem dX1_copies_141 : decode cX1_copies 141 = .ok (.bipush 8, 2) := dk_16 8 (dk_at dksX1_copies_5 21 rfl rfl)
theorem dX1_copies_143 : decode cX1_copies 143 = .ok (.invokestatic 74, 3) := dk_184 0 74 (dk_at dksX1_copies_6 0 rfl rfl)
theorem dX1_copies_146 : decode cX1_copies 146 = .ok (.aload_n 1, 1) := dk_43 (dk_at dksX1_copies_6 3 rfl rfl)
theorem dX1_copies_147 : decode cX1_copies 147 = .ok (.getfield 39, 3) := dk_180 0 39 (dk_at dksX1_copies_6 4 rfl rfl)
theorem dX1_copies_150 : decode cX1_copies 150 = .ok (.iconst 0, 1) := dk_3 (dk_at dksX1_copies_6 7 rfl rfl)
theorem dX1_copies_151 : decode cX1_copies 151 = .ok (.aload_n 0, 1) := dk_42 (dk_at dksX1_copies_6 8 rfl rfl)
theorem dX1_copies_152 : decode cX1_copies 152 = .ok (.getfield 39, 3) := dk_180 0 39 (dk_at dksX1_copies_6 9 rfl rfl)
theorem dX1_copies_155 : decode cX1_copies 155 = .ok (.iconst 0, 1) := dk_3 (dk_at dksX1_copies_6 12 rfl rfl)
theorem dX1_copies_156 : decode cX1_copies 156 = .ok (.bipush 20, 2) := dk_16 20 (dk_at dksX1_copies_6 13 rfl rfl)
theorem dX1_copies_158 : decode cX1_copies 158 = .ok (.invokestatic 74, 3) := dk_184 0 74 (dk_at dksX1_copies_6 15 rfl rfl)
theorem dX1_copies_161 : decode cX1_copies 161 = .ok (.aload_n 1, 1) := dk_43 (dk_at dksX1_copies_6 18 rfl rfl)
theorem dX1_copies_162 : decode cX1_copies 162 = .ok (.getfield 46, 3) := dk_180 0 46 (dk_at dksX1_copies_6 19 rfl rfl)
theorem dX1_copies_165 : decode cX1_copies 165 = .ok (.iconst 0, 1) := dk_3 (dk_at dksX1_copies_6 22 rfl rfl)
theorem dX1_copies_166 : decode cX1_copies 166 = .ok (.aload_n 0, 1) := dk_42 (dk_at dksX1_copies_6 23 rfl rfl)
theorem dX1_copies_167 : decode cX1_copies 167 = .ok (.getfield 46, 3) := dk_180 0 46 (dk_at dksX1_copies_7 0 rfl rfl)
theorem dX1_copies_170 : decode cX1_copies 170 = .ok (.iconst 0, 1) := dk_3 (dk_at dksX1_copies_7 3 rfl rfl)
theorem dX1_copies_171 : decode cX1_copies 171 = .ok (.sipush 560, 3) := dk_17 2 48 (dk_at dksX1_copies_7 4 rfl rfl)
theorem dX1_copies_174 : decode cX1_copies 174 = .ok (.invokestatic 74, 3) := dk_184 0 74 (dk_at dksX1_copies_7 7 rfl rfl)
theorem dX1_copies_177 : decode cX1_copies 177 = .ok (.aload_n 1, 1) := dk_43 (dk_at dksX1_copies_7 10 rfl rfl)
theorem dX1_copies_178 : decode cX1_copies 178 = .ok (.getfield 49, 3) := dk_180 0 49 (dk_at dksX1_copies_7 11 rfl rfl)
theorem dX1_copies_181 : decode cX1_copies 181 = .ok (.iconst 0, 1) := dk_3 (dk_at dksX1_copies_7 14 rfl rfl)
theorem dX1_copies_182 : decode cX1_copies 182 = .ok (.aload_n 0, 1) := dk_42 (dk_at dksX1_copies_7 15 rfl rfl)
theorem dX1_copies_183 : decode cX1_copies 183 = .ok (.getfield 49, 3) := dk_180 0 49 (dk_at dksX1_copies_7 16 rfl rfl)
theorem dX1_copies_186 : decode cX1_copies 186 = .ok (.iconst 0, 1) := dk_3 (dk_at dksX1_copies_7 19 rfl rfl)
theorem dX1_copies_187 : decode cX1_copies 187 = .ok (.sipush 400, 3) := dk_17 1 144 (dk_at dksX1_copies_7 20 rfl rfl)
theorem dX1_copies_190 : decode cX1_copies 190 = .ok (.invokestatic 74, 3) := dk_184 0 74 (dk_at dksX1_copies_8 0 rfl rfl)
theorem dX1_copies_193 : decode cX1_copies 193 = .ok (.aload_n 0, 1) := dk_42 (dk_at dksX1_copies_8 3 rfl rfl)
theorem dX1_copies_194 : decode cX1_copies 194 = .ok (.aload_n 1, 1) := dk_43 (dk_at dksX1_copies_8 4 rfl rfl)
theorem dX1_copies_195 : decode cX1_copies 195 = .ok (.invokevirtual 80, 3) := dk_182 0 80 (dk_at dksX1_copies_8 5 rfl rfl)
theorem dX1_copies_198 : decode cX1_copies 198 = .ok (.areturn, 1) := dk_176 (dk_at dksX1_copies_8 8 rfl rfl)
abbrev cX1_standsAs : ByteArray := prog_7_method_3_code
def yX1_standsAs : MethodName := ⟨RX1, "standsAs", "(LTruthBridge$Gorge;)LTruthBridge$Gorge;"⟩
def dkwX1_standsAs_3 : List UInt8 := [3, 16, 28, 184, 0, 74, 42, 176]
abbrev dktX1_standsAs_3 : List UInt8 := dkwX1_standsAs_3 ++ []
def dkwX1_standsAs_2 : List UInt8 := [43, 180, 0, 24, 3, 42, 180, 0, 24, 3, 16, 6, 184, 0, 74, 43, 180, 0, 42, 3, 42, 180, 0, 42]
abbrev dktX1_standsAs_2 : List UInt8 := dkwX1_standsAs_2 ++ dktX1_standsAs_3
def dkwX1_standsAs_1 : List UInt8 := [180, 0, 9, 3, 16, 6, 184, 0, 74, 43, 180, 0, 21, 3, 42, 180, 0, 21, 3, 16, 6, 184, 0, 74]
abbrev dktX1_standsAs_1 : List UInt8 := dkwX1_standsAs_1 ++ dktX1_standsAs_2
def dkwX1_standsAs_0 : List UInt8 := [42, 43, 180, 0, 84, 181, 0, 84, 42, 43, 180, 0, 87, 181, 0, 87, 43, 180, 0, 9, 3, 42]
abbrev dktX1_standsAs_0 : List UInt8 := dkwX1_standsAs_0 ++ dktX1_standsAs_1
theorem dksX1_standsAs_0 : cX1_standsAs.data.toList.drop 0 = dktX1_standsAs_0 := by decide +kernel
theorem dksX1_standsAs_1 : cX1_standsAs.data.toList.drop 22 = dktX1_standsAs_1 := dk_seg dksX1_standsAs_0 22 rfl rfl
theorem dksX1_standsAs_2 : cX1_standsAs.data.toList.drop 46 = dktX1_standsAs_2 := dk_seg dksX1_standsAs_1 24 rfl rfl
theorem dksX1_standsAs_3 : cX1_standsAs.data.toList.drop 70 = dktX1_standsAs_3 := dk_seg dksX1_standsAs_2 24 rfl rfl
theorem dX1_standsAs_0 : decode cX1_standsAs 0 = .ok (.aload_n 0, 1) := dk_42 (dk_at dksX1_standsAs_0 0 rfl rfl)
theorem dX1_standsAs_1 : decode cX1_standsAs 1 = .ok (.aload_n 1, 1) := dk_43 (dk_at dksX1_standsAs_0 1 rfl rfl)
theorem dX1_standsAs_2 : decode cX1_standsAs 2 = .ok (.getfield 84, 3) := dk_180 0 84 (dk_at dksX1_standsAs_0 2 rfl rfl)
theorem dX1_standsAs_5 : decode cX1_standsAs 5 = .ok (.putfield 84, 3) := dk_181 0 84 (dk_at dksX1_standsAs_0 5 rfl rfl)
theorem dX1_standsAs_8 : decode cX1_standsAs 8 = .ok (.aload_n 0, 1) := dk_42 (dk_at dksX1_standsAs_0 8 rfl rfl)
theorem dX1_standsAs_9 : decode cX1_standsAs 9 = .ok (.aload_n 1, 1) := dk_43 (dk_at dksX1_standsAs_0 9 rfl rfl)
theorem dX1_standsAs_10 : decode cX1_standsAs 10 = .ok (.getfield 87, 3) := dk_180 0 87 (dk_at dksX1_standsAs_0 10 rfl rfl)
theorem dX1_standsAs_13 : decode cX1_standsAs 13 = .ok (.putfield 87, 3) := dk_181 0 87 (dk_at dksX1_standsAs_0 13 rfl rfl)
theorem dX1_standsAs_16 : decode cX1_standsAs 16 = .ok (.aload_n 1, 1) := dk_43 (dk_at dksX1_standsAs_0 16 rfl rfl)
theorem dX1_standsAs_17 : decode cX1_standsAs 17 = .ok (.getfield 9, 3) := dk_180 0 9 (dk_at dksX1_standsAs_0 17 rfl rfl)
theorem dX1_standsAs_20 : decode cX1_standsAs 20 = .ok (.iconst 0, 1) := dk_3 (dk_at dksX1_standsAs_0 20 rfl rfl)
theorem dX1_standsAs_21 : decode cX1_standsAs 21 = .ok (.aload_n 0, 1) := dk_42 (dk_at dksX1_standsAs_0 21 rfl rfl)
theorem dX1_standsAs_22 : decode cX1_standsAs 22 = .ok (.getfield 9, 3) := dk_180 0 9 (dk_at dksX1_standsAs_1 0 rfl rfl)
theorem dX1_standsAs_25 : decode cX1_standsAs 25 = .ok (.iconst 0, 1) := dk_3 (dk_at dksX1_standsAs_1 3 rfl rfl)
theorem dX1_standsAs_26 : decode cX1_standsAs 26 = .ok (.bipush 6, 2) := dk_16 6 (dk_at dksX1_standsAs_1 4 rfl rfl)
theorem dX1_standsAs_28 : decode cX1_standsAs 28 = .ok (.invokestatic 74, 3) := dk_184 0 74 (dk_at dksX1_standsAs_1 6 rfl rfl)
theorem dX1_standsAs_31 : decode cX1_standsAs 31 = .ok (.aload_n 1, 1) := dk_43 (dk_at dksX1_standsAs_1 9 rfl rfl)
theorem dX1_standsAs_32 : decode cX1_standsAs 32 = .ok (.getfield 21, 3) := dk_180 0 21 (dk_at dksX1_standsAs_1 10 rfl rfl)
theorem dX1_standsAs_35 : decode cX1_standsAs 35 = .ok (.iconst 0, 1) := dk_3 (dk_at dksX1_standsAs_1 13 rfl rfl)
theorem dX1_standsAs_36 : decode cX1_standsAs 36 = .ok (.aload_n 0, 1) := dk_42 (dk_at dksX1_standsAs_1 14 rfl rfl)
theorem dX1_standsAs_37 : decode cX1_standsAs 37 = .ok (.getfield 21, 3) := dk_180 0 21 (dk_at dksX1_standsAs_1 15 rfl rfl)
theorem dX1_standsAs_40 : decode cX1_standsAs 40 = .ok (.iconst 0, 1) := dk_3 (dk_at dksX1_standsAs_1 18 rfl rfl)
theorem dX1_standsAs_41 : decode cX1_standsAs 41 = .ok (.bipush 6, 2) := dk_16 6 (dk_at dksX1_standsAs_1 19 rfl rfl)
theorem dX1_standsAs_43 : decode cX1_standsAs 43 = .ok (.invokestatic 74, 3) := dk_184 0 74 (dk_at dksX1_standsAs_1 21 rfl rfl)
theorem dX1_standsAs_46 : decode cX1_standsAs 46 = .ok (.aload_n 1, 1) := dk_43 (dk_at dksX1_standsAs_2 0 rfl rfl)
theorem dX1_standsAs_47 : decode cX1_standsAs 47 = .ok (.getfield 24, 3) := dk_180 0 24 (dk_at dksX1_standsAs_2 1 rfl rfl)
theorem dX1_standsAs_50 : decode cX1_standsAs 50 = .ok (.iconst 0, 1) := dk_3 (dk_at dksX1_standsAs_2 4 rfl rfl)
theorem dX1_standsAs_51 : decode cX1_standsAs 51 = .ok (.aload_n 0, 1) := dk_42 (dk_at dksX1_standsAs_2 5 rfl rfl)
theorem dX1_standsAs_52 : decode cX1_standsAs 52 = .ok (.getfield 24, 3) := dk_180 0 24 (dk_at dksX1_standsAs_2 6 rfl rfl)
theorem dX1_standsAs_55 : decode cX1_standsAs 55 = .ok (.iconst 0, 1) := dk_3 (dk_at dksX1_standsAs_2 9 rfl rfl)
theorem dX1_standsAs_56 : decode cX1_standsAs 56 = .ok (.bipush 6, 2) := dk_16 6 (dk_at dksX1_standsAs_2 10 rfl rfl)
theorem dX1_standsAs_58 : decode cX1_standsAs 58 = .ok (.invokestatic 74, 3) := dk_184 0 74 (dk_at dksX1_standsAs_2 12 rfl rfl)
theorem dX1_standsAs_61 : decode cX1_standsAs 61 = .ok (.aload_n 1, 1) := dk_43 (dk_at dksX1_standsAs_2 15 rfl rfl)
theorem dX1_standsAs_62 : decode cX1_standsAs 62 = .ok (.getfield 42, 3) := dk_180 0 42 (dk_at dksX1_standsAs_2 16 rfl rfl)
theorem dX1_standsAs_65 : decode cX1_standsAs 65 = .ok (.iconst 0, 1) := dk_3 (dk_at dksX1_standsAs_2 19 rfl rfl)
theorem dX1_standsAs_66 : decode cX1_standsAs 66 = .ok (.aload_n 0, 1) := dk_42 (dk_at dksX1_standsAs_2 20 rfl rfl)
theorem dX1_standsAs_67 : decode cX1_standsAs 67 = .ok (.getfield 42, 3) := dk_180 0 42 (dk_at dksX1_standsAs_2 21 rfl rfl)
theorem dX1_standsAs_70 : decode cX1_standsAs 70 = .ok (.iconst 0, 1) := dk_3 (dk_at dksX1_standsAs_3 0 rfl rfl)
theorem dX1_standsAs_71 : decode cX1_standsAs 71 = .ok (.bipush 28, 2) := dk_16 28 (dk_at dksX1_standsAs_3 1 rfl rfl)
theorem dX1_standsAs_73 : decode cX1_standsAs 73 = .ok (.invokestatic 74, 3) := dk_184 0 74 (dk_at dksX1_standsAs_3 3 rfl rfl)
theorem dX1_standsAs_76 : decode cX1_standsAs 76 = .ok (.aload_n 0, 1) := dk_42 (dk_at dksX1_standsAs_3 6 rfl rfl)
theorem dX1_standsAs_77 : decode cX1_standsAs 77 = .ok (.areturn, 1) := dk_176 (dk_at dksX1_standsAs_3 7 rfl rfl)
abbrev cX1_holdsAll : ByteArray := prog_7_method_9_code
def yX1_holdsAll : MethodName := ⟨RX1, "holdsAll", "(I)V"⟩
def dkwX1_holdsAll_2 : List UInt8 := [10, 28, 16, 64, 112, 121, 129, 80, 132, 2, 1, 167, 255, 223, 177]
abbrev dktX1_holdsAll_2 : List UInt8 := dkwX1_holdsAll_2 ++ []
def dkwX1_holdsAll_1 : List UInt8 := [3, 61, 28, 42, 182, 0, 96, 162, 0, 31, 42, 180, 0, 42, 7, 27, 104, 28, 16, 64, 108, 96, 92, 47]
abbrev dktX1_holdsAll_1 : List UInt8 := dkwX1_holdsAll_1 ++ dktX1_holdsAll_2
def dkwX1_holdsAll_0 : List UInt8 := [3, 61, 28, 7, 162, 0, 20, 42, 180, 0, 42, 7, 27, 104, 28, 96, 9, 80, 132, 2, 1, 167, 255, 237]
abbrev dktX1_holdsAll_0 : List UInt8 := dkwX1_holdsAll_0 ++ dktX1_holdsAll_1
theorem dksX1_holdsAll_0 : cX1_holdsAll.data.toList.drop 0 = dktX1_holdsAll_0 := by decide +kernel
theorem dksX1_holdsAll_1 : cX1_holdsAll.data.toList.drop 24 = dktX1_holdsAll_1 := dk_seg dksX1_holdsAll_0 24 rfl rfl
theorem dksX1_holdsAll_2 : cX1_holdsAll.data.toList.drop 48 = dktX1_holdsAll_2 := dk_seg dksX1_holdsAll_1 24 rfl rfl
theorem dX1_holdsAll_0 : decode cX1_holdsAll 0 = .ok (.iconst 0, 1) := dk_3 (dk_at dksX1_holdsAll_0 0 rfl rfl)
theorem dX1_holdsAll_1 : decode cX1_holdsAll 1 = .ok (.istore_n 2, 1) := dk_61 (dk_at dksX1_holdsAll_0 1 rfl rfl)
theorem dX1_holdsAll_2 : decode cX1_holdsAll 2 = .ok (.iload_n 2, 1) := dk_28 (dk_at dksX1_holdsAll_0 2 rfl rfl)
theorem dX1_holdsAll_3 : decode cX1_holdsAll 3 = .ok (.iconst 4, 1) := dk_7 (dk_at dksX1_holdsAll_0 3 rfl rfl)
theorem dX1_holdsAll_4 : decode cX1_holdsAll 4 = .ok (.if_icmp .ge 20, 3) := dk_162 0 20 (dk_at dksX1_holdsAll_0 4 rfl rfl)
theorem dX1_holdsAll_7 : decode cX1_holdsAll 7 = .ok (.aload_n 0, 1) := dk_42 (dk_at dksX1_holdsAll_0 7 rfl rfl)
theorem dX1_holdsAll_8 : decode cX1_holdsAll 8 = .ok (.getfield 42, 3) := dk_180 0 42 (dk_at dksX1_holdsAll_0 8 rfl rfl)
theorem dX1_holdsAll_11 : decode cX1_holdsAll 11 = .ok (.iconst 4, 1) := dk_7 (dk_at dksX1_holdsAll_0 11 rfl rfl)
theorem dX1_holdsAll_12 : decode cX1_holdsAll 12 = .ok (.iload_n 1, 1) := dk_27 (dk_at dksX1_holdsAll_0 12 rfl rfl)
theorem dX1_holdsAll_13 : decode cX1_holdsAll 13 = .ok (.imul, 1) := dk_104 (dk_at dksX1_holdsAll_0 13 rfl rfl)
theorem dX1_holdsAll_14 : decode cX1_holdsAll 14 = .ok (.iload_n 2, 1) := dk_28 (dk_at dksX1_holdsAll_0 14 rfl rfl)
theorem dX1_holdsAll_15 : decode cX1_holdsAll 15 = .ok (.iadd, 1) := dk_96 (dk_at dksX1_holdsAll_0 15 rfl rfl)
theorem dX1_holdsAll_16 : decode cX1_holdsAll 16 = .ok (.lconst 0, 1) := dk_9 (dk_at dksX1_holdsAll_0 16 rfl rfl)
theorem dX1_holdsAll_17 : decode cX1_holdsAll 17 = .ok (.lastore, 1) := dk_80 (dk_at dksX1_holdsAll_0 17 rfl rfl)
theorem dX1_holdsAll_18 : decode cX1_holdsAll 18 = .ok (.iinc 2 1, 3) := dk_132 2 1 (dk_at dksX1_holdsAll_0 18 rfl rfl)
theorem dX1_holdsAll_21 : decode cX1_holdsAll 21 = .ok (.goto (-19), 3) := dk_167 255 237 (dk_at dksX1_holdsAll_0 21 rfl rfl)
theorem dX1_holdsAll_24 : decode cX1_holdsAll 24 = .ok (.iconst 0, 1) := dk_3 (dk_at dksX1_holdsAll_1 0 rfl rfl)
theorem dX1_holdsAll_25 : decode cX1_holdsAll 25 = .ok (.istore_n 2, 1) := dk_61 (dk_at dksX1_holdsAll_1 1 rfl rfl)
theorem dX1_holdsAll_26 : decode cX1_holdsAll 26 = .ok (.iload_n 2, 1) := dk_28 (dk_at dksX1_holdsAll_1 2 rfl rfl)
theorem dX1_holdsAll_27 : decode cX1_holdsAll 27 = .ok (.aload_n 0, 1) := dk_42 (dk_at dksX1_holdsAll_1 3 rfl rfl)
theorem dX1_holdsAll_28 : decode cX1_holdsAll 28 = .ok (.invokevirtual 96, 3) := dk_182 0 96 (dk_at dksX1_holdsAll_1 4 rfl rfl)
theorem dX1_holdsAll_31 : decode cX1_holdsAll 31 = .ok (.if_icmp .ge 31, 3) := dk_162 0 31 (dk_at dksX1_holdsAll_1 7 rfl rfl)
theorem dX1_holdsAll_34 : decode cX1_holdsAll 34 = .ok (.aload_n 0, 1) := dk_42 (dk_at dksX1_holdsAll_1 10 rfl rfl)
theorem dX1_holdsAll_35 : decode cX1_holdsAll 35 = .ok (.getfield 42, 3) := dk_180 0 42 (dk_at dksX1_holdsAll_1 11 rfl rfl)
theorem dX1_holdsAll_38 : decode cX1_holdsAll 38 = .ok (.iconst 4, 1) := dk_7 (dk_at dksX1_holdsAll_1 14 rfl rfl)
theorem dX1_holdsAll_39 : decode cX1_holdsAll 39 = .ok (.iload_n 1, 1) := dk_27 (dk_at dksX1_holdsAll_1 15 rfl rfl)
theorem dX1_holdsAll_40 : decode cX1_holdsAll 40 = .ok (.imul, 1) := dk_104 (dk_at dksX1_holdsAll_1 16 rfl rfl)
theorem dX1_holdsAll_41 : decode cX1_holdsAll 41 = .ok (.iload_n 2, 1) := dk_28 (dk_at dksX1_holdsAll_1 17 rfl rfl)
theorem dX1_holdsAll_42 : decode cX1_holdsAll 42 = .ok (.bipush 64, 2) := dk_16 64 (dk_at dksX1_holdsAll_1 18 rfl rfl)
theorem dX1_holdsAll_44 : decode cX1_holdsAll 44 = .ok (.idiv, 1) := dk_108 (dk_at dksX1_holdsAll_1 20 rfl rfl)
theorem dX1_holdsAll_45 : decode cX1_holdsAll 45 = .ok (.iadd, 1) := dk_96 (dk_at dksX1_holdsAll_1 21 rfl rfl)
theorem dX1_holdsAll_46 : decode cX1_holdsAll 46 = .ok (.dup2, 1) := dk_92 (dk_at dksX1_holdsAll_1 22 rfl rfl)
theorem dX1_holdsAll_47 : decode cX1_holdsAll 47 = .ok (.laload, 1) := dk_47 (dk_at dksX1_holdsAll_1 23 rfl rfl)
theorem dX1_holdsAll_48 : decode cX1_holdsAll 48 = .ok (.lconst 1, 1) := dk_10 (dk_at dksX1_holdsAll_2 0 rfl rfl)
theorem dX1_holdsAll_49 : decode cX1_holdsAll 49 = .ok (.iload_n 2, 1) := dk_28 (dk_at dksX1_holdsAll_2 1 rfl rfl)
theorem dX1_holdsAll_50 : decode cX1_holdsAll 50 = .ok (.bipush 64, 2) := dk_16 64 (dk_at dksX1_holdsAll_2 2 rfl rfl)
theorem dX1_holdsAll_52 : decode cX1_holdsAll 52 = .ok (.irem, 1) := dk_112 (dk_at dksX1_holdsAll_2 4 rfl rfl)
theorem dX1_holdsAll_53 : decode cX1_holdsAll 53 = .ok (.lshl, 1) := dk_121 (dk_at dksX1_holdsAll_2 5 rfl rfl)
theorem dX1_holdsAll_54 : decode cX1_holdsAll 54 = .ok (.lor, 1) := dk_129 (dk_at dksX1_holdsAll_2 6 rfl rfl)
theorem dX1_holdsAll_55 : decode cX1_holdsAll 55 = .ok (.lastore, 1) := dk_80 (dk_at dksX1_holdsAll_2 7 rfl rfl)
theorem dX1_holdsAll_56 : decode cX1_holdsAll 56 = .ok (.iinc 2 1, 3) := dk_132 2 1 (dk_at dksX1_holdsAll_2 8 rfl rfl)
theorem dX1_holdsAll_59 : decode cX1_holdsAll 59 = .ok (.goto (-33), 3) := dk_167 255 223 (dk_at dksX1_holdsAll_2 11 rfl rfl)
theorem dX1_holdsAll_62 : decode cX1_holdsAll 62 = .ok (.return_, 1) := dk_177 (dk_at dksX1_holdsAll_2 14 rfl rfl)
abbrev cX1_worlds : ByteArray := prog_7_method_6_code
def yX1_worlds : MethodName := ⟨RX1, "worlds", "()I"⟩
def dkwX1_worlds_0 : List UInt8 := [4, 42, 180, 0, 52, 120, 172]
abbrev dktX1_worlds_0 : List UInt8 := dkwX1_worlds_0 ++ []
theorem dksX1_worlds_0 : cX1_worlds.data.toList.drop 0 = dktX1_worlds_0 := by decide +kernel
theorem dX1_worlds_0 : decode cX1_worlds 0 = .ok (.iconst 1, 1) := dk_4 (dk_at dksX1_worlds_0 0 rfl rfl)
theorem dX1_worlds_1 : decode cX1_worlds 1 = .ok (.aload_n 0, 1) := dk_42 (dk_at dksX1_worlds_0 1 rfl rfl)
theorem dX1_worlds_2 : decode cX1_worlds 2 = .ok (.getfield 52, 3) := dk_180 0 52 (dk_at dksX1_worlds_0 2 rfl rfl)
theorem dX1_worlds_5 : decode cX1_worlds 5 = .ok (.ishl, 1) := dk_120 (dk_at dksX1_worlds_0 5 rfl rfl)
theorem dX1_worlds_6 : decode cX1_worlds 6 = .ok (.ireturn, 1) := dk_172 (dk_at dksX1_worlds_0 6 rfl rfl)
abbrev cX1_isToldFact : ByteArray := prog_7_method_10_code
def yX1_isToldFact : MethodName := ⟨RX1, "isToldFact", "(II)V"⟩
def dkwX1_isToldFact_2 : List UInt8 := [20, 0, 104, 131, 127, 80, 132, 3, 1, 167, 255, 203, 177]
abbrev dktX1_isToldFact_2 : List UInt8 := dkwX1_isToldFact_2 ++ []
def dkwX1_isToldFact_1 : List UInt8 := [159, 0, 29, 42, 180, 0, 42, 7, 27, 104, 29, 16, 64, 108, 96, 92, 47, 10, 29, 16, 64, 112, 121]
abbrev dktX1_isToldFact_1 : List UInt8 := dkwX1_isToldFact_1 ++ dktX1_isToldFact_2
def dkwX1_isToldFact_0 : List UInt8 := [3, 62, 29, 42, 182, 0, 96, 162, 0, 51, 29, 28, 184, 0, 100, 42, 180, 0, 84, 28, 184, 0, 100]
abbrev dktX1_isToldFact_0 : List UInt8 := dkwX1_isToldFact_0 ++ dktX1_isToldFact_1
theorem dksX1_isToldFact_0 : cX1_isToldFact.data.toList.drop 0 = dktX1_isToldFact_0 := by decide +kernel
theorem dksX1_isToldFact_1 : cX1_isToldFact.data.toList.drop 23 = dktX1_isToldFact_1 := dk_seg dksX1_isToldFact_0 23 rfl rfl
theorem dksX1_isToldFact_2 : cX1_isToldFact.data.toList.drop 46 = dktX1_isToldFact_2 := dk_seg dksX1_isToldFact_1 23 rfl rfl
theorem dX1_isToldFact_0 : decode cX1_isToldFact 0 = .ok (.iconst 0, 1) := dk_3 (dk_at dksX1_isToldFact_0 0 rfl rfl)
theorem dX1_isToldFact_1 : decode cX1_isToldFact 1 = .ok (.istore_n 3, 1) := dk_62 (dk_at dksX1_isToldFact_0 1 rfl rfl)
theorem dX1_isToldFact_2 : decode cX1_isToldFact 2 = .ok (.iload_n 3, 1) := dk_29 (dk_at dksX1_isToldFact_0 2 rfl rfl)
theorem dX1_isToldFact_3 : decode cX1_isToldFact 3 = .ok (.aload_n 0, 1) := dk_42 (dk_at dksX1_isToldFact_0 3 rfl rfl)
theorem dX1_isToldFact_4 : decode cX1_isToldFact 4 = .ok (.invokevirtual 96, 3) := dk_182 0 96 (dk_at dksX1_isToldFact_0 4 rfl rfl)
theorem dX1_isToldFact_7 : decode cX1_isToldFact 7 = .ok (.if_icmp .ge 51, 3) := dk_162 0 51 (dk_at dksX1_isToldFact_0 7 rfl rfl)
theorem dX1_isToldFact_10 : decode cX1_isToldFact 10 = .ok (.iload_n 3, 1) := dk_29 (dk_at dksX1_isToldFact_0 10 rfl rfl)
theorem dX1_isToldFact_11 : decode cX1_isToldFact 11 = .ok (.iload_n 2, 1) := dk_28 (dk_at dksX1_isToldFact_0 11 rfl rfl)
theorem dX1_isToldFact_12 : decode cX1_isToldFact 12 = .ok (.invokestatic 100, 3) := dk_184 0 100 (dk_at dksX1_isToldFact_0 12 rfl rfl)
theorem dX1_isToldFact_15 : decode cX1_isToldFact 15 = .ok (.aload_n 0, 1) := dk_42 (dk_at dksX1_isToldFact_0 15 rfl rfl)
theorem dX1_isToldFact_16 : decode cX1_isToldFact 16 = .ok (.getfield 84, 3) := dk_180 0 84 (dk_at dksX1_isToldFact_0 16 rfl rfl)
theorem dX1_isToldFact_19 : decode cX1_isToldFact 19 = .ok (.iload_n 2, 1) := dk_28 (dk_at dksX1_isToldFact_0 19 rfl rfl)
theorem dX1_isToldFact_20 : decode cX1_isToldFact 20 = .ok (.invokestatic 100, 3) := dk_184 0 100 (dk_at dksX1_isToldFact_0 20 rfl rfl)
theorem dX1_isToldFact_23 : decode cX1_isToldFact 23 = .ok (.if_icmp .eq 29, 3) := dk_159 0 29 (dk_at dksX1_isToldFact_1 0 rfl rfl)
theorem dX1_isToldFact_26 : decode cX1_isToldFact 26 = .ok (.aload_n 0, 1) := dk_42 (dk_at dksX1_isToldFact_1 3 rfl rfl)
theorem dX1_isToldFact_27 : decode cX1_isToldFact 27 = .ok (.getfield 42, 3) := dk_180 0 42 (dk_at dksX1_isToldFact_1 4 rfl rfl)
theorem dX1_isToldFact_30 : decode cX1_isToldFact 30 = .ok (.iconst 4, 1) := dk_7 (dk_at dksX1_isToldFact_1 7 rfl rfl)
theorem dX1_isToldFact_31 : decode cX1_isToldFact 31 = .ok (.iload_n 1, 1) := dk_27 (dk_at dksX1_isToldFact_1 8 rfl rfl)
theorem dX1_isToldFact_32 : decode cX1_isToldFact 32 = .ok (.imul, 1) := dk_104 (dk_at dksX1_isToldFact_1 9 rfl rfl)
theorem dX1_isToldFact_33 : decode cX1_isToldFact 33 = .ok (.iload_n 3, 1) := dk_29 (dk_at dksX1_isToldFact_1 10 rfl rfl)
theorem dX1_isToldFact_34 : decode cX1_isToldFact 34 = .ok (.bipush 64, 2) := dk_16 64 (dk_at dksX1_isToldFact_1 11 rfl rfl)
theorem dX1_isToldFact_36 : decode cX1_isToldFact 36 = .ok (.idiv, 1) := dk_108 (dk_at dksX1_isToldFact_1 13 rfl rfl)
theorem dX1_isToldFact_37 : decode cX1_isToldFact 37 = .ok (.iadd, 1) := dk_96 (dk_at dksX1_isToldFact_1 14 rfl rfl)
theorem dX1_isToldFact_38 : decode cX1_isToldFact 38 = .ok (.dup2, 1) := dk_92 (dk_at dksX1_isToldFact_1 15 rfl rfl)
theorem dX1_isToldFact_39 : decode cX1_isToldFact 39 = .ok (.laload, 1) := dk_47 (dk_at dksX1_isToldFact_1 16 rfl rfl)
theorem dX1_isToldFact_40 : decode cX1_isToldFact 40 = .ok (.lconst 1, 1) := dk_10 (dk_at dksX1_isToldFact_1 17 rfl rfl)
theorem dX1_isToldFact_41 : decode cX1_isToldFact 41 = .ok (.iload_n 3, 1) := dk_29 (dk_at dksX1_isToldFact_1 18 rfl rfl)
theorem dX1_isToldFact_42 : decode cX1_isToldFact 42 = .ok (.bipush 64, 2) := dk_16 64 (dk_at dksX1_isToldFact_1 19 rfl rfl)
theorem dX1_isToldFact_44 : decode cX1_isToldFact 44 = .ok (.irem, 1) := dk_112 (dk_at dksX1_isToldFact_1 21 rfl rfl)
theorem dX1_isToldFact_45 : decode cX1_isToldFact 45 = .ok (.lshl, 1) := dk_121 (dk_at dksX1_isToldFact_1 22 rfl rfl)
theorem dX1_isToldFact_46 : decode cX1_isToldFact 46 = .ok (.ldc2_w 104, 3) := dk_20 0 104 (dk_at dksX1_isToldFact_2 0 rfl rfl)
theorem dX1_isToldFact_49 : decode cX1_isToldFact 49 = .ok (.lxor, 1) := dk_131 (dk_at dksX1_isToldFact_2 3 rfl rfl)
theorem dX1_isToldFact_50 : decode cX1_isToldFact 50 = .ok (.land, 1) := dk_127 (dk_at dksX1_isToldFact_2 4 rfl rfl)
theorem dX1_isToldFact_51 : decode cX1_isToldFact 51 = .ok (.lastore, 1) := dk_80 (dk_at dksX1_isToldFact_2 5 rfl rfl)
theorem dX1_isToldFact_52 : decode cX1_isToldFact 52 = .ok (.iinc 3 1, 3) := dk_132 3 1 (dk_at dksX1_isToldFact_2 6 rfl rfl)
theorem dX1_isToldFact_55 : decode cX1_isToldFact 55 = .ok (.goto (-53), 3) := dk_167 255 203 (dk_at dksX1_isToldFact_2 9 rfl rfl)
theorem dX1_isToldFact_58 : decode cX1_isToldFact 58 = .ok (.return_, 1) := dk_177 (dk_at dksX1_isToldFact_2 12 rfl rfl)
abbrev cX1_heldMany : ByteArray := prog_7_method_8_code
def yX1_heldMany : MethodName := ⟨RX1, "heldMany", "(I)I"⟩
def dkwX1_heldMany_1 : List UInt8 := [61, 132, 3, 1, 167, 255, 232, 28, 172]
abbrev dktX1_heldMany_1 : List UInt8 := dkwX1_heldMany_1 ++ []
def dkwX1_heldMany_0 : List UInt8 := [3, 61, 3, 62, 29, 7, 162, 0, 25, 28, 42, 180, 0, 42, 7, 27, 104, 29, 96, 47, 184, 0, 90, 96]
abbrev dktX1_heldMany_0 : List UInt8 := dkwX1_heldMany_0 ++ dktX1_heldMany_1
theorem dksX1_heldMany_0 : cX1_heldMany.data.toList.drop 0 = dktX1_heldMany_0 := by decide +kernel
theorem dksX1_heldMany_1 : cX1_heldMany.data.toList.drop 24 = dktX1_heldMany_1 := dk_seg dksX1_heldMany_0 24 rfl rfl
theorem dX1_heldMany_0 : decode cX1_heldMany 0 = .ok (.iconst 0, 1) := dk_3 (dk_at dksX1_heldMany_0 0 rfl rfl)
theorem dX1_heldMany_1 : decode cX1_heldMany 1 = .ok (.istore_n 2, 1) := dk_61 (dk_at dksX1_heldMany_0 1 rfl rfl)
theorem dX1_heldMany_2 : decode cX1_heldMany 2 = .ok (.iconst 0, 1) := dk_3 (dk_at dksX1_heldMany_0 2 rfl rfl)
theorem dX1_heldMany_3 : decode cX1_heldMany 3 = .ok (.istore_n 3, 1) := dk_62 (dk_at dksX1_heldMany_0 3 rfl rfl)
theorem dX1_heldMany_4 : decode cX1_heldMany 4 = .ok (.iload_n 3, 1) := dk_29 (dk_at dksX1_heldMany_0 4 rfl rfl)
theorem dX1_heldMany_5 : decode cX1_heldMany 5 = .ok (.iconst 4, 1) := dk_7 (dk_at dksX1_heldMany_0 5 rfl rfl)
theorem dX1_heldMany_6 : decode cX1_heldMany 6 = .ok (.if_icmp .ge 25, 3) := dk_162 0 25 (dk_at dksX1_heldMany_0 6 rfl rfl)
theorem dX1_heldMany_9 : decode cX1_heldMany 9 = .ok (.iload_n 2, 1) := dk_28 (dk_at dksX1_heldMany_0 9 rfl rfl)
theorem dX1_heldMany_10 : decode cX1_heldMany 10 = .ok (.aload_n 0, 1) := dk_42 (dk_at dksX1_heldMany_0 10 rfl rfl)
theorem dX1_heldMany_11 : decode cX1_heldMany 11 = .ok (.getfield 42, 3) := dk_180 0 42 (dk_at dksX1_heldMany_0 11 rfl rfl)
theorem dX1_heldMany_14 : decode cX1_heldMany 14 = .ok (.iconst 4, 1) := dk_7 (dk_at dksX1_heldMany_0 14 rfl rfl)
theorem dX1_heldMany_15 : decode cX1_heldMany 15 = .ok (.iload_n 1, 1) := dk_27 (dk_at dksX1_heldMany_0 15 rfl rfl)
theorem dX1_heldMany_16 : decode cX1_heldMany 16 = .ok (.imul, 1) := dk_104 (dk_at dksX1_heldMany_0 16 rfl rfl)
theorem dX1_heldMany_17 : decode cX1_heldMany 17 = .ok (.iload_n 3, 1) := dk_29 (dk_at dksX1_heldMany_0 17 rfl rfl)
theorem dX1_heldMany_18 : decode cX1_heldMany 18 = .ok (.iadd, 1) := dk_96 (dk_at dksX1_heldMany_0 18 rfl rfl)
theorem dX1_heldMany_19 : decode cX1_heldMany 19 = .ok (.laload, 1) := dk_47 (dk_at dksX1_heldMany_0 19 rfl rfl)
theorem dX1_heldMany_20 : decode cX1_heldMany 20 = .ok (.invokestatic 90, 3) := dk_184 0 90 (dk_at dksX1_heldMany_0 20 rfl rfl)
theorem dX1_heldMany_23 : decode cX1_heldMany 23 = .ok (.iadd, 1) := dk_96 (dk_at dksX1_heldMany_0 23 rfl rfl)
theorem dX1_heldMany_24 : decode cX1_heldMany 24 = .ok (.istore_n 2, 1) := dk_61 (dk_at dksX1_heldMany_1 0 rfl rfl)
theorem dX1_heldMany_25 : decode cX1_heldMany 25 = .ok (.iinc 3 1, 3) := dk_132 3 1 (dk_at dksX1_heldMany_1 1 rfl rfl)
theorem dX1_heldMany_28 : decode cX1_heldMany 28 = .ok (.goto (-24), 3) := dk_167 255 232 (dk_at dksX1_heldMany_1 4 rfl rfl)
theorem dX1_heldMany_31 : decode cX1_heldMany 31 = .ok (.iload_n 2, 1) := dk_28 (dk_at dksX1_heldMany_1 7 rfl rfl)
theorem dX1_heldMany_32 : decode cX1_heldMany 32 = .ok (.ireturn, 1) := dk_172 (dk_at dksX1_heldMany_1 8 rfl rfl)
abbrev cX1_knowsFact : ByteArray := prog_7_method_11_code
def yX1_knowsFact : MethodName := ⟨RX1, "knowsFact", "(II)Z"⟩
def dkwX1_knowsFact_1 : List UInt8 := [159, 0, 14, 42, 27, 29, 182, 0, 106, 153, 0, 5, 3, 172, 132, 3, 1, 167, 255, 218, 4, 172]
abbrev dktX1_knowsFact_1 : List UInt8 := dkwX1_knowsFact_1 ++ []
def dkwX1_knowsFact_0 : List UInt8 := [3, 62, 29, 42, 182, 0, 96, 162, 0, 36, 29, 28, 184, 0, 100, 42, 180, 0, 84, 28, 184, 0, 100]
abbrev dktX1_knowsFact_0 : List UInt8 := dkwX1_knowsFact_0 ++ dktX1_knowsFact_1
theorem dksX1_knowsFact_0 : cX1_knowsFact.data.toList.drop 0 = dktX1_knowsFact_0 := by decide +kernel
theorem dksX1_knowsFact_1 : cX1_knowsFact.data.toList.drop 23 = dktX1_knowsFact_1 := dk_seg dksX1_knowsFact_0 23 rfl rfl
theorem dX1_knowsFact_0 : decode cX1_knowsFact 0 = .ok (.iconst 0, 1) := dk_3 (dk_at dksX1_knowsFact_0 0 rfl rfl)
theorem dX1_knowsFact_1 : decode cX1_knowsFact 1 = .ok (.istore_n 3, 1) := dk_62 (dk_at dksX1_knowsFact_0 1 rfl rfl)
theorem dX1_knowsFact_2 : decode cX1_knowsFact 2 = .ok (.iload_n 3, 1) := dk_29 (dk_at dksX1_knowsFact_0 2 rfl rfl)
theorem dX1_knowsFact_3 : decode cX1_knowsFact 3 = .ok (.aload_n 0, 1) := dk_42 (dk_at dksX1_knowsFact_0 3 rfl rfl)
theorem dX1_knowsFact_4 : decode cX1_knowsFact 4 = .ok (.invokevirtual 96, 3) := dk_182 0 96 (dk_at dksX1_knowsFact_0 4 rfl rfl)
theorem dX1_knowsFact_7 : decode cX1_knowsFact 7 = .ok (.if_icmp .ge 36, 3) := dk_162 0 36 (dk_at dksX1_knowsFact_0 7 rfl rfl)
theorem dX1_knowsFact_10 : decode cX1_knowsFact 10 = .ok (.iload_n 3, 1) := dk_29 (dk_at dksX1_knowsFact_0 10 rfl rfl)
theorem dX1_knowsFact_11 : decode cX1_knowsFact 11 = .ok (.iload_n 2, 1) := dk_28 (dk_at dksX1_knowsFact_0 11 rfl rfl)
theorem dX1_knowsFact_12 : decode cX1_knowsFact 12 = .ok (.invokestatic 100, 3) := dk_184 0 100 (dk_at dksX1_knowsFact_0 12 rfl rfl)
theorem dX1_knowsFact_15 : decode cX1_knowsFact 15 = .ok (.aload_n 0, 1) := dk_42 (dk_at dksX1_knowsFact_0 15 rfl rfl)
theorem dX1_knowsFact_16 : decode cX1_knowsFact 16 = .ok (.getfield 84, 3) := dk_180 0 84 (dk_at dksX1_knowsFact_0 16 rfl rfl)
theorem dX1_knowsFact_19 : decode cX1_knowsFact 19 = .ok (.iload_n 2, 1) := dk_28 (dk_at dksX1_knowsFact_0 19 rfl rfl)
theorem dX1_knowsFact_20 : decode cX1_knowsFact 20 = .ok (.invokestatic 100, 3) := dk_184 0 100 (dk_at dksX1_knowsFact_0 20 rfl rfl)
theorem dX1_knowsFact_23 : decode cX1_knowsFact 23 = .ok (.if_icmp .eq 14, 3) := dk_159 0 14 (dk_at dksX1_knowsFact_1 0 rfl rfl)
theorem dX1_knowsFact_26 : decode cX1_knowsFact 26 = .ok (.aload_n 0, 1) := dk_42 (dk_at dksX1_knowsFact_1 3 rfl rfl)
theorem dX1_knowsFact_27 : decode cX1_knowsFact 27 = .ok (.iload_n 1, 1) := dk_27 (dk_at dksX1_knowsFact_1 4 rfl rfl)
theorem dX1_knowsFact_28 : decode cX1_knowsFact 28 = .ok (.iload_n 3, 1) := dk_29 (dk_at dksX1_knowsFact_1 5 rfl rfl)
theorem dX1_knowsFact_29 : decode cX1_knowsFact 29 = .ok (.invokevirtual 106, 3) := dk_182 0 106 (dk_at dksX1_knowsFact_1 6 rfl rfl)
theorem dX1_knowsFact_32 : decode cX1_knowsFact 32 = .ok (.ifCond .eq 5, 3) := dk_153 0 5 (dk_at dksX1_knowsFact_1 9 rfl rfl)
theorem dX1_knowsFact_35 : decode cX1_knowsFact 35 = .ok (.iconst 0, 1) := dk_3 (dk_at dksX1_knowsFact_1 12 rfl rfl)
theorem dX1_knowsFact_36 : decode cX1_knowsFact 36 = .ok (.ireturn, 1) := dk_172 (dk_at dksX1_knowsFact_1 13 rfl rfl)
theorem dX1_knowsFact_37 : decode cX1_knowsFact 37 = .ok (.iinc 3 1, 3) := dk_132 3 1 (dk_at dksX1_knowsFact_1 14 rfl rfl)
theorem dX1_knowsFact_40 : decode cX1_knowsFact 40 = .ok (.goto (-38), 3) := dk_167 255 218 (dk_at dksX1_knowsFact_1 17 rfl rfl)
theorem dX1_knowsFact_43 : decode cX1_knowsFact 43 = .ok (.iconst 1, 1) := dk_4 (dk_at dksX1_knowsFact_1 20 rfl rfl)
theorem dX1_knowsFact_44 : decode cX1_knowsFact 44 = .ok (.ireturn, 1) := dk_172 (dk_at dksX1_knowsFact_1 21 rfl rfl)
abbrev cX1_isHeld : ByteArray := prog_7_method_7_code
def yX1_isHeld : MethodName := ⟨RX1, "isHeld", "(II)Z"⟩
def dkwX1_isHeld_1 : List UInt8 := [154, 0, 7, 4, 167, 0, 4, 3, 172]
abbrev dktX1_isHeld_1 : List UInt8 := dkwX1_isHeld_1 ++ []
def dkwX1_isHeld_0 : List UInt8 := [42, 180, 0, 42, 7, 27, 104, 28, 16, 64, 108, 96, 47, 28, 16, 64, 112, 125, 10, 127, 10, 148]
abbrev dktX1_isHeld_0 : List UInt8 := dkwX1_isHeld_0 ++ dktX1_isHeld_1
theorem dksX1_isHeld_0 : cX1_isHeld.data.toList.drop 0 = dktX1_isHeld_0 := by decide +kernel
theorem dksX1_isHeld_1 : cX1_isHeld.data.toList.drop 22 = dktX1_isHeld_1 := dk_seg dksX1_isHeld_0 22 rfl rfl
theorem dX1_isHeld_0 : decode cX1_isHeld 0 = .ok (.aload_n 0, 1) := dk_42 (dk_at dksX1_isHeld_0 0 rfl rfl)
theorem dX1_isHeld_1 : decode cX1_isHeld 1 = .ok (.getfield 42, 3) := dk_180 0 42 (dk_at dksX1_isHeld_0 1 rfl rfl)
theorem dX1_isHeld_4 : decode cX1_isHeld 4 = .ok (.iconst 4, 1) := dk_7 (dk_at dksX1_isHeld_0 4 rfl rfl)
theorem dX1_isHeld_5 : decode cX1_isHeld 5 = .ok (.iload_n 1, 1) := dk_27 (dk_at dksX1_isHeld_0 5 rfl rfl)
theorem dX1_isHeld_6 : decode cX1_isHeld 6 = .ok (.imul, 1) := dk_104 (dk_at dksX1_isHeld_0 6 rfl rfl)
theorem dX1_isHeld_7 : decode cX1_isHeld 7 = .ok (.iload_n 2, 1) := dk_28 (dk_at dksX1_isHeld_0 7 rfl rfl)
theorem dX1_isHeld_8 : decode cX1_isHeld 8 = .ok (.bipush 64, 2) := dk_16 64 (dk_at dksX1_isHeld_0 8 rfl rfl)
theorem dX1_isHeld_10 : decode cX1_isHeld 10 = .ok (.idiv, 1) := dk_108 (dk_at dksX1_isHeld_0 10 rfl rfl)
theorem dX1_isHeld_11 : decode cX1_isHeld 11 = .ok (.iadd, 1) := dk_96 (dk_at dksX1_isHeld_0 11 rfl rfl)
theorem dX1_isHeld_12 : decode cX1_isHeld 12 = .ok (.laload, 1) := dk_47 (dk_at dksX1_isHeld_0 12 rfl rfl)
theorem dX1_isHeld_13 : decode cX1_isHeld 13 = .ok (.iload_n 2, 1) := dk_28 (dk_at dksX1_isHeld_0 13 rfl rfl)
theorem dX1_isHeld_14 : decode cX1_isHeld 14 = .ok (.bipush 64, 2) := dk_16 64 (dk_at dksX1_isHeld_0 14 rfl rfl)
theorem dX1_isHeld_16 : decode cX1_isHeld 16 = .ok (.irem, 1) := dk_112 (dk_at dksX1_isHeld_0 16 rfl rfl)
theorem dX1_isHeld_17 : decode cX1_isHeld 17 = .ok (.lushr, 1) := dk_125 (dk_at dksX1_isHeld_0 17 rfl rfl)
theorem dX1_isHeld_18 : decode cX1_isHeld 18 = .ok (.lconst 1, 1) := dk_10 (dk_at dksX1_isHeld_0 18 rfl rfl)
theorem dX1_isHeld_19 : decode cX1_isHeld 19 = .ok (.land, 1) := dk_127 (dk_at dksX1_isHeld_0 19 rfl rfl)
theorem dX1_isHeld_20 : decode cX1_isHeld 20 = .ok (.lconst 1, 1) := dk_10 (dk_at dksX1_isHeld_0 20 rfl rfl)
theorem dX1_isHeld_21 : decode cX1_isHeld 21 = .ok (.lcmp, 1) := dk_148 (dk_at dksX1_isHeld_0 21 rfl rfl)
theorem dX1_isHeld_22 : decode cX1_isHeld 22 = .ok (.ifCond .ne 7, 3) := dk_154 0 7 (dk_at dksX1_isHeld_1 0 rfl rfl)
theorem dX1_isHeld_25 : decode cX1_isHeld 25 = .ok (.iconst 1, 1) := dk_4 (dk_at dksX1_isHeld_1 3 rfl rfl)
theorem dX1_isHeld_26 : decode cX1_isHeld 26 = .ok (.goto 4, 3) := dk_167 0 4 (dk_at dksX1_isHeld_1 4 rfl rfl)
theorem dX1_isHeld_29 : decode cX1_isHeld 29 = .ok (.iconst 0, 1) := dk_3 (dk_at dksX1_isHeld_1 7 rfl rfl)
theorem dX1_isHeld_30 : decode cX1_isHeld 30 = .ok (.ireturn, 1) := dk_172 (dk_at dksX1_isHeld_1 8 rfl rfl)
abbrev cX1_takes : ByteArray := prog_7_method_5_code
def yX1_takes : MethodName := ⟨RX1, "takes", "(I)V"⟩
def dkwX1_takes_4 : List UInt8 := [184, 0, 74, 177]
abbrev dktX1_takes_4 : List UInt8 := dkwX1_takes_4 ++ []
def dkwX1_takes_3 : List UInt8 := [180, 0, 24, 3, 16, 6, 184, 0, 74, 42, 180, 0, 46, 16, 28, 27, 104, 42, 180, 0, 42, 3, 16, 28]
abbrev dktX1_takes_3 : List UInt8 := dkwX1_takes_3 ++ dktX1_takes_4
def dkwX1_takes_2 : List UInt8 := [28, 16, 8, 96, 42, 180, 0, 21, 3, 16, 6, 184, 0, 74, 42, 180, 0, 49, 28, 16, 14, 96, 42]
abbrev dktX1_takes_2 : List UInt8 := dkwX1_takes_2 ++ dktX1_takes_3
def dkwX1_takes_1 : List UInt8 := [181, 0, 87, 42, 180, 0, 49, 28, 5, 96, 42, 180, 0, 9, 3, 16, 6, 184, 0, 74, 42, 180, 0, 49]
abbrev dktX1_takes_1 : List UInt8 := dkwX1_takes_1 ++ dktX1_takes_2
def dkwX1_takes_0 : List UInt8 := [16, 20, 27, 104, 61, 42, 42, 180, 0, 49, 28, 46, 181, 0, 84, 42, 42, 180, 0, 49, 28, 4, 96, 46]
abbrev dktX1_takes_0 : List UInt8 := dkwX1_takes_0 ++ dktX1_takes_1
theorem dksX1_takes_0 : cX1_takes.data.toList.drop 0 = dktX1_takes_0 := by decide +kernel
theorem dksX1_takes_1 : cX1_takes.data.toList.drop 24 = dktX1_takes_1 := dk_seg dksX1_takes_0 24 rfl rfl
theorem dksX1_takes_2 : cX1_takes.data.toList.drop 48 = dktX1_takes_2 := dk_seg dksX1_takes_1 24 rfl rfl
theorem dksX1_takes_3 : cX1_takes.data.toList.drop 71 = dktX1_takes_3 := dk_seg dksX1_takes_2 23 rfl rfl
theorem dksX1_takes_4 : cX1_takes.data.toList.drop 95 = dktX1_takes_4 := dk_seg dksX1_takes_3 24 rfl rfl
theorem dX1_takes_0 : decode cX1_takes 0 = .ok (.bipush 20, 2) := dk_16 20 (dk_at dksX1_takes_0 0 rfl rfl)
theorem dX1_takes_2 : decode cX1_takes 2 = .ok (.iload_n 1, 1) := dk_27 (dk_at dksX1_takes_0 2 rfl rfl)
theorem dX1_takes_3 : decode cX1_takes 3 = .ok (.imul, 1) := dk_104 (dk_at dksX1_takes_0 3 rfl rfl)
theorem dX1_takes_4 : decode cX1_takes 4 = .ok (.istore_n 2, 1) := dk_61 (dk_at dksX1_takes_0 4 rfl rfl)
theorem dX1_takes_5 : decode cX1_takes 5 = .ok (.aload_n 0, 1) := dk_42 (dk_at dksX1_takes_0 5 rfl rfl)
theorem dX1_takes_6 : decode cX1_takes 6 = .ok (.aload_n 0, 1) := dk_42 (dk_at dksX1_takes_0 6 rfl rfl)
theorem dX1_takes_7 : decode cX1_takes 7 = .ok (.getfield 49, 3) := dk_180 0 49 (dk_at dksX1_takes_0 7 rfl rfl)
theorem dX1_takes_10 : decode cX1_takes 10 = .ok (.iload_n 2, 1) := dk_28 (dk_at dksX1_takes_0 10 rfl rfl)
theorem dX1_takes_11 : decode cX1_takes 11 = .ok (.iaload, 1) := dk_46 (dk_at dksX1_takes_0 11 rfl rfl)
theorem dX1_takes_12 : decode cX1_takes 12 = .ok (.putfield 84, 3) := dk_181 0 84 (dk_at dksX1_takes_0 12 rfl rfl)
theorem dX1_takes_15 : decode cX1_takes 15 = .ok (.aload_n 0, 1) := dk_42 (dk_at dksX1_takes_0 15 rfl rfl)
theorem dX1_takes_16 : decode cX1_takes 16 = .ok (.aload_n 0, 1) := dk_42 (dk_at dksX1_takes_0 16 rfl rfl)
theorem dX1_takes_17 : decode cX1_takes 17 = .ok (.getfield 49, 3) := dk_180 0 49 (dk_at dksX1_takes_0 17 rfl rfl)
theorem dX1_takes_20 : decode cX1_takes 20 = .ok (.iload_n 2, 1) := dk_28 (dk_at dksX1_takes_0 20 rfl rfl)
theorem dX1_takes_21 : decode cX1_takes 21 = .ok (.iconst 1, 1) := dk_4 (dk_at dksX1_takes_0 21 rfl rfl)
theorem dX1_takes_22 : decode cX1_takes 22 = .ok (.iadd, 1) := dk_96 (dk_at dksX1_takes_0 22 rfl rfl)
theorem dX1_takes_23 : decode cX1_takes 23 = .ok (.iaload, 1) := dk_46 (dk_at dksX1_takes_0 23 rfl rfl)
theorem dX1_takes_24 : decode cX1_takes 24 = .ok (.putfield 87, 3) := dk_181 0 87 (dk_at dksX1_takes_1 0 rfl rfl)
theorem dX1_takes_27 : decode cX1_takes 27 = .ok (.aload_n 0, 1) := dk_42 (dk_at dksX1_takes_1 3 rfl rfl)
theorem dX1_takes_28 : decode cX1_takes 28 = .ok (.getfield 49, 3) := dk_180 0 49 (dk_at dksX1_takes_1 4 rfl rfl)
theorem dX1_takes_31 : decode cX1_takes 31 = .ok (.iload_n 2, 1) := dk_28 (dk_at dksX1_takes_1 7 rfl rfl)
theorem dX1_takes_32 : decode cX1_takes 32 = .ok (.iconst 2, 1) := dk_5 (dk_at dksX1_takes_1 8 rfl rfl)
theorem dX1_takes_33 : decode cX1_takes 33 = .ok (.iadd, 1) := dk_96 (dk_at dksX1_takes_1 9 rfl rfl)
theorem dX1_takes_34 : decode cX1_takes 34 = .ok (.aload_n 0, 1) := dk_42 (dk_at dksX1_takes_1 10 rfl rfl)
theorem dX1_takes_35 : decode cX1_takes 35 = .ok (.getfield 9, 3) := dk_180 0 9 (dk_at dksX1_takes_1 11 rfl rfl)
theorem dX1_takes_38 : decode cX1_takes 38 = .ok (.iconst 0, 1) := dk_3 (dk_at dksX1_takes_1 14 rfl rfl)
theorem dX1_takes_39 : decode cX1_takes 39 = .ok (.bipush 6, 2) := dk_16 6 (dk_at dksX1_takes_1 15 rfl rfl)
theorem dX1_takes_41 : decode cX1_takes 41 = .ok (.invokestatic 74, 3) := dk_184 0 74 (dk_at dksX1_takes_1 17 rfl rfl)
theorem dX1_takes_44 : decode cX1_takes 44 = .ok (.aload_n 0, 1) := dk_42 (dk_at dksX1_takes_1 20 rfl rfl)
theorem dX1_takes_45 : decode cX1_takes 45 = .ok (.getfield 49, 3) := dk_180 0 49 (dk_at dksX1_takes_1 21 rfl rfl)
theorem dX1_takes_48 : decode cX1_takes 48 = .ok (.iload_n 2, 1) := dk_28 (dk_at dksX1_takes_2 0 rfl rfl)
theorem dX1_takes_49 : decode cX1_takes 49 = .ok (.bipush 8, 2) := dk_16 8 (dk_at dksX1_takes_2 1 rfl rfl)
theorem dX1_takes_51 : decode cX1_takes 51 = .ok (.iadd, 1) := dk_96 (dk_at dksX1_takes_2 3 rfl rfl)
theorem dX1_takes_52 : decode cX1_takes 52 = .ok (.aload_n 0, 1) := dk_42 (dk_at dksX1_takes_2 4 rfl rfl)
theorem dX1_takes_53 : decode cX1_takes 53 = .ok (.getfield 21, 3) := dk_180 0 21 (dk_at dksX1_takes_2 5 rfl rfl)
theorem dX1_takes_56 : decode cX1_takes 56 = .ok (.iconst 0, 1) := dk_3 (dk_at dksX1_takes_2 8 rfl rfl)
theorem dX1_takes_57 : decode cX1_takes 57 = .ok (.bipush 6, 2) := dk_16 6 (dk_at dksX1_takes_2 9 rfl rfl)
theorem dX1_takes_59 : decode cX1_takes 59 = .ok (.invokestatic 74, 3) := dk_184 0 74 (dk_at dksX1_takes_2 11 rfl rfl)
theorem dX1_takes_62 : decode cX1_takes 62 = .ok (.aload_n 0, 1) := dk_42 (dk_at dksX1_takes_2 14 rfl rfl)
theorem dX1_takes_63 : decode cX1_takes 63 = .ok (.getfield 49, 3) := dk_180 0 49 (dk_at dksX1_takes_2 15 rfl rfl)
theorem dX1_takes_66 : decode cX1_takes 66 = .ok (.iload_n 2, 1) := dk_28 (dk_at dksX1_takes_2 18 rfl rfl)
theorem dX1_takes_67 : decode cX1_takes 67 = .ok (.bipush 14, 2) := dk_16 14 (dk_at dksX1_takes_2 19 rfl rfl)
theorem dX1_takes_69 : decode cX1_takes 69 = .ok (.iadd, 1) := dk_96 (dk_at dksX1_takes_2 21 rfl rfl)
theorem dX1_takes_70 : decode cX1_takes 70 = .ok (.aload_n 0, 1) := dk_42 (dk_at dksX1_takes_2 22 rfl rfl)
theorem dX1_takes_71 : decode cX1_takes 71 = .ok (.getfield 24, 3) := dk_180 0 24 (dk_at dksX1_takes_3 0 rfl rfl)
theorem dX1_takes_74 : decode cX1_takes 74 = .ok (.iconst 0, 1) := dk_3 (dk_at dksX1_takes_3 3 rfl rfl)
theorem dX1_takes_75 : decode cX1_takes 75 = .ok (.bipush 6, 2) := dk_16 6 (dk_at dksX1_takes_3 4 rfl rfl)
theorem dX1_takes_77 : decode cX1_takes 77 = .ok (.invokestatic 74, 3) := dk_184 0 74 (dk_at dksX1_takes_3 6 rfl rfl)
theorem dX1_takes_80 : decode cX1_takes 80 = .ok (.aload_n 0, 1) := dk_42 (dk_at dksX1_takes_3 9 rfl rfl)
theorem dX1_takes_81 : decode cX1_takes 81 = .ok (.getfield 46, 3) := dk_180 0 46 (dk_at dksX1_takes_3 10 rfl rfl)
theorem dX1_takes_84 : decode cX1_takes 84 = .ok (.bipush 28, 2) := dk_16 28 (dk_at dksX1_takes_3 13 rfl rfl)
theorem dX1_takes_86 : decode cX1_takes 86 = .ok (.iload_n 1, 1) := dk_27 (dk_at dksX1_takes_3 15 rfl rfl)
theorem dX1_takes_87 : decode cX1_takes 87 = .ok (.imul, 1) := dk_104 (dk_at dksX1_takes_3 16 rfl rfl)
theorem dX1_takes_88 : decode cX1_takes 88 = .ok (.aload_n 0, 1) := dk_42 (dk_at dksX1_takes_3 17 rfl rfl)
theorem dX1_takes_89 : decode cX1_takes 89 = .ok (.getfield 42, 3) := dk_180 0 42 (dk_at dksX1_takes_3 18 rfl rfl)
theorem dX1_takes_92 : decode cX1_takes 92 = .ok (.iconst 0, 1) := dk_3 (dk_at dksX1_takes_3 21 rfl rfl)
theorem dX1_takes_93 : decode cX1_takes 93 = .ok (.bipush 28, 2) := dk_16 28 (dk_at dksX1_takes_3 22 rfl rfl)
theorem dX1_takes_95 : decode cX1_takes 95 = .ok (.invokestatic 74, 3) := dk_184 0 74 (dk_at dksX1_takes_4 0 rfl rfl)
theorem dX1_takes_98 : decode cX1_takes 98 = .ok (.return_, 1) := dk_177 (dk_at dksX1_takes_4 3 rfl rfl)
abbrev cX1_lays : ByteArray := prog_7_method_4_code
def yX1_lays : MethodName := ⟨RX1, "lays", "(I)V"⟩
def dkwX1_lays_4 : List UInt8 := [104, 16, 28, 184, 0, 74, 177]
abbrev dktX1_lays_4 : List UInt8 := dkwX1_lays_4 ++ []
def dkwX1_lays_3 : List UInt8 := [180, 0, 49, 28, 16, 14, 96, 16, 6, 184, 0, 74, 42, 180, 0, 42, 3, 42, 180, 0, 46, 16, 28, 27]
abbrev dktX1_lays_3 : List UInt8 := dkwX1_lays_3 ++ dktX1_lays_4
def dkwX1_lays_2 : List UInt8 := [180, 0, 21, 3, 42, 180, 0, 49, 28, 16, 8, 96, 16, 6, 184, 0, 74, 42, 180, 0, 24, 3, 42]
abbrev dktX1_lays_2 : List UInt8 := dkwX1_lays_2 ++ dktX1_lays_3
def dkwX1_lays_1 : List UInt8 := [180, 0, 87, 79, 42, 180, 0, 9, 3, 42, 180, 0, 49, 28, 5, 96, 16, 6, 184, 0, 74, 42]
abbrev dktX1_lays_1 : List UInt8 := dkwX1_lays_1 ++ dktX1_lays_2
def dkwX1_lays_0 : List UInt8 := [16, 20, 27, 104, 61, 42, 180, 0, 49, 28, 42, 180, 0, 84, 79, 42, 180, 0, 49, 28, 4, 96, 42]
abbrev dktX1_lays_0 : List UInt8 := dkwX1_lays_0 ++ dktX1_lays_1
theorem dksX1_lays_0 : cX1_lays.data.toList.drop 0 = dktX1_lays_0 := by decide +kernel
theorem dksX1_lays_1 : cX1_lays.data.toList.drop 23 = dktX1_lays_1 := dk_seg dksX1_lays_0 23 rfl rfl
theorem dksX1_lays_2 : cX1_lays.data.toList.drop 45 = dktX1_lays_2 := dk_seg dksX1_lays_1 22 rfl rfl
theorem dksX1_lays_3 : cX1_lays.data.toList.drop 68 = dktX1_lays_3 := dk_seg dksX1_lays_2 23 rfl rfl
theorem dksX1_lays_4 : cX1_lays.data.toList.drop 92 = dktX1_lays_4 := dk_seg dksX1_lays_3 24 rfl rfl
theorem dX1_lays_0 : decode cX1_lays 0 = .ok (.bipush 20, 2) := dk_16 20 (dk_at dksX1_lays_0 0 rfl rfl)
theorem dX1_lays_2 : decode cX1_lays 2 = .ok (.iload_n 1, 1) := dk_27 (dk_at dksX1_lays_0 2 rfl rfl)
theorem dX1_lays_3 : decode cX1_lays 3 = .ok (.imul, 1) := dk_104 (dk_at dksX1_lays_0 3 rfl rfl)
theorem dX1_lays_4 : decode cX1_lays 4 = .ok (.istore_n 2, 1) := dk_61 (dk_at dksX1_lays_0 4 rfl rfl)
theorem dX1_lays_5 : decode cX1_lays 5 = .ok (.aload_n 0, 1) := dk_42 (dk_at dksX1_lays_0 5 rfl rfl)
theorem dX1_lays_6 : decode cX1_lays 6 = .ok (.getfield 49, 3) := dk_180 0 49 (dk_at dksX1_lays_0 6 rfl rfl)
theorem dX1_lays_9 : decode cX1_lays 9 = .ok (.iload_n 2, 1) := dk_28 (dk_at dksX1_lays_0 9 rfl rfl)
theorem dX1_lays_10 : decode cX1_lays 10 = .ok (.aload_n 0, 1) := dk_42 (dk_at dksX1_lays_0 10 rfl rfl)
theorem dX1_lays_11 : decode cX1_lays 11 = .ok (.getfield 84, 3) := dk_180 0 84 (dk_at dksX1_lays_0 11 rfl rfl)
theorem dX1_lays_14 : decode cX1_lays 14 = .ok (.iastore, 1) := dk_79 (dk_at dksX1_lays_0 14 rfl rfl)
theorem dX1_lays_15 : decode cX1_lays 15 = .ok (.aload_n 0, 1) := dk_42 (dk_at dksX1_lays_0 15 rfl rfl)
theorem dX1_lays_16 : decode cX1_lays 16 = .ok (.getfield 49, 3) := dk_180 0 49 (dk_at dksX1_lays_0 16 rfl rfl)
theorem dX1_lays_19 : decode cX1_lays 19 = .ok (.iload_n 2, 1) := dk_28 (dk_at dksX1_lays_0 19 rfl rfl)
theorem dX1_lays_20 : decode cX1_lays 20 = .ok (.iconst 1, 1) := dk_4 (dk_at dksX1_lays_0 20 rfl rfl)
theorem dX1_lays_21 : decode cX1_lays 21 = .ok (.iadd, 1) := dk_96 (dk_at dksX1_lays_0 21 rfl rfl)
theorem dX1_lays_22 : decode cX1_lays 22 = .ok (.aload_n 0, 1) := dk_42 (dk_at dksX1_lays_0 22 rfl rfl)
theorem dX1_lays_23 : decode cX1_lays 23 = .ok (.getfield 87, 3) := dk_180 0 87 (dk_at dksX1_lays_1 0 rfl rfl)
theorem dX1_lays_26 : decode cX1_lays 26 = .ok (.iastore, 1) := dk_79 (dk_at dksX1_lays_1 3 rfl rfl)
theorem dX1_lays_27 : decode cX1_lays 27 = .ok (.aload_n 0, 1) := dk_42 (dk_at dksX1_lays_1 4 rfl rfl)
theorem dX1_lays_28 : decode cX1_lays 28 = .ok (.getfield 9, 3) := dk_180 0 9 (dk_at dksX1_lays_1 5 rfl rfl)
theorem dX1_lays_31 : decode cX1_lays 31 = .ok (.iconst 0, 1) := dk_3 (dk_at dksX1_lays_1 8 rfl rfl)
theorem dX1_lays_32 : decode cX1_lays 32 = .ok (.aload_n 0, 1) := dk_42 (dk_at dksX1_lays_1 9 rfl rfl)
theorem dX1_lays_33 : decode cX1_lays 33 = .ok (.getfield 49, 3) := dk_180 0 49 (dk_at dksX1_lays_1 10 rfl rfl)
theorem dX1_lays_36 : decode cX1_lays 36 = .ok (.iload_n 2, 1) := dk_28 (dk_at dksX1_lays_1 13 rfl rfl)
theorem dX1_lays_37 : decode cX1_lays 37 = .ok (.iconst 2, 1) := dk_5 (dk_at dksX1_lays_1 14 rfl rfl)
theorem dX1_lays_38 : decode cX1_lays 38 = .ok (.iadd, 1) := dk_96 (dk_at dksX1_lays_1 15 rfl rfl)
theorem dX1_lays_39 : decode cX1_lays 39 = .ok (.bipush 6, 2) := dk_16 6 (dk_at dksX1_lays_1 16 rfl rfl)
theorem dX1_lays_41 : decode cX1_lays 41 = .ok (.invokestatic 74, 3) := dk_184 0 74 (dk_at dksX1_lays_1 18 rfl rfl)
theorem dX1_lays_44 : decode cX1_lays 44 = .ok (.aload_n 0, 1) := dk_42 (dk_at dksX1_lays_1 21 rfl rfl)
theorem dX1_lays_45 : decode cX1_lays 45 = .ok (.getfield 21, 3) := dk_180 0 21 (dk_at dksX1_lays_2 0 rfl rfl)
theorem dX1_lays_48 : decode cX1_lays 48 = .ok (.iconst 0, 1) := dk_3 (dk_at dksX1_lays_2 3 rfl rfl)
theorem dX1_lays_49 : decode cX1_lays 49 = .ok (.aload_n 0, 1) := dk_42 (dk_at dksX1_lays_2 4 rfl rfl)
theorem dX1_lays_50 : decode cX1_lays 50 = .ok (.getfield 49, 3) := dk_180 0 49 (dk_at dksX1_lays_2 5 rfl rfl)
theorem dX1_lays_53 : decode cX1_lays 53 = .ok (.iload_n 2, 1) := dk_28 (dk_at dksX1_lays_2 8 rfl rfl)
theorem dX1_lays_54 : decode cX1_lays 54 = .ok (.bipush 8, 2) := dk_16 8 (dk_at dksX1_lays_2 9 rfl rfl)
theorem dX1_lays_56 : decode cX1_lays 56 = .ok (.iadd, 1) := dk_96 (dk_at dksX1_lays_2 11 rfl rfl)
theorem dX1_lays_57 : decode cX1_lays 57 = .ok (.bipush 6, 2) := dk_16 6 (dk_at dksX1_lays_2 12 rfl rfl)
theorem dX1_lays_59 : decode cX1_lays 59 = .ok (.invokestatic 74, 3) := dk_184 0 74 (dk_at dksX1_lays_2 14 rfl rfl)
theorem dX1_lays_62 : decode cX1_lays 62 = .ok (.aload_n 0, 1) := dk_42 (dk_at dksX1_lays_2 17 rfl rfl)
theorem dX1_lays_63 : decode cX1_lays 63 = .ok (.getfield 24, 3) := dk_180 0 24 (dk_at dksX1_lays_2 18 rfl rfl)
theorem dX1_lays_66 : decode cX1_lays 66 = .ok (.iconst 0, 1) := dk_3 (dk_at dksX1_lays_2 21 rfl rfl)
theorem dX1_lays_67 : decode cX1_lays 67 = .ok (.aload_n 0, 1) := dk_42 (dk_at dksX1_lays_2 22 rfl rfl)
theorem dX1_lays_68 : decode cX1_lays 68 = .ok (.getfield 49, 3) := dk_180 0 49 (dk_at dksX1_lays_3 0 rfl rfl)
theorem dX1_lays_71 : decode cX1_lays 71 = .ok (.iload_n 2, 1) := dk_28 (dk_at dksX1_lays_3 3 rfl rfl)
theorem dX1_lays_72 : decode cX1_lays 72 = .ok (.bipush 14, 2) := dk_16 14 (dk_at dksX1_lays_3 4 rfl rfl)
theorem dX1_lays_74 : decode cX1_lays 74 = .ok (.iadd, 1) := dk_96 (dk_at dksX1_lays_3 6 rfl rfl)
theorem dX1_lays_75 : decode cX1_lays 75 = .ok (.bipush 6, 2) := dk_16 6 (dk_at dksX1_lays_3 7 rfl rfl)
theorem dX1_lays_77 : decode cX1_lays 77 = .ok (.invokestatic 74, 3) := dk_184 0 74 (dk_at dksX1_lays_3 9 rfl rfl)
theorem dX1_lays_80 : decode cX1_lays 80 = .ok (.aload_n 0, 1) := dk_42 (dk_at dksX1_lays_3 12 rfl rfl)
theorem dX1_lays_81 : decode cX1_lays 81 = .ok (.getfield 42, 3) := dk_180 0 42 (dk_at dksX1_lays_3 13 rfl rfl)
theorem dX1_lays_84 : decode cX1_lays 84 = .ok (.iconst 0, 1) := dk_3 (dk_at dksX1_lays_3 16 rfl rfl)
theorem dX1_lays_85 : decode cX1_lays 85 = .ok (.aload_n 0, 1) := dk_42 (dk_at dksX1_lays_3 17 rfl rfl)
theorem dX1_lays_86 : decode cX1_lays 86 = .ok (.getfield 46, 3) := dk_180 0 46 (dk_at dksX1_lays_3 18 rfl rfl)
theorem dX1_lays_89 : decode cX1_lays 89 = .ok (.bipush 28, 2) := dk_16 28 (dk_at dksX1_lays_3 21 rfl rfl)
theorem dX1_lays_91 : decode cX1_lays 91 = .ok (.iload_n 1, 1) := dk_27 (dk_at dksX1_lays_3 23 rfl rfl)
theorem dX1_lays_92 : decode cX1_lays 92 = .ok (.imul, 1) := dk_104 (dk_at dksX1_lays_4 0 rfl rfl)
theorem dX1_lays_93 : decode cX1_lays 93 = .ok (.bipush 28, 2) := dk_16 28 (dk_at dksX1_lays_4 1 rfl rfl)
theorem dX1_lays_95 : decode cX1_lays 95 = .ok (.invokestatic 74, 3) := dk_184 0 74 (dk_at dksX1_lays_4 3 rfl rfl)
theorem dX1_lays_98 : decode cX1_lays 98 = .ok (.return_, 1) := dk_177 (dk_at dksX1_lays_4 6 rfl rfl)
abbrev cX1_dayGoes : ByteArray := prog_7_method_13_code
def yX1_dayGoes : MethodName := ⟨RX1, "dayGoes", "()V"⟩
def dkwX1_dayGoes_5 : List UInt8 := [182, 0, 112, 132, 1, 1, 167, 255, 173, 177]
abbrev dktX1_dayGoes_5 : List UInt8 := dkwX1_dayGoes_5 ++ []
def dkwX1_dayGoes_4 : List UInt8 := [42, 180, 0, 33, 27, 46, 182, 0, 112, 132, 2, 1, 167, 255, 234, 42, 16, 6, 42, 180, 0, 33, 27, 46]
abbrev dktX1_dayGoes_4 : List UInt8 := dkwX1_dayGoes_4 ++ dktX1_dayGoes_5
def dkwX1_dayGoes_3 : List UInt8 := [4, 42, 180, 0, 33, 27, 46, 120, 130, 181, 0, 84, 3, 61, 28, 42, 180, 0, 56, 162, 0, 20, 42, 28]
abbrev dktX1_dayGoes_3 : List UInt8 := dkwX1_dayGoes_3 ++ dktX1_dayGoes_4
def dkwX1_dayGoes_2 : List UInt8 := [162, 0, 81, 42, 180, 0, 36, 27, 46, 42, 180, 0, 87, 159, 0, 6, 167, 0, 59, 42, 89, 180, 0, 84]
abbrev dktX1_dayGoes_2 : List UInt8 := dkwX1_dayGoes_2 ++ dktX1_dayGoes_3
def dkwX1_dayGoes_1 : List UInt8 := [27, 3, 79, 42, 180, 0, 24, 27, 3, 79, 132, 1, 1, 167, 255, 231, 3, 60, 27, 42, 180, 0, 65]
abbrev dktX1_dayGoes_1 : List UInt8 := dkwX1_dayGoes_1 ++ dktX1_dayGoes_2
def dkwX1_dayGoes_0 : List UInt8 := [42, 89, 180, 0, 87, 4, 96, 181, 0, 87, 3, 60, 27, 42, 180, 0, 56, 162, 0, 23, 42, 180, 0, 21]
abbrev dktX1_dayGoes_0 : List UInt8 := dkwX1_dayGoes_0 ++ dktX1_dayGoes_1
theorem dksX1_dayGoes_0 : cX1_dayGoes.data.toList.drop 0 = dktX1_dayGoes_0 := by decide +kernel
theorem dksX1_dayGoes_1 : cX1_dayGoes.data.toList.drop 24 = dktX1_dayGoes_1 := dk_seg dksX1_dayGoes_0 24 rfl rfl
theorem dksX1_dayGoes_2 : cX1_dayGoes.data.toList.drop 47 = dktX1_dayGoes_2 := dk_seg dksX1_dayGoes_1 23 rfl rfl
theorem dksX1_dayGoes_3 : cX1_dayGoes.data.toList.drop 71 = dktX1_dayGoes_3 := dk_seg dksX1_dayGoes_2 24 rfl rfl
theorem dksX1_dayGoes_4 : cX1_dayGoes.data.toList.drop 95 = dktX1_dayGoes_4 := dk_seg dksX1_dayGoes_3 24 rfl rfl
theorem dksX1_dayGoes_5 : cX1_dayGoes.data.toList.drop 119 = dktX1_dayGoes_5 := dk_seg dksX1_dayGoes_4 24 rfl rfl
theorem dX1_dayGoes_0 : decode cX1_dayGoes 0 = .ok (.aload_n 0, 1) := dk_42 (dk_at dksX1_dayGoes_0 0 rfl rfl)
theorem dX1_dayGoes_1 : decode cX1_dayGoes 1 = .ok (.dup, 1) := dk_89 (dk_at dksX1_dayGoes_0 1 rfl rfl)
theorem dX1_dayGoes_2 : decode cX1_dayGoes 2 = .ok (.getfield 87, 3) := dk_180 0 87 (dk_at dksX1_dayGoes_0 2 rfl rfl)
theorem dX1_dayGoes_5 : decode cX1_dayGoes 5 = .ok (.iconst 1, 1) := dk_4 (dk_at dksX1_dayGoes_0 5 rfl rfl)
theorem dX1_dayGoes_6 : decode cX1_dayGoes 6 = .ok (.iadd, 1) := dk_96 (dk_at dksX1_dayGoes_0 6 rfl rfl)
theorem dX1_dayGoes_7 : decode cX1_dayGoes 7 = .ok (.putfield 87, 3) := dk_181 0 87 (dk_at dksX1_dayGoes_0 7 rfl rfl)
theorem dX1_dayGoes_10 : decode cX1_dayGoes 10 = .ok (.iconst 0, 1) := dk_3 (dk_at dksX1_dayGoes_0 10 rfl rfl)
theorem dX1_dayGoes_11 : decode cX1_dayGoes 11 = .ok (.istore_n 1, 1) := dk_60 (dk_at dksX1_dayGoes_0 11 rfl rfl)
theorem dX1_dayGoes_12 : decode cX1_dayGoes 12 = .ok (.iload_n 1, 1) := dk_27 (dk_at dksX1_dayGoes_0 12 rfl rfl)
theorem dX1_dayGoes_13 : decode cX1_dayGoes 13 = .ok (.aload_n 0, 1) := dk_42 (dk_at dksX1_dayGoes_0 13 rfl rfl)
theorem dX1_dayGoes_14 : decode cX1_dayGoes 14 = .ok (.getfield 56, 3) := dk_180 0 56 (dk_at dksX1_dayGoes_0 14 rfl rfl)
theorem dX1_dayGoes_17 : decode cX1_dayGoes 17 = .ok (.if_icmp .ge 23, 3) := dk_162 0 23 (dk_at dksX1_dayGoes_0 17 rfl rfl)
theorem dX1_dayGoes_20 : decode cX1_dayGoes 20 = .ok (.aload_n 0, 1) := dk_42 (dk_at dksX1_dayGoes_0 20 rfl rfl)
theorem dX1_dayGoes_21 : decode cX1_dayGoes 21 = .ok (.getfield 21, 3) := dk_180 0 21 (dk_at dksX1_dayGoes_0 21 rfl rfl)
theorem dX1_dayGoes_24 : decode cX1_dayGoes 24 = .ok (.iload_n 1, 1) := dk_27 (dk_at dksX1_dayGoes_1 0 rfl rfl)
theorem dX1_dayGoes_25 : decode cX1_dayGoes 25 = .ok (.iconst 0, 1) := dk_3 (dk_at dksX1_dayGoes_1 1 rfl rfl)
theorem dX1_dayGoes_26 : decode cX1_dayGoes 26 = .ok (.iastore, 1) := dk_79 (dk_at dksX1_dayGoes_1 2 rfl rfl)
theorem dX1_dayGoes_27 : decode cX1_dayGoes 27 = .ok (.aload_n 0, 1) := dk_42 (dk_at dksX1_dayGoes_1 3 rfl rfl)
theorem dX1_dayGoes_28 : decode cX1_dayGoes 28 = .ok (.getfield 24, 3) := dk_180 0 24 (dk_at dksX1_dayGoes_1 4 rfl rfl)
theorem dX1_dayGoes_31 : decode cX1_dayGoes 31 = .ok (.iload_n 1, 1) := dk_27 (dk_at dksX1_dayGoes_1 7 rfl rfl)
theorem dX1_dayGoes_32 : decode cX1_dayGoes 32 = .ok (.iconst 0, 1) := dk_3 (dk_at dksX1_dayGoes_1 8 rfl rfl)
theorem dX1_dayGoes_33 : decode cX1_dayGoes 33 = .ok (.iastore, 1) := dk_79 (dk_at dksX1_dayGoes_1 9 rfl rfl)
theorem dX1_dayGoes_34 : decode cX1_dayGoes 34 = .ok (.iinc 1 1, 3) := dk_132 1 1 (dk_at dksX1_dayGoes_1 10 rfl rfl)
theorem dX1_dayGoes_37 : decode cX1_dayGoes 37 = .ok (.goto (-25), 3) := dk_167 255 231 (dk_at dksX1_dayGoes_1 13 rfl rfl)
theorem dX1_dayGoes_40 : decode cX1_dayGoes 40 = .ok (.iconst 0, 1) := dk_3 (dk_at dksX1_dayGoes_1 16 rfl rfl)
theorem dX1_dayGoes_41 : decode cX1_dayGoes 41 = .ok (.istore_n 1, 1) := dk_60 (dk_at dksX1_dayGoes_1 17 rfl rfl)
theorem dX1_dayGoes_42 : decode cX1_dayGoes 42 = .ok (.iload_n 1, 1) := dk_27 (dk_at dksX1_dayGoes_1 18 rfl rfl)
theorem dX1_dayGoes_43 : decode cX1_dayGoes 43 = .ok (.aload_n 0, 1) := dk_42 (dk_at dksX1_dayGoes_1 19 rfl rfl)
theorem dX1_dayGoes_44 : decode cX1_dayGoes 44 = .ok (.getfield 65, 3) := dk_180 0 65 (dk_at dksX1_dayGoes_1 20 rfl rfl)
theorem dX1_dayGoes_47 : decode cX1_dayGoes 47 = .ok (.if_icmp .ge 81, 3) := dk_162 0 81 (dk_at dksX1_dayGoes_2 0 rfl rfl)
theorem dX1_dayGoes_50 : decode cX1_dayGoes 50 = .ok (.aload_n 0, 1) := dk_42 (dk_at dksX1_dayGoes_2 3 rfl rfl)
theorem dX1_dayGoes_51 : decode cX1_dayGoes 51 = .ok (.getfield 36, 3) := dk_180 0 36 (dk_at dksX1_dayGoes_2 4 rfl rfl)
theorem dX1_dayGoes_54 : decode cX1_dayGoes 54 = .ok (.iload_n 1, 1) := dk_27 (dk_at dksX1_dayGoes_2 7 rfl rfl)
theorem dX1_dayGoes_55 : decode cX1_dayGoes 55 = .ok (.iaload, 1) := dk_46 (dk_at dksX1_dayGoes_2 8 rfl rfl)
theorem dX1_dayGoes_56 : decode cX1_dayGoes 56 = .ok (.aload_n 0, 1) := dk_42 (dk_at dksX1_dayGoes_2 9 rfl rfl)
theorem dX1_dayGoes_57 : decode cX1_dayGoes 57 = .ok (.getfield 87, 3) := dk_180 0 87 (dk_at dksX1_dayGoes_2 10 rfl rfl)
theorem dX1_dayGoes_60 : decode cX1_dayGoes 60 = .ok (.if_icmp .eq 6, 3) := dk_159 0 6 (dk_at dksX1_dayGoes_2 13 rfl rfl)
theorem dX1_dayGoes_63 : decode cX1_dayGoes 63 = .ok (.goto 59, 3) := dk_167 0 59 (dk_at dksX1_dayGoes_2 16 rfl rfl)
theorem dX1_dayGoes_66 : decode cX1_dayGoes 66 = .ok (.aload_n 0, 1) := dk_42 (dk_at dksX1_dayGoes_2 19 rfl rfl)
theorem dX1_dayGoes_67 : decode cX1_dayGoes 67 = .ok (.dup, 1) := dk_89 (dk_at dksX1_dayGoes_2 20 rfl rfl)
theorem dX1_dayGoes_68 : decode cX1_dayGoes 68 = .ok (.getfield 84, 3) := dk_180 0 84 (dk_at dksX1_dayGoes_2 21 rfl rfl)
theorem dX1_dayGoes_71 : decode cX1_dayGoes 71 = .ok (.iconst 1, 1) := dk_4 (dk_at dksX1_dayGoes_3 0 rfl rfl)
theorem dX1_dayGoes_72 : decode cX1_dayGoes 72 = .ok (.aload_n 0, 1) := dk_42 (dk_at dksX1_dayGoes_3 1 rfl rfl)
theorem dX1_dayGoes_73 : decode cX1_dayGoes 73 = .ok (.getfield 33, 3) := dk_180 0 33 (dk_at dksX1_dayGoes_3 2 rfl rfl)
theorem dX1_dayGoes_76 : decode cX1_dayGoes 76 = .ok (.iload_n 1, 1) := dk_27 (dk_at dksX1_dayGoes_3 5 rfl rfl)
theorem dX1_dayGoes_77 : decode cX1_dayGoes 77 = .ok (.iaload, 1) := dk_46 (dk_at dksX1_dayGoes_3 6 rfl rfl)
theorem dX1_dayGoes_78 : decode cX1_dayGoes 78 = .ok (.ishl, 1) := dk_120 (dk_at dksX1_dayGoes_3 7 rfl rfl)
theorem dX1_dayGoes_79 : decode cX1_dayGoes 79 = .ok (.ixor, 1) := dk_130 (dk_at dksX1_dayGoes_3 8 rfl rfl)
theorem dX1_dayGoes_80 : decode cX1_dayGoes 80 = .ok (.putfield 84, 3) := dk_181 0 84 (dk_at dksX1_dayGoes_3 9 rfl rfl)
theorem dX1_dayGoes_83 : decode cX1_dayGoes 83 = .ok (.iconst 0, 1) := dk_3 (dk_at dksX1_dayGoes_3 12 rfl rfl)
theorem dX1_dayGoes_84 : decode cX1_dayGoes 84 = .ok (.istore_n 2, 1) := dk_61 (dk_at dksX1_dayGoes_3 13 rfl rfl)
theorem dX1_dayGoes_85 : decode cX1_dayGoes 85 = .ok (.iload_n 2, 1) := dk_28 (dk_at dksX1_dayGoes_3 14 rfl rfl)
theorem dX1_dayGoes_86 : decode cX1_dayGoes 86 = .ok (.aload_n 0, 1) := dk_42 (dk_at dksX1_dayGoes_3 15 rfl rfl)
theorem dX1_dayGoes_87 : decode cX1_dayGoes 87 = .ok (.getfield 56, 3) := dk_180 0 56 (dk_at dksX1_dayGoes_3 16 rfl rfl)
theorem dX1_dayGoes_90 : decode cX1_dayGoes 90 = .ok (.if_icmp .ge 20, 3) := dk_162 0 20 (dk_at dksX1_dayGoes_3 19 rfl rfl)
theorem dX1_dayGoes_93 : decode cX1_dayGoes 93 = .ok (.aload_n 0, 1) := dk_42 (dk_at dksX1_dayGoes_3 22 rfl rfl)
theorem dX1_dayGoes_94 : decode cX1_dayGoes 94 = .ok (.iload_n 2, 1) := dk_28 (dk_at dksX1_dayGoes_3 23 rfl rfl)
theorem dX1_dayGoes_95 : decode cX1_dayGoes 95 = .ok (.aload_n 0, 1) := dk_42 (dk_at dksX1_dayGoes_4 0 rfl rfl)
theorem dX1_dayGoes_96 : decode cX1_dayGoes 96 = .ok (.getfield 33, 3) := dk_180 0 33 (dk_at dksX1_dayGoes_4 1 rfl rfl)
theorem dX1_dayGoes_99 : decode cX1_dayGoes 99 = .ok (.iload_n 1, 1) := dk_27 (dk_at dksX1_dayGoes_4 4 rfl rfl)
theorem dX1_dayGoes_100 : decode cX1_dayGoes 100 = .ok (.iaload, 1) := dk_46 (dk_at dksX1_dayGoes_4 5 rfl rfl)
theorem dX1_dayGoes_101 : decode cX1_dayGoes 101 = .ok (.invokevirtual 112, 3) := dk_182 0 112 (dk_at dksX1_dayGoes_4 6 rfl rfl)
theorem dX1_dayGoes_104 : decode cX1_dayGoes 104 = .ok (.iinc 2 1, 3) := dk_132 2 1 (dk_at dksX1_dayGoes_4 9 rfl rfl)
theorem dX1_dayGoes_107 : decode cX1_dayGoes 107 = .ok (.goto (-22), 3) := dk_167 255 234 (dk_at dksX1_dayGoes_4 12 rfl rfl)
theorem dX1_dayGoes_110 : decode cX1_dayGoes 110 = .ok (.aload_n 0, 1) := dk_42 (dk_at dksX1_dayGoes_4 15 rfl rfl)
theorem dX1_dayGoes_111 : decode cX1_dayGoes 111 = .ok (.bipush 6, 2) := dk_16 6 (dk_at dksX1_dayGoes_4 16 rfl rfl)
theorem dX1_dayGoes_113 : decode cX1_dayGoes 113 = .ok (.aload_n 0, 1) := dk_42 (dk_at dksX1_dayGoes_4 18 rfl rfl)
theorem dX1_dayGoes_114 : decode cX1_dayGoes 114 = .ok (.getfield 33, 3) := dk_180 0 33 (dk_at dksX1_dayGoes_4 19 rfl rfl)
theorem dX1_dayGoes_117 : decode cX1_dayGoes 117 = .ok (.iload_n 1, 1) := dk_27 (dk_at dksX1_dayGoes_4 22 rfl rfl)
theorem dX1_dayGoes_118 : decode cX1_dayGoes 118 = .ok (.iaload, 1) := dk_46 (dk_at dksX1_dayGoes_4 23 rfl rfl)
theorem dX1_dayGoes_119 : decode cX1_dayGoes 119 = .ok (.invokevirtual 112, 3) := dk_182 0 112 (dk_at dksX1_dayGoes_5 0 rfl rfl)
theorem dX1_dayGoes_122 : decode cX1_dayGoes 122 = .ok (.iinc 1 1, 3) := dk_132 1 1 (dk_at dksX1_dayGoes_5 3 rfl rfl)
theorem dX1_dayGoes_125 : decode cX1_dayGoes 125 = .ok (.goto (-83), 3) := dk_167 255 173 (dk_at dksX1_dayGoes_5 6 rfl rfl)
theorem dX1_dayGoes_128 : decode cX1_dayGoes 128 = .ok (.return_, 1) := dk_177 (dk_at dksX1_dayGoes_5 9 rfl rfl)
abbrev cX1_forgetsFact : ByteArray := prog_7_method_12_code
def yX1_forgetsFact : MethodName := ⟨RX1, "forgetsFact", "(II)V"⟩
def dkwX1_forgetsFact_6 : List UInt8 := [96, 92, 47, 42, 180, 0, 42, 29, 21, 5, 96, 47, 129, 80, 132, 5, 1, 167, 255, 188, 177]
abbrev dktX1_forgetsFact_6 : List UInt8 := dkwX1_forgetsFact_6 ++ []
def dkwX1_forgetsFact_5 : List UInt8 := [42, 180, 0, 42, 29, 21, 5, 96, 21, 4, 96, 47, 129, 80, 42, 180, 0, 42, 29, 21, 5, 96, 21, 4]
abbrev dktX1_forgetsFact_5 : List UInt8 := dkwX1_forgetsFact_5 ++ dktX1_forgetsFact_6
def dkwX1_forgetsFact_4 : List UInt8 := [162, 0, 68, 21, 5, 21, 4, 126, 153, 0, 6, 167, 0, 51, 42, 180, 0, 42, 29, 21, 5, 96, 92, 47]
abbrev dktX1_forgetsFact_4 : List UInt8 := dkwX1_forgetsFact_4 ++ dktX1_forgetsFact_5
def dkwX1_forgetsFact_3 : List UInt8 := [167, 255, 200, 177, 28, 16, 6, 160, 0, 7, 4, 167, 0, 4, 5, 54, 4, 3, 54, 5, 21, 5, 7]
abbrev dktX1_forgetsFact_3 : List UInt8 := dkwX1_forgetsFact_3 ++ dktX1_forgetsFact_4
def dkwX1_forgetsFact_2 : List UInt8 := [42, 180, 0, 42, 21, 4, 47, 178, 0, 109, 28, 47, 127, 4, 28, 120, 121, 129, 129, 80, 132, 4, 1]
abbrev dktX1_forgetsFact_2 : List UInt8 := dkwX1_forgetsFact_2 ++ dktX1_forgetsFact_3
def dkwX1_forgetsFact_1 : List UInt8 := [180, 0, 42, 21, 4, 92, 47, 42, 180, 0, 42, 21, 4, 47, 4, 28, 120, 125, 178, 0, 109, 28, 47, 127]
abbrev dktX1_forgetsFact_1 : List UInt8 := dkwX1_forgetsFact_1 ++ dktX1_forgetsFact_2
def dkwX1_forgetsFact_0 : List UInt8 := [7, 27, 104, 62, 28, 16, 6, 162, 0, 66, 29, 54, 4, 21, 4, 29, 7, 96, 162, 0, 54, 42]
abbrev dktX1_forgetsFact_0 : List UInt8 := dkwX1_forgetsFact_0 ++ dktX1_forgetsFact_1
theorem dksX1_forgetsFact_0 : cX1_forgetsFact.data.toList.drop 0 = dktX1_forgetsFact_0 := by decide +kernel
theorem dksX1_forgetsFact_1 : cX1_forgetsFact.data.toList.drop 22 = dktX1_forgetsFact_1 := dk_seg dksX1_forgetsFact_0 22 rfl rfl
theorem dksX1_forgetsFact_2 : cX1_forgetsFact.data.toList.drop 46 = dktX1_forgetsFact_2 := dk_seg dksX1_forgetsFact_1 24 rfl rfl
theorem dksX1_forgetsFact_3 : cX1_forgetsFact.data.toList.drop 69 = dktX1_forgetsFact_3 := dk_seg dksX1_forgetsFact_2 23 rfl rfl
theorem dksX1_forgetsFact_4 : cX1_forgetsFact.data.toList.drop 92 = dktX1_forgetsFact_4 := dk_seg dksX1_forgetsFact_3 23 rfl rfl
theorem dksX1_forgetsFact_5 : cX1_forgetsFact.data.toList.drop 116 = dktX1_forgetsFact_5 := dk_seg dksX1_forgetsFact_4 24 rfl rfl
theorem dksX1_forgetsFact_6 : cX1_forgetsFact.data.toList.drop 140 = dktX1_forgetsFact_6 := dk_seg dksX1_forgetsFact_5 24 rfl rfl
theorem dX1_forgetsFact_0 : decode cX1_forgetsFact 0 = .ok (.iconst 4, 1) := dk_7 (dk_at dksX1_forgetsFact_0 0 rfl rfl)
theorem dX1_forgetsFact_1 : decode cX1_forgetsFact 1 = .ok (.iload_n 1, 1) := dk_27 (dk_at dksX1_forgetsFact_0 1 rfl rfl)
theorem dX1_forgetsFact_2 : decode cX1_forgetsFact 2 = .ok (.imul, 1) := dk_104 (dk_at dksX1_forgetsFact_0 2 rfl rfl)
theorem dX1_forgetsFact_3 : decode cX1_forgetsFact 3 = .ok (.istore_n 3, 1) := dk_62 (dk_at dksX1_forgetsFact_0 3 rfl rfl)
theorem dX1_forgetsFact_4 : decode cX1_forgetsFact 4 = .ok (.iload_n 2, 1) := dk_28 (dk_at dksX1_forgetsFact_0 4 rfl rfl)
theorem dX1_forgetsFact_5 : decode cX1_forgetsFact 5 = .ok (.bipush 6, 2) := dk_16 6 (dk_at dksX1_forgetsFact_0 5 rfl rfl)
theorem dX1_forgetsFact_7 : decode cX1_forgetsFact 7 = .ok (.if_icmp .ge 66, 3) := dk_162 0 66 (dk_at dksX1_forgetsFact_0 7 rfl rfl)
theorem dX1_forgetsFact_10 : decode cX1_forgetsFact 10 = .ok (.iload_n 3, 1) := dk_29 (dk_at dksX1_forgetsFact_0 10 rfl rfl)
theorem dX1_forgetsFact_11 : decode cX1_forgetsFact 11 = .ok (.istore 4, 2) := dk_54 4 (dk_at dksX1_forgetsFact_0 11 rfl rfl)
theorem dX1_forgetsFact_13 : decode cX1_forgetsFact 13 = .ok (.iload 4, 2) := dk_21 4 (dk_at dksX1_forgetsFact_0 13 rfl rfl)
theorem dX1_forgetsFact_15 : decode cX1_forgetsFact 15 = .ok (.iload_n 3, 1) := dk_29 (dk_at dksX1_forgetsFact_0 15 rfl rfl)
theorem dX1_forgetsFact_16 : decode cX1_forgetsFact 16 = .ok (.iconst 4, 1) := dk_7 (dk_at dksX1_forgetsFact_0 16 rfl rfl)
theorem dX1_forgetsFact_17 : decode cX1_forgetsFact 17 = .ok (.iadd, 1) := dk_96 (dk_at dksX1_forgetsFact_0 17 rfl rfl)
theorem dX1_forgetsFact_18 : decode cX1_forgetsFact 18 = .ok (.if_icmp .ge 54, 3) := dk_162 0 54 (dk_at dksX1_forgetsFact_0 18 rfl rfl)
theorem dX1_forgetsFact_21 : decode cX1_forgetsFact 21 = .ok (.aload_n 0, 1) := dk_42 (dk_at dksX1_forgetsFact_0 21 rfl rfl)
theorem dX1_forgetsFact_22 : decode cX1_forgetsFact 22 = .ok (.getfield 42, 3) := dk_180 0 42 (dk_at dksX1_forgetsFact_1 0 rfl rfl)
theorem dX1_forgetsFact_25 : decode cX1_forgetsFact 25 = .ok (.iload 4, 2) := dk_21 4 (dk_at dksX1_forgetsFact_1 3 rfl rfl)
theorem dX1_forgetsFact_27 : decode cX1_forgetsFact 27 = .ok (.dup2, 1) := dk_92 (dk_at dksX1_forgetsFact_1 5 rfl rfl)
theorem dX1_forgetsFact_28 : decode cX1_forgetsFact 28 = .ok (.laload, 1) := dk_47 (dk_at dksX1_forgetsFact_1 6 rfl rfl)
theorem dX1_forgetsFact_29 : decode cX1_forgetsFact 29 = .ok (.aload_n 0, 1) := dk_42 (dk_at dksX1_forgetsFact_1 7 rfl rfl)
theorem dX1_forgetsFact_30 : decode cX1_forgetsFact 30 = .ok (.getfield 42, 3) := dk_180 0 42 (dk_at dksX1_forgetsFact_1 8 rfl rfl)
theorem dX1_forgetsFact_33 : decode cX1_forgetsFact 33 = .ok (.iload 4, 2) := dk_21 4 (dk_at dksX1_forgetsFact_1 11 rfl rfl)
theorem dX1_forgetsFact_35 : decode cX1_forgetsFact 35 = .ok (.laload, 1) := dk_47 (dk_at dksX1_forgetsFact_1 13 rfl rfl)
theorem dX1_forgetsFact_36 : decode cX1_forgetsFact 36 = .ok (.iconst 1, 1) := dk_4 (dk_at dksX1_forgetsFact_1 14 rfl rfl)
theorem dX1_forgetsFact_37 : decode cX1_forgetsFact 37 = .ok (.iload_n 2, 1) := dk_28 (dk_at dksX1_forgetsFact_1 15 rfl rfl)
theorem dX1_forgetsFact_38 : decode cX1_forgetsFact 38 = .ok (.ishl, 1) := dk_120 (dk_at dksX1_forgetsFact_1 16 rfl rfl)
theorem dX1_forgetsFact_39 : decode cX1_forgetsFact 39 = .ok (.lushr, 1) := dk_125 (dk_at dksX1_forgetsFact_1 17 rfl rfl)
theorem dX1_forgetsFact_40 : decode cX1_forgetsFact 40 = .ok (.getstatic 109, 3) := dk_178 0 109 (dk_at dksX1_forgetsFact_1 18 rfl rfl)
theorem dX1_forgetsFact_43 : decode cX1_forgetsFact 43 = .ok (.iload_n 2, 1) := dk_28 (dk_at dksX1_forgetsFact_1 21 rfl rfl)
theorem dX1_forgetsFact_44 : decode cX1_forgetsFact 44 = .ok (.laload, 1) := dk_47 (dk_at dksX1_forgetsFact_1 22 rfl rfl)
theorem dX1_forgetsFact_45 : decode cX1_forgetsFact 45 = .ok (.land, 1) := dk_127 (dk_at dksX1_forgetsFact_1 23 rfl rfl)
theorem dX1_forgetsFact_46 : decode cX1_forgetsFact 46 = .ok (.aload_n 0, 1) := dk_42 (dk_at dksX1_forgetsFact_2 0 rfl rfl)
theorem dX1_forgetsFact_47 : decode cX1_forgetsFact 47 = .ok (.getfield 42, 3) := dk_180 0 42 (dk_at dksX1_forgetsFact_2 1 rfl rfl)
theorem dX1_forgetsFact_50 : decode cX1_forgetsFact 50 = .ok (.iload 4, 2) := dk_21 4 (dk_at dksX1_forgetsFact_2 4 rfl rfl)
theorem dX1_forgetsFact_52 : decode cX1_forgetsFact 52 = .ok (.laload, 1) := dk_47 (dk_at dksX1_forgetsFact_2 6 rfl rfl)
theorem dX1_forgetsFact_53 : decode cX1_forgetsFact 53 = .ok (.getstatic 109, 3) := dk_178 0 109 (dk_at dksX1_forgetsFact_2 7 rfl rfl)
theorem dX1_forgetsFact_56 : decode cX1_forgetsFact 56 = .ok (.iload_n 2, 1) := dk_28 (dk_at dksX1_forgetsFact_2 10 rfl rfl)
theorem dX1_forgetsFact_57 : decode cX1_forgetsFact 57 = .ok (.laload, 1) := dk_47 (dk_at dksX1_forgetsFact_2 11 rfl rfl)
theorem dX1_forgetsFact_58 : decode cX1_forgetsFact 58 = .ok (.land, 1) := dk_127 (dk_at dksX1_forgetsFact_2 12 rfl rfl)
theorem dX1_forgetsFact_59 : decode cX1_forgetsFact 59 = .ok (.iconst 1, 1) := dk_4 (dk_at dksX1_forgetsFact_2 13 rfl rfl)
theorem dX1_forgetsFact_60 : decode cX1_forgetsFact 60 = .ok (.iload_n 2, 1) := dk_28 (dk_at dksX1_forgetsFact_2 14 rfl rfl)
theorem dX1_forgetsFact_61 : decode cX1_forgetsFact 61 = .ok (.ishl, 1) := dk_120 (dk_at dksX1_forgetsFact_2 15 rfl rfl)
theorem dX1_forgetsFact_62 : decode cX1_forgetsFact 62 = .ok (.lshl, 1) := dk_121 (dk_at dksX1_forgetsFact_2 16 rfl rfl)
theorem dX1_forgetsFact_63 : decode cX1_forgetsFact 63 = .ok (.lor, 1) := dk_129 (dk_at dksX1_forgetsFact_2 17 rfl rfl)
theorem dX1_forgetsFact_64 : decode cX1_forgetsFact 64 = .ok (.lor, 1) := dk_129 (dk_at dksX1_forgetsFact_2 18 rfl rfl)
theorem dX1_forgetsFact_65 : decode cX1_forgetsFact 65 = .ok (.lastore, 1) := dk_80 (dk_at dksX1_forgetsFact_2 19 rfl rfl)
theorem dX1_forgetsFact_66 : decode cX1_forgetsFact 66 = .ok (.iinc 4 1, 3) := dk_132 4 1 (dk_at dksX1_forgetsFact_2 20 rfl rfl)
theorem dX1_forgetsFact_69 : decode cX1_forgetsFact 69 = .ok (.goto (-56), 3) := dk_167 255 200 (dk_at dksX1_forgetsFact_3 0 rfl rfl)
theorem dX1_forgetsFact_72 : decode cX1_forgetsFact 72 = .ok (.return_, 1) := dk_177 (dk_at dksX1_forgetsFact_3 3 rfl rfl)
theorem dX1_forgetsFact_73 : decode cX1_forgetsFact 73 = .ok (.iload_n 2, 1) := dk_28 (dk_at dksX1_forgetsFact_3 4 rfl rfl)
theorem dX1_forgetsFact_74 : decode cX1_forgetsFact 74 = .ok (.bipush 6, 2) := dk_16 6 (dk_at dksX1_forgetsFact_3 5 rfl rfl)
theorem dX1_forgetsFact_76 : decode cX1_forgetsFact 76 = .ok (.if_icmp .ne 7, 3) := dk_160 0 7 (dk_at dksX1_forgetsFact_3 7 rfl rfl)
theorem dX1_forgetsFact_79 : decode cX1_forgetsFact 79 = .ok (.iconst 1, 1) := dk_4 (dk_at dksX1_forgetsFact_3 10 rfl rfl)
theorem dX1_forgetsFact_80 : decode cX1_forgetsFact 80 = .ok (.goto 4, 3) := dk_167 0 4 (dk_at dksX1_forgetsFact_3 11 rfl rfl)
theorem dX1_forgetsFact_83 : decode cX1_forgetsFact 83 = .ok (.iconst 2, 1) := dk_5 (dk_at dksX1_forgetsFact_3 14 rfl rfl)
theorem dX1_forgetsFact_84 : decode cX1_forgetsFact 84 = .ok (.istore 4, 2) := dk_54 4 (dk_at dksX1_forgetsFact_3 15 rfl rfl)
theorem dX1_forgetsFact_86 : decode cX1_forgetsFact 86 = .ok (.iconst 0, 1) := dk_3 (dk_at dksX1_forgetsFact_3 17 rfl rfl)
theorem dX1_forgetsFact_87 : decode cX1_forgetsFact 87 = .ok (.istore 5, 2) := dk_54 5 (dk_at dksX1_forgetsFact_3 18 rfl rfl)
theorem dX1_forgetsFact_89 : decode cX1_forgetsFact 89 = .ok (.iload 5, 2) := dk_21 5 (dk_at dksX1_forgetsFact_3 20 rfl rfl)
theorem dX1_forgetsFact_91 : decode cX1_forgetsFact 91 = .ok (.iconst 4, 1) := dk_7 (dk_at dksX1_forgetsFact_3 22 rfl rfl)
theorem dX1_forgetsFact_92 : decode cX1_forgetsFact 92 = .ok (.if_icmp .ge 68, 3) := dk_162 0 68 (dk_at dksX1_forgetsFact_4 0 rfl rfl)
theorem dX1_forgetsFact_95 : decode cX1_forgetsFact 95 = .ok (.iload 5, 2) := dk_21 5 (dk_at dksX1_forgetsFact_4 3 rfl rfl)
theorem dX1_forgetsFact_97 : decode cX1_forgetsFact 97 = .ok (.iload 4, 2) := dk_21 4 (dk_at dksX1_forgetsFact_4 5 rfl rfl)
theorem dX1_forgetsFact_99 : decode cX1_forgetsFact 99 = .ok (.iand, 1) := dk_126 (dk_at dksX1_forgetsFact_4 7 rfl rfl)
theorem dX1_forgetsFact_100 : decode cX1_forgetsFact 100 = .ok (.ifCond .eq 6, 3) := dk_153 0 6 (dk_at dksX1_forgetsFact_4 8 rfl rfl)
theorem dX1_forgetsFact_103 : decode cX1_forgetsFact 103 = .ok (.goto 51, 3) := dk_167 0 51 (dk_at dksX1_forgetsFact_4 11 rfl rfl)
theorem dX1_forgetsFact_106 : decode cX1_forgetsFact 106 = .ok (.aload_n 0, 1) := dk_42 (dk_at dksX1_forgetsFact_4 14 rfl rfl)
theorem dX1_forgetsFact_107 : decode cX1_forgetsFact 107 = .ok (.getfield 42, 3) := dk_180 0 42 (dk_at dksX1_forgetsFact_4 15 rfl rfl)
theorem dX1_forgetsFact_110 : decode cX1_forgetsFact 110 = .ok (.iload_n 3, 1) := dk_29 (dk_at dksX1_forgetsFact_4 18 rfl rfl)
theorem dX1_forgetsFact_111 : decode cX1_forgetsFact 111 = .ok (.iload 5, 2) := dk_21 5 (dk_at dksX1_forgetsFact_4 19 rfl rfl)
theorem dX1_forgetsFact_113 : decode cX1_forgetsFact 113 = .ok (.iadd, 1) := dk_96 (dk_at dksX1_forgetsFact_4 21 rfl rfl)
theorem dX1_forgetsFact_114 : decode cX1_forgetsFact 114 = .ok (.dup2, 1) := dk_92 (dk_at dksX1_forgetsFact_4 22 rfl rfl)
theorem dX1_forgetsFact_115 : decode cX1_forgetsFact 115 = .ok (.laload, 1) := dk_47 (dk_at dksX1_forgetsFact_4 23 rfl rfl)
theorem dX1_forgetsFact_116 : decode cX1_forgetsFact 116 = .ok (.aload_n 0, 1) := dk_42 (dk_at dksX1_forgetsFact_5 0 rfl rfl)
theorem dX1_forgetsFact_117 : decode cX1_forgetsFact 117 = .ok (.getfield 42, 3) := dk_180 0 42 (dk_at dksX1_forgetsFact_5 1 rfl rfl)
theorem dX1_forgetsFact_120 : decode cX1_forgetsFact 120 = .ok (.iload_n 3, 1) := dk_29 (dk_at dksX1_forgetsFact_5 4 rfl rfl)
theorem dX1_forgetsFact_121 : decode cX1_forgetsFact 121 = .ok (.iload 5, 2) := dk_21 5 (dk_at dksX1_forgetsFact_5 5 rfl rfl)
theorem dX1_forgetsFact_123 : decode cX1_forgetsFact 123 = .ok (.iadd, 1) := dk_96 (dk_at dksX1_forgetsFact_5 7 rfl rfl)
theorem dX1_forgetsFact_124 : decode cX1_forgetsFact 124 = .ok (.iload 4, 2) := dk_21 4 (dk_at dksX1_forgetsFact_5 8 rfl rfl)
theorem dX1_forgetsFact_126 : decode cX1_forgetsFact 126 = .ok (.iadd, 1) := dk_96 (dk_at dksX1_forgetsFact_5 10 rfl rfl)
theorem dX1_forgetsFact_127 : decode cX1_forgetsFact 127 = .ok (.laload, 1) := dk_47 (dk_at dksX1_forgetsFact_5 11 rfl rfl)
theorem dX1_forgetsFact_128 : decode cX1_forgetsFact 128 = .ok (.lor, 1) := dk_129 (dk_at dksX1_forgetsFact_5 12 rfl rfl)
theorem dX1_forgetsFact_129 : decode cX1_forgetsFact 129 = .ok (.lastore, 1) := dk_80 (dk_at dksX1_forgetsFact_5 13 rfl rfl)
theorem dX1_forgetsFact_130 : decode cX1_forgetsFact 130 = .ok (.aload_n 0, 1) := dk_42 (dk_at dksX1_forgetsFact_5 14 rfl rfl)
theorem dX1_forgetsFact_131 : decode cX1_forgetsFact 131 = .ok (.getfield 42, 3) := dk_180 0 42 (dk_at dksX1_forgetsFact_5 15 rfl rfl)
theorem dX1_forgetsFact_134 : decode cX1_forgetsFact 134 = .ok (.iload_n 3, 1) := dk_29 (dk_at dksX1_forgetsFact_5 18 rfl rfl)
theorem dX1_forgetsFact_135 : decode cX1_forgetsFact 135 = .ok (.iload 5, 2) := dk_21 5 (dk_at dksX1_forgetsFact_5 19 rfl rfl)
theorem dX1_forgetsFact_137 : decode cX1_forgetsFact 137 = .ok (.iadd, 1) := dk_96 (dk_at dksX1_forgetsFact_5 21 rfl rfl)
theorem dX1_forgetsFact_138 : decode cX1_forgetsFact 138 = .ok (.iload 4, 2) := dk_21 4 (dk_at dksX1_forgetsFact_5 22 rfl rfl)
theorem dX1_forgetsFact_140 : decode cX1_forgetsFact 140 = .ok (.iadd, 1) := dk_96 (dk_at dksX1_forgetsFact_6 0 rfl rfl)
theorem dX1_forgetsFact_141 : decode cX1_forgetsFact 141 = .ok (.dup2, 1) := dk_92 (dk_at dksX1_forgetsFact_6 1 rfl rfl)
theorem dX1_forgetsFact_142 : decode cX1_forgetsFact 142 = .ok (.laload, 1) := dk_47 (dk_at dksX1_forgetsFact_6 2 rfl rfl)
theorem dX1_forgetsFact_143 : decode cX1_forgetsFact 143 = .ok (.aload_n 0, 1) := dk_42 (dk_at dksX1_forgetsFact_6 3 rfl rfl)
theorem dX1_forgetsFact_144 : decode cX1_forgetsFact 144 = .ok (.getfield 42, 3) := dk_180 0 42 (dk_at dksX1_forgetsFact_6 4 rfl rfl)
theorem dX1_forgetsFact_147 : decode cX1_forgetsFact 147 = .ok (.iload_n 3, 1) := dk_29 (dk_at dksX1_forgetsFact_6 7 rfl rfl)
theorem dX1_forgetsFact_148 : decode cX1_forgetsFact 148 = .ok (.iload 5, 2) := dk_21 5 (dk_at dksX1_forgetsFact_6 8 rfl rfl)
theorem dX1_forgetsFact_150 : decode cX1_forgetsFact 150 = .ok (.iadd, 1) := dk_96 (dk_at dksX1_forgetsFact_6 10 rfl rfl)
theorem dX1_forgetsFact_151 : decode cX1_forgetsFact 151 = .ok (.laload, 1) := dk_47 (dk_at dksX1_forgetsFact_6 11 rfl rfl)
theorem dX1_forgetsFact_152 : decode cX1_forgetsFact 152 = .ok (.lor, 1) := dk_129 (dk_at dksX1_forgetsFact_6 12 rfl rfl)
theorem dX1_forgetsFact_153 : decode cX1_forgetsFact 153 = .ok (.lastore, 1) := dk_80 (dk_at dksX1_forgetsFact_6 13 rfl rfl)
theorem dX1_forgetsFact_154 : decode cX1_forgetsFact 154 = .ok (.iinc 5 1, 3) := dk_132 5 1 (dk_at dksX1_forgetsFact_6 14 rfl rfl)
theorem dX1_forgetsFact_157 : decode cX1_forgetsFact 157 = .ok (.goto (-68), 3) := dk_167 255 188 (dk_at dksX1_forgetsFact_6 17 rfl rfl)
theorem dX1_forgetsFact_160 : decode cX1_forgetsFact 160 = .ok (.return_, 1) := dk_177 (dk_at dksX1_forgetsFact_6 20 rfl rfl)
theorem q157 : (Jvm.Cond.initialized "TruthBridge$Gorge") ∈ lw_all := lw_g (lw_at lw_m1 2 rfl) rfl
theorem q196 : (Jvm.Cond.instantiable "TruthBridge$Gorge" (22 : Nat)) ∈ lw_all := lw_g (lw_at lw_m1 41 rfl) rfl
theorem q198 : (Jvm.Cond.instanceMethod ({ cls := "TruthBridge$Gorge", name := "<init>", desc := "()V" } : Jvm.MethodName)) ∈ lw_all := lw_g (lw_at lw_m1 43 rfl) rfl
theorem q199 : (Jvm.Cond.code ({ cls := "TruthBridge$Gorge", name := "<init>", desc := "()V" } : Jvm.MethodName) prog_7_method_1_code (1 : Nat) (Option.none : Option Jvm.ClassFile.FieldType)) ∈ lw_all := lw_g (lw_at lw_m1 44 rfl) rfl
theorem q200 : (Jvm.Cond.methodLink "TruthBridge$Gorge" (3 : Nat) ({ cls := "java/lang/Object", name := "<init>", desc := "()V" } : Jvm.MethodName)) ∈ lw_all := lw_g (lw_at lw_m1 45 rfl) rfl
theorem q201 : (Jvm.Cond.fieldLink "TruthBridge$Gorge" (52 : Nat) "TruthBridge$Gorge" "factMany" "I") ∈ lw_all := lw_g (lw_at lw_m1 46 rfl) rfl
theorem q204 : (Jvm.Cond.fieldLink "TruthBridge$Gorge" (84 : Nat) "TruthBridge$Gorge" "so" "I") ∈ lw_all := lw_g (lw_at lw_m1 49 rfl) rfl
theorem q207 : (Jvm.Cond.fieldLink "TruthBridge$Gorge" (56 : Nat) "TruthBridge$Gorge" "personMany" "I") ∈ lw_all := lw_g (lw_at lw_m1 52 rfl) rfl
theorem q210 : (Jvm.Cond.fieldLink "TruthBridge$Gorge" (59 : Nat) "TruthBridge$Gorge" "placeMany" "I") ∈ lw_all := lw_g (lw_at lw_m1 55 rfl) rfl
theorem q213 : (Jvm.Cond.fieldLink "TruthBridge$Gorge" (62 : Nat) "TruthBridge$Gorge" "pathMany" "I") ∈ lw_all := lw_g (lw_at lw_m1 58 rfl) rfl
theorem q216 : (Jvm.Cond.fieldLink "TruthBridge$Gorge" (65 : Nat) "TruthBridge$Gorge" "turnMany" "I") ∈ lw_all := lw_g (lw_at lw_m1 61 rfl) rfl
theorem q219 : (Jvm.Cond.fieldLink "TruthBridge$Gorge" (87 : Nat) "TruthBridge$Gorge" "day" "I") ∈ lw_all := lw_g (lw_at lw_m1 64 rfl) rfl
theorem q221 : (Jvm.Cond.fieldLink "TruthBridge$Gorge" (68 : Nat) "TruthBridge$Gorge" "undoMany" "I") ∈ lw_all := lw_g (lw_at lw_m1 66 rfl) rfl
theorem q223 : (Jvm.Cond.fieldLink "TruthBridge$Gorge" (71 : Nat) "TruthBridge$Gorge" "trialMany" "I") ∈ lw_all := lw_g (lw_at lw_m1 68 rfl) rfl
theorem q225 : (Jvm.Cond.fieldLink "TruthBridge$Gorge" (9 : Nat) "TruthBridge$Gorge" "side" "[I") ∈ lw_all := lw_g (lw_at lw_m1 70 rfl) rfl
theorem q228 : (Jvm.Cond.fieldLink "TruthBridge$Gorge" (15 : Nat) "TruthBridge$Gorge" "weight" "[I") ∈ lw_all := lw_g (lw_at lw_m1 73 rfl) rfl
theorem q231 : (Jvm.Cond.fieldLink "TruthBridge$Gorge" (18 : Nat) "TruthBridge$Gorge" "coins" "[I") ∈ lw_all := lw_g (lw_at lw_m1 76 rfl) rfl
theorem q234 : (Jvm.Cond.fieldLink "TruthBridge$Gorge" (21 : Nat) "TruthBridge$Gorge" "hours" "[I") ∈ lw_all := lw_g (lw_at lw_m1 79 rfl) rfl
theorem q236 : (Jvm.Cond.fieldLink "TruthBridge$Gorge" (24 : Nat) "TruthBridge$Gorge" "fell" "[I") ∈ lw_all := lw_g (lw_at lw_m1 81 rfl) rfl
theorem q238 : (Jvm.Cond.fieldLink "TruthBridge$Gorge" (27 : Nat) "TruthBridge$Gorge" "seen" "[I") ∈ lw_all := lw_g (lw_at lw_m1 83 rfl) rfl
theorem q241 : (Jvm.Cond.fieldLink "TruthBridge$Gorge" (30 : Nat) "TruthBridge$Gorge" "far" "[I") ∈ lw_all := lw_g (lw_at lw_m1 86 rfl) rfl
theorem q244 : (Jvm.Cond.fieldLink "TruthBridge$Gorge" (33 : Nat) "TruthBridge$Gorge" "turnFact" "[I") ∈ lw_all := lw_g (lw_at lw_m1 89 rfl) rfl
theorem q247 : (Jvm.Cond.fieldLink "TruthBridge$Gorge" (36 : Nat) "TruthBridge$Gorge" "turnDay" "[I") ∈ lw_all := lw_g (lw_at lw_m1 92 rfl) rfl
theorem q250 : (Jvm.Cond.fieldLink "TruthBridge$Gorge" (39 : Nat) "TruthBridge$Gorge" "trialOf" "[I") ∈ lw_all := lw_g (lw_at lw_m1 95 rfl) rfl
theorem q252 : (Jvm.Cond.fieldLink "TruthBridge$Gorge" (42 : Nat) "TruthBridge$Gorge" "held" "[J") ∈ lw_all := lw_g (lw_at lw_m1 97 rfl) rfl
theorem q254 : (Jvm.Cond.fieldLink "TruthBridge$Gorge" (46 : Nat) "TruthBridge$Gorge" "undoHeld" "[J") ∈ lw_all := lw_g (lw_at lw_m1 99 rfl) rfl
theorem q256 : (Jvm.Cond.fieldLink "TruthBridge$Gorge" (49 : Nat) "TruthBridge$Gorge" "undo" "[I") ∈ lw_all := lw_g (lw_at lw_m1 101 rfl) rfl
theorem q258 : (Jvm.Cond.lays "TruthBridge$Gorge" "TruthBridge$Gorge" "factMany" "I") ∈ lw_all := lw_g (lw_at lw_m1 103 rfl) rfl
theorem q259 : (Jvm.Cond.soleField "TruthBridge$Gorge" "factMany") ∈ lw_all := lw_g (lw_at lw_m1 104 rfl) rfl
theorem q260 : (Jvm.Cond.lays "TruthBridge$Gorge" "TruthBridge$Gorge" "so" "I") ∈ lw_all := lw_g (lw_at lw_m1 105 rfl) rfl
theorem q261 : (Jvm.Cond.soleField "TruthBridge$Gorge" "so") ∈ lw_all := lw_g (lw_at lw_m1 106 rfl) rfl
theorem q262 : (Jvm.Cond.lays "TruthBridge$Gorge" "TruthBridge$Gorge" "personMany" "I") ∈ lw_all := lw_g (lw_at lw_m1 107 rfl) rfl
theorem q263 : (Jvm.Cond.soleField "TruthBridge$Gorge" "personMany") ∈ lw_all := lw_g (lw_at lw_m1 108 rfl) rfl
theorem q264 : (Jvm.Cond.lays "TruthBridge$Gorge" "TruthBridge$Gorge" "placeMany" "I") ∈ lw_all := lw_g (lw_at lw_m1 109 rfl) rfl
theorem q265 : (Jvm.Cond.soleField "TruthBridge$Gorge" "placeMany") ∈ lw_all := lw_g (lw_at lw_m1 110 rfl) rfl
theorem q266 : (Jvm.Cond.lays "TruthBridge$Gorge" "TruthBridge$Gorge" "pathMany" "I") ∈ lw_all := lw_g (lw_at lw_m1 111 rfl) rfl
theorem q267 : (Jvm.Cond.soleField "TruthBridge$Gorge" "pathMany") ∈ lw_all := lw_g (lw_at lw_m1 112 rfl) rfl
theorem q268 : (Jvm.Cond.lays "TruthBridge$Gorge" "TruthBridge$Gorge" "turnMany" "I") ∈ lw_all := lw_g (lw_at lw_m1 113 rfl) rfl
theorem q269 : (Jvm.Cond.soleField "TruthBridge$Gorge" "turnMany") ∈ lw_all := lw_g (lw_at lw_m1 114 rfl) rfl
theorem q270 : (Jvm.Cond.lays "TruthBridge$Gorge" "TruthBridge$Gorge" "day" "I") ∈ lw_all := lw_g (lw_at lw_m1 115 rfl) rfl
theorem q271 : (Jvm.Cond.soleField "TruthBridge$Gorge" "day") ∈ lw_all := lw_g (lw_at lw_m1 116 rfl) rfl
theorem q272 : (Jvm.Cond.lays "TruthBridge$Gorge" "TruthBridge$Gorge" "undoMany" "I") ∈ lw_all := lw_g (lw_at lw_m1 117 rfl) rfl
theorem q273 : (Jvm.Cond.soleField "TruthBridge$Gorge" "undoMany") ∈ lw_all := lw_g (lw_at lw_m1 118 rfl) rfl
theorem q274 : (Jvm.Cond.lays "TruthBridge$Gorge" "TruthBridge$Gorge" "trialMany" "I") ∈ lw_all := lw_g (lw_at lw_m1 119 rfl) rfl
theorem q275 : (Jvm.Cond.soleField "TruthBridge$Gorge" "trialMany") ∈ lw_all := lw_g (lw_at lw_m1 120 rfl) rfl
theorem q276 : (Jvm.Cond.laysFinal "TruthBridge$Gorge" "TruthBridge$Gorge" "side" "[I") ∈ lw_all := lw_g (lw_at lw_m1 121 rfl) rfl
theorem q277 : (Jvm.Cond.soleField "TruthBridge$Gorge" "side") ∈ lw_all := lw_g (lw_at lw_m1 122 rfl) rfl
theorem q278 : (Jvm.Cond.laysFinal "TruthBridge$Gorge" "TruthBridge$Gorge" "weight" "[I") ∈ lw_all := lw_g (lw_at lw_m1 123 rfl) rfl
theorem q279 : (Jvm.Cond.soleField "TruthBridge$Gorge" "weight") ∈ lw_all := lw_g (lw_at lw_m1 124 rfl) rfl
theorem q280 : (Jvm.Cond.laysFinal "TruthBridge$Gorge" "TruthBridge$Gorge" "coins" "[I") ∈ lw_all := lw_g (lw_at lw_m1 125 rfl) rfl
theorem q281 : (Jvm.Cond.soleField "TruthBridge$Gorge" "coins") ∈ lw_all := lw_g (lw_at lw_m1 126 rfl) rfl
theorem q282 : (Jvm.Cond.laysFinal "TruthBridge$Gorge" "TruthBridge$Gorge" "hours" "[I") ∈ lw_all := lw_g (lw_at lw_m1 127 rfl) rfl
theorem q283 : (Jvm.Cond.soleField "TruthBridge$Gorge" "hours") ∈ lw_all := lw_g (lw_at lw_m1 128 rfl) rfl
theorem q284 : (Jvm.Cond.laysFinal "TruthBridge$Gorge" "TruthBridge$Gorge" "fell" "[I") ∈ lw_all := lw_g (lw_at lw_m1 129 rfl) rfl
theorem q285 : (Jvm.Cond.soleField "TruthBridge$Gorge" "fell") ∈ lw_all := lw_g (lw_at lw_m1 130 rfl) rfl
theorem q286 : (Jvm.Cond.laysFinal "TruthBridge$Gorge" "TruthBridge$Gorge" "seen" "[I") ∈ lw_all := lw_g (lw_at lw_m1 131 rfl) rfl
theorem q287 : (Jvm.Cond.soleField "TruthBridge$Gorge" "seen") ∈ lw_all := lw_g (lw_at lw_m1 132 rfl) rfl
theorem q288 : (Jvm.Cond.laysFinal "TruthBridge$Gorge" "TruthBridge$Gorge" "far" "[I") ∈ lw_all := lw_g (lw_at lw_m1 133 rfl) rfl
theorem q289 : (Jvm.Cond.soleField "TruthBridge$Gorge" "far") ∈ lw_all := lw_g (lw_at lw_m1 134 rfl) rfl
theorem q290 : (Jvm.Cond.laysFinal "TruthBridge$Gorge" "TruthBridge$Gorge" "turnFact" "[I") ∈ lw_all := lw_g (lw_at lw_m1 135 rfl) rfl
theorem q291 : (Jvm.Cond.soleField "TruthBridge$Gorge" "turnFact") ∈ lw_all := lw_g (lw_at lw_m1 136 rfl) rfl
theorem q292 : (Jvm.Cond.laysFinal "TruthBridge$Gorge" "TruthBridge$Gorge" "turnDay" "[I") ∈ lw_all := lw_g (lw_at lw_m1 137 rfl) rfl
theorem q293 : (Jvm.Cond.soleField "TruthBridge$Gorge" "turnDay") ∈ lw_all := lw_g (lw_at lw_m1 138 rfl) rfl
theorem q294 : (Jvm.Cond.laysFinal "TruthBridge$Gorge" "TruthBridge$Gorge" "trialOf" "[I") ∈ lw_all := lw_g (lw_at lw_m1 139 rfl) rfl
theorem q295 : (Jvm.Cond.soleField "TruthBridge$Gorge" "trialOf") ∈ lw_all := lw_g (lw_at lw_m1 140 rfl) rfl
theorem q296 : (Jvm.Cond.laysFinal "TruthBridge$Gorge" "TruthBridge$Gorge" "held" "[J") ∈ lw_all := lw_g (lw_at lw_m1 141 rfl) rfl
theorem q297 : (Jvm.Cond.soleField "TruthBridge$Gorge" "held") ∈ lw_all := lw_g (lw_at lw_m1 142 rfl) rfl
theorem q298 : (Jvm.Cond.laysFinal "TruthBridge$Gorge" "TruthBridge$Gorge" "undoHeld" "[J") ∈ lw_all := lw_g (lw_at lw_m1 143 rfl) rfl
theorem q299 : (Jvm.Cond.soleField "TruthBridge$Gorge" "undoHeld") ∈ lw_all := lw_g (lw_at lw_m1 144 rfl) rfl
theorem q300 : (Jvm.Cond.laysFinal "TruthBridge$Gorge" "TruthBridge$Gorge" "undo" "[I") ∈ lw_all := lw_g (lw_at lw_m1 145 rfl) rfl
theorem q301 : (Jvm.Cond.soleField "TruthBridge$Gorge" "undo") ∈ lw_all := lw_g (lw_at lw_m1 146 rfl) rfl
theorem q302 : (Jvm.Cond.superclass "TruthBridge$Gorge" "java/lang/Object") ∈ lw_all := lw_g (lw_at lw_m1 147 rfl) rfl
theorem q551 : (Jvm.Cond.instanceMethod ({ cls := "TruthBridge$Gorge", name := "copies", desc := "(LTruthBridge$Gorge;)LTruthBridge$Gorge;" } : Jvm.MethodName)) ∈ lw_all := lw_g (lw_at lw_m2 156 rfl) rfl
theorem q552 : (Jvm.Cond.selects "TruthBridge$Gorge" ({ cls := "TruthBridge$Gorge", name := "copies", desc := "(LTruthBridge$Gorge;)LTruthBridge$Gorge;" } : Jvm.MethodName) ({ cls := "TruthBridge$Gorge", name := "copies", desc := "(LTruthBridge$Gorge;)LTruthBridge$Gorge;" } : Jvm.MethodName)) ∈ lw_all := lw_g (lw_at lw_m2 157 rfl) rfl
theorem q553 : (Jvm.Cond.code ({ cls := "TruthBridge$Gorge", name := "copies", desc := "(LTruthBridge$Gorge;)LTruthBridge$Gorge;" } : Jvm.MethodName) prog_7_method_2_code (2 : Nat) (Option.some (Jvm.ClassFile.FieldType.object "TruthBridge$Gorge"))) ∈ lw_all := lw_g (lw_at lw_m2 158 rfl) rfl
theorem q554 : (Jvm.Cond.methodLink "TruthBridge$Gorge" (74 : Nat) ({ cls := "java/lang/System", name := "arraycopy", desc := "(Ljava/lang/Object;ILjava/lang/Object;II)V" } : Jvm.MethodName)) ∈ lw_all := lw_g (lw_at lw_m2 159 rfl) rfl
theorem q557 : (Jvm.Cond.methodLink "TruthBridge$Gorge" (80 : Nat) ({ cls := "TruthBridge$Gorge", name := "standsAs", desc := "(LTruthBridge$Gorge;)LTruthBridge$Gorge;" } : Jvm.MethodName)) ∈ lw_all := lw_g (lw_at lw_m2 162 rfl) rfl
theorem q558 : (Jvm.Cond.instanceMethod ({ cls := "TruthBridge$Gorge", name := "standsAs", desc := "(LTruthBridge$Gorge;)LTruthBridge$Gorge;" } : Jvm.MethodName)) ∈ lw_all := lw_g (lw_at lw_m2 163 rfl) rfl
theorem q559 : (Jvm.Cond.selects "TruthBridge$Gorge" ({ cls := "TruthBridge$Gorge", name := "standsAs", desc := "(LTruthBridge$Gorge;)LTruthBridge$Gorge;" } : Jvm.MethodName) ({ cls := "TruthBridge$Gorge", name := "standsAs", desc := "(LTruthBridge$Gorge;)LTruthBridge$Gorge;" } : Jvm.MethodName)) ∈ lw_all := lw_g (lw_at lw_m2 164 rfl) rfl
theorem q560 : (Jvm.Cond.code ({ cls := "TruthBridge$Gorge", name := "standsAs", desc := "(LTruthBridge$Gorge;)LTruthBridge$Gorge;" } : Jvm.MethodName) prog_7_method_3_code (2 : Nat) (Option.some (Jvm.ClassFile.FieldType.object "TruthBridge$Gorge"))) ∈ lw_all := lw_g (lw_at lw_m2 165 rfl) rfl
theorem q653 : (Jvm.Cond.instanceMethod ({ cls := "TruthBridge$Gorge", name := "holdsAll", desc := "(I)V" } : Jvm.MethodName)) ∈ lw_all := lw_g (lw_at lw_m3 18 rfl) rfl
theorem q654 : (Jvm.Cond.selects "TruthBridge$Gorge" ({ cls := "TruthBridge$Gorge", name := "holdsAll", desc := "(I)V" } : Jvm.MethodName) ({ cls := "TruthBridge$Gorge", name := "holdsAll", desc := "(I)V" } : Jvm.MethodName)) ∈ lw_all := lw_g (lw_at lw_m3 19 rfl) rfl
theorem q655 : (Jvm.Cond.code ({ cls := "TruthBridge$Gorge", name := "holdsAll", desc := "(I)V" } : Jvm.MethodName) prog_7_method_9_code (3 : Nat) (Option.none : Option Jvm.ClassFile.FieldType)) ∈ lw_all := lw_g (lw_at lw_m3 20 rfl) rfl
theorem q656 : (Jvm.Cond.methodLink "TruthBridge$Gorge" (96 : Nat) ({ cls := "TruthBridge$Gorge", name := "worlds", desc := "()I" } : Jvm.MethodName)) ∈ lw_all := lw_g (lw_at lw_m3 21 rfl) rfl
theorem q657 : (Jvm.Cond.instanceMethod ({ cls := "TruthBridge$Gorge", name := "worlds", desc := "()I" } : Jvm.MethodName)) ∈ lw_all := lw_g (lw_at lw_m3 22 rfl) rfl
theorem q658 : (Jvm.Cond.selects "TruthBridge$Gorge" ({ cls := "TruthBridge$Gorge", name := "worlds", desc := "()I" } : Jvm.MethodName) ({ cls := "TruthBridge$Gorge", name := "worlds", desc := "()I" } : Jvm.MethodName)) ∈ lw_all := lw_g (lw_at lw_m3 23 rfl) rfl
theorem q659 : (Jvm.Cond.code ({ cls := "TruthBridge$Gorge", name := "worlds", desc := "()I" } : Jvm.MethodName) prog_7_method_6_code (1 : Nat) (Option.some Jvm.ClassFile.FieldType.int)) ∈ lw_all := lw_g (lw_at lw_m3 24 rfl) rfl
theorem q669 : (Jvm.Cond.instanceMethod ({ cls := "TruthBridge$Gorge", name := "isToldFact", desc := "(II)V" } : Jvm.MethodName)) ∈ lw_all := lw_g (lw_at lw_m3 34 rfl) rfl
theorem q670 : (Jvm.Cond.selects "TruthBridge$Gorge" ({ cls := "TruthBridge$Gorge", name := "isToldFact", desc := "(II)V" } : Jvm.MethodName) ({ cls := "TruthBridge$Gorge", name := "isToldFact", desc := "(II)V" } : Jvm.MethodName)) ∈ lw_all := lw_g (lw_at lw_m3 35 rfl) rfl
theorem q671 : (Jvm.Cond.code ({ cls := "TruthBridge$Gorge", name := "isToldFact", desc := "(II)V" } : Jvm.MethodName) prog_7_method_10_code (4 : Nat) (Option.none : Option Jvm.ClassFile.FieldType)) ∈ lw_all := lw_g (lw_at lw_m3 36 rfl) rfl
theorem q672 : (Jvm.Cond.methodLinkNest "TruthBridge$Gorge" (100 : Nat) ({ cls := "TruthBridge", name := "has", desc := "(II)Z" } : Jvm.MethodName) "TruthBridge") ∈ lw_tbl := lw_at lw_m3 37 rfl
theorem q673 : (Jvm.Cond.constantLong "TruthBridge$Gorge" (104 : Nat) (-1 : Int64)) ∈ lw_all := lw_g (lw_at lw_m3 38 rfl) rfl
theorem q964 : (Jvm.Cond.instanceMethod ({ cls := "TruthBridge$Gorge", name := "heldMany", desc := "(I)I" } : Jvm.MethodName)) ∈ lw_all := lw_g (lw_at lw_m4 89 rfl) rfl
theorem q965 : (Jvm.Cond.selects "TruthBridge$Gorge" ({ cls := "TruthBridge$Gorge", name := "heldMany", desc := "(I)I" } : Jvm.MethodName) ({ cls := "TruthBridge$Gorge", name := "heldMany", desc := "(I)I" } : Jvm.MethodName)) ∈ lw_all := lw_g (lw_at lw_m4 90 rfl) rfl
theorem q966 : (Jvm.Cond.code ({ cls := "TruthBridge$Gorge", name := "heldMany", desc := "(I)I" } : Jvm.MethodName) prog_7_method_8_code (4 : Nat) (Option.some Jvm.ClassFile.FieldType.int)) ∈ lw_all := lw_g (lw_at lw_m4 91 rfl) rfl
theorem q967 : (Jvm.Cond.methodLink "TruthBridge$Gorge" (90 : Nat) ({ cls := "java/lang/Long", name := "bitCount", desc := "(J)I" } : Jvm.MethodName)) ∈ lw_all := lw_g (lw_at lw_m4 92 rfl) rfl
theorem q974 : (Jvm.Cond.instanceMethod ({ cls := "TruthBridge$Gorge", name := "knowsFact", desc := "(II)Z" } : Jvm.MethodName)) ∈ lw_all := lw_g (lw_at lw_m4 99 rfl) rfl
theorem q975 : (Jvm.Cond.selects "TruthBridge$Gorge" ({ cls := "TruthBridge$Gorge", name := "knowsFact", desc := "(II)Z" } : Jvm.MethodName) ({ cls := "TruthBridge$Gorge", name := "knowsFact", desc := "(II)Z" } : Jvm.MethodName)) ∈ lw_all := lw_g (lw_at lw_m4 100 rfl) rfl
theorem q976 : (Jvm.Cond.code ({ cls := "TruthBridge$Gorge", name := "knowsFact", desc := "(II)Z" } : Jvm.MethodName) prog_7_method_11_code (4 : Nat) (Option.some Jvm.ClassFile.FieldType.boolean)) ∈ lw_all := lw_g (lw_at lw_m4 101 rfl) rfl
theorem q977 : (Jvm.Cond.methodLink "TruthBridge$Gorge" (106 : Nat) ({ cls := "TruthBridge$Gorge", name := "isHeld", desc := "(II)Z" } : Jvm.MethodName)) ∈ lw_all := lw_g (lw_at lw_m4 102 rfl) rfl
theorem q978 : (Jvm.Cond.instanceMethod ({ cls := "TruthBridge$Gorge", name := "isHeld", desc := "(II)Z" } : Jvm.MethodName)) ∈ lw_all := lw_g (lw_at lw_m4 103 rfl) rfl
theorem q979 : (Jvm.Cond.selects "TruthBridge$Gorge" ({ cls := "TruthBridge$Gorge", name := "isHeld", desc := "(II)Z" } : Jvm.MethodName) ({ cls := "TruthBridge$Gorge", name := "isHeld", desc := "(II)Z" } : Jvm.MethodName)) ∈ lw_all := lw_g (lw_at lw_m4 104 rfl) rfl
theorem q980 : (Jvm.Cond.code ({ cls := "TruthBridge$Gorge", name := "isHeld", desc := "(II)Z" } : Jvm.MethodName) prog_7_method_7_code (3 : Nat) (Option.some Jvm.ClassFile.FieldType.boolean)) ∈ lw_all := lw_g (lw_at lw_m4 105 rfl) rfl
theorem q1055 : (Jvm.Cond.instanceMethod ({ cls := "TruthBridge$Gorge", name := "takes", desc := "(I)V" } : Jvm.MethodName)) ∈ lw_all := lw_g (lw_at lw_m4 180 rfl) rfl
theorem q1056 : (Jvm.Cond.selects "TruthBridge$Gorge" ({ cls := "TruthBridge$Gorge", name := "takes", desc := "(I)V" } : Jvm.MethodName) ({ cls := "TruthBridge$Gorge", name := "takes", desc := "(I)V" } : Jvm.MethodName)) ∈ lw_all := lw_g (lw_at lw_m4 181 rfl) rfl
theorem q1057 : (Jvm.Cond.code ({ cls := "TruthBridge$Gorge", name := "takes", desc := "(I)V" } : Jvm.MethodName) prog_7_method_5_code (3 : Nat) (Option.none : Option Jvm.ClassFile.FieldType)) ∈ lw_all := lw_g (lw_at lw_m4 182 rfl) rfl
theorem q1068 : (Jvm.Cond.instanceMethod ({ cls := "TruthBridge$Gorge", name := "lays", desc := "(I)V" } : Jvm.MethodName)) ∈ lw_all := lw_g (lw_at lw_m4 193 rfl) rfl
theorem q1069 : (Jvm.Cond.selects "TruthBridge$Gorge" ({ cls := "TruthBridge$Gorge", name := "lays", desc := "(I)V" } : Jvm.MethodName) ({ cls := "TruthBridge$Gorge", name := "lays", desc := "(I)V" } : Jvm.MethodName)) ∈ lw_all := lw_g (lw_at lw_m4 194 rfl) rfl
theorem q1070 : (Jvm.Cond.code ({ cls := "TruthBridge$Gorge", name := "lays", desc := "(I)V" } : Jvm.MethodName) prog_7_method_4_code (3 : Nat) (Option.none : Option Jvm.ClassFile.FieldType)) ∈ lw_all := lw_g (lw_at lw_m4 195 rfl) rfl
theorem q1093 : (Jvm.Cond.instanceMethod ({ cls := "TruthBridge$Gorge", name := "dayGoes", desc := "()V" } : Jvm.MethodName)) ∈ lw_all := lw_g (lw_at lw_m4 218 rfl) rfl
theorem q1094 : (Jvm.Cond.selects "TruthBridge$Gorge" ({ cls := "TruthBridge$Gorge", name := "dayGoes", desc := "()V" } : Jvm.MethodName) ({ cls := "TruthBridge$Gorge", name := "dayGoes", desc := "()V" } : Jvm.MethodName)) ∈ lw_all := lw_g (lw_at lw_m4 219 rfl) rfl
theorem q1095 : (Jvm.Cond.code ({ cls := "TruthBridge$Gorge", name := "dayGoes", desc := "()V" } : Jvm.MethodName) prog_7_method_13_code (3 : Nat) (Option.none : Option Jvm.ClassFile.FieldType)) ∈ lw_all := lw_g (lw_at lw_m4 220 rfl) rfl
theorem q1096 : (Jvm.Cond.methodLink "TruthBridge$Gorge" (112 : Nat) ({ cls := "TruthBridge$Gorge", name := "forgetsFact", desc := "(II)V" } : Jvm.MethodName)) ∈ lw_all := lw_g (lw_at lw_m4 221 rfl) rfl
theorem q1097 : (Jvm.Cond.instanceMethod ({ cls := "TruthBridge$Gorge", name := "forgetsFact", desc := "(II)V" } : Jvm.MethodName)) ∈ lw_all := lw_g (lw_at lw_m4 222 rfl) rfl
theorem q1098 : (Jvm.Cond.selects "TruthBridge$Gorge" ({ cls := "TruthBridge$Gorge", name := "forgetsFact", desc := "(II)V" } : Jvm.MethodName) ({ cls := "TruthBridge$Gorge", name := "forgetsFact", desc := "(II)V" } : Jvm.MethodName)) ∈ lw_all := lw_g (lw_at lw_m4 223 rfl) rfl
theorem q1099 : (Jvm.Cond.code ({ cls := "TruthBridge$Gorge", name := "forgetsFact", desc := "(II)V" } : Jvm.MethodName) prog_7_method_12_code (6 : Nat) (Option.none : Option Jvm.ClassFile.FieldType)) ∈ lw_all := lw_g (lw_at lw_m4 224 rfl) rfl
theorem q1100 : (Jvm.Cond.fieldLinkNest "TruthBridge$Gorge" (109 : Nat) "TruthBridge" "WITHOUT" "[J" "TruthBridge") ∈ lw_tbl := lw_at lw_m4 225 rfl
theorem in_X1 : ∀ w ∈ wsX10, w ∈ lw_all := lw_in wsX10 [258, 260, 262, 264, 266, 268, 270, 272, 274, 276, 278, 280, 282, 284, 286, 288, 290, 292, 294, 296, 298, 300] (by decide +kernel) (by decide +kernel)
/-! TruthBridge$Fault -/
set_option maxRecDepth 100000
def RX2 : String := "TruthBridge$Fault"
def TX2 : u_T := fun k => match k with
  | 0 => ("java/lang/Throwable", "cause", "Ljava/lang/Throwable;", false)
  | 1 => ("java/lang/Throwable", "stackTrace", "[Ljava/lang/StackTraceElement;", false)
  | 2 => ("java/lang/Throwable", "suppressedExceptions", "Ljava/util/List;", false)
  | 3 => ("java/lang/Throwable", "detailMessage", "Ljava/lang/String;", false)
  | 4 => ("java/lang/Throwable", "backtrace", "Ljava/lang/Object;", false)
  | 5 => ("java/lang/Throwable", "depth", "I", false)
  | 6 => ("TruthBridge$Fault", "kind", "I", false)
  | _ => ("TruthBridge$Fault", "place", "I", false)
def tyX2 : Nat → FieldType := fun k => match k with
  | 0 => .object "java/lang/Throwable"
  | 1 => .array (.object "java/lang/StackTraceElement")
  | 2 => .object "java/util/List"
  | 3 => .object "java/lang/String"
  | 4 => .object "java/lang/Object"
  | 5 => .int
  | 6 => .int
  | _ => .int
abbrev wsX20 : List Cond := u_ws RX2 TX2 8
theorem nmX2 : ∀ a, a < 8 → ∀ b, b < 8 → a ≠ b → (TX2 a).2.1 ≠ (TX2 b).2.1 := by decide +kernel
theorem tyX2_ok : ∀ k, k < 8 → parseFieldDescriptor (TX2 k).2.2.1 = some (tyX2 k) := by decide +kernel
abbrev cX2_init : ByteArray := prog_5_method_1_code
def yX2_init : MethodName := ⟨RX2, "<init>", "()V"⟩
def dkwX2_init_0 : List UInt8 := [42, 18, 1, 1, 3, 3, 183, 0, 3, 177]
abbrev dktX2_init_0 : List UInt8 := dkwX2_init_0 ++ []
theorem dksX2_init_0 : cX2_init.data.toList.drop 0 = dktX2_init_0 := by decide +kernel
theorem dX2_init_0 : decode cX2_init 0 = .ok (.aload_n 0, 1) := dk_42 (dk_at dksX2_init_0 0 rfl rfl)
theorem dX2_init_1 : decode cX2_init 1 = .ok (.ldc 1, 2) := dk_18 1 (dk_at dksX2_init_0 1 rfl rfl)
theorem dX2_init_3 : decode cX2_init 3 = .ok (.aconst_null, 1) := dk_1 (dk_at dksX2_init_0 3 rfl rfl)
theorem dX2_init_4 : decode cX2_init 4 = .ok (.iconst 0, 1) := dk_3 (dk_at dksX2_init_0 4 rfl rfl)
theorem dX2_init_5 : decode cX2_init 5 = .ok (.iconst 0, 1) := dk_3 (dk_at dksX2_init_0 5 rfl rfl)
theorem dX2_init_6 : decode cX2_init 6 = .ok (.invokespecial 3, 3) := dk_183 0 3 (dk_at dksX2_init_0 6 rfl rfl)
theorem dX2_init_9 : decode cX2_init 9 = .ok (.return_, 1) := dk_177 (dk_at dksX2_init_0 9 rfl rfl)
theorem q161 : (Jvm.Cond.initialized "TruthBridge$Fault") ∈ lw_all := lw_g (lw_at lw_m1 6 rfl) rfl
theorem q306 : (Jvm.Cond.instantiable "TruthBridge$Fault" (8 : Nat)) ∈ lw_all := lw_g (lw_at lw_m1 151 rfl) rfl
theorem q307 : (Jvm.Cond.castable "TruthBridge$Fault" "TruthBridge$Fault") ∈ lw_tbl := lw_at lw_m1 152 rfl
theorem q314 : (Jvm.Cond.selects "TruthBridge$Fault" ({ cls := "java/lang/Throwable", name := "fillInStackTrace", desc := "(I)Ljava/lang/Throwable;" } : Jvm.MethodName) ({ cls := "java/lang/Throwable", name := "fillInStackTrace", desc := "(I)Ljava/lang/Throwable;" } : Jvm.MethodName)) ∈ lw_all := lw_g (lw_at lw_m1 159 rfl) rfl
theorem q315 : (Jvm.Cond.selects "TruthBridge$Fault" ({ cls := "java/lang/Throwable", name := "fillInStackTrace", desc := "()Ljava/lang/Throwable;" } : Jvm.MethodName) ({ cls := "java/lang/Throwable", name := "fillInStackTrace", desc := "()Ljava/lang/Throwable;" } : Jvm.MethodName)) ∈ lw_all := lw_g (lw_at lw_m1 160 rfl) rfl
theorem q316 : (Jvm.Cond.lays "TruthBridge$Fault" "java/lang/Throwable" "cause" "Ljava/lang/Throwable;") ∈ lw_all := lw_g (lw_at lw_m1 161 rfl) rfl
theorem q318 : (Jvm.Cond.lays "TruthBridge$Fault" "java/lang/Throwable" "stackTrace" "[Ljava/lang/StackTraceElement;") ∈ lw_all := lw_g (lw_at lw_m1 163 rfl) rfl
theorem q320 : (Jvm.Cond.lays "TruthBridge$Fault" "java/lang/Throwable" "suppressedExceptions" "Ljava/util/List;") ∈ lw_all := lw_g (lw_at lw_m1 165 rfl) rfl
theorem q322 : (Jvm.Cond.lays "TruthBridge$Fault" "java/lang/Throwable" "detailMessage" "Ljava/lang/String;") ∈ lw_all := lw_g (lw_at lw_m1 167 rfl) rfl
theorem q324 : (Jvm.Cond.lays "TruthBridge$Fault" "java/lang/Throwable" "backtrace" "Ljava/lang/Object;") ∈ lw_all := lw_g (lw_at lw_m1 169 rfl) rfl
theorem q345 : (Jvm.Cond.instanceMethod ({ cls := "TruthBridge$Fault", name := "<init>", desc := "()V" } : Jvm.MethodName)) ∈ lw_all := lw_g (lw_at lw_m1 190 rfl) rfl
theorem q346 : (Jvm.Cond.code ({ cls := "TruthBridge$Fault", name := "<init>", desc := "()V" } : Jvm.MethodName) prog_5_method_1_code (1 : Nat) (Option.none : Option Jvm.ClassFile.FieldType)) ∈ lw_all := lw_g (lw_at lw_m1 191 rfl) rfl
theorem q347 : (Jvm.Cond.stringRef "TruthBridge$Fault" (1 : Nat) "fault") ∈ lw_tbl := lw_at lw_m1 192 rfl
theorem q348 : (Jvm.Cond.methodLink "TruthBridge$Fault" (3 : Nat) ({ cls := "java/lang/RuntimeException", name := "<init>", desc := "(Ljava/lang/String;Ljava/lang/Throwable;ZZ)V" } : Jvm.MethodName)) ∈ lw_all := lw_g (lw_at lw_m1 193 rfl) rfl
theorem q366 : (Jvm.Cond.lays "TruthBridge$Fault" "TruthBridge$Fault" "kind" "I") ∈ lw_all := lw_g (lw_at lw_m1 211 rfl) rfl
theorem q367 : (Jvm.Cond.soleField "TruthBridge$Fault" "kind") ∈ lw_all := lw_g (lw_at lw_m1 212 rfl) rfl
theorem q368 : (Jvm.Cond.lays "TruthBridge$Fault" "TruthBridge$Fault" "place" "I") ∈ lw_all := lw_g (lw_at lw_m1 213 rfl) rfl
theorem q369 : (Jvm.Cond.soleField "TruthBridge$Fault" "place") ∈ lw_all := lw_g (lw_at lw_m1 214 rfl) rfl
theorem q374 : (Jvm.Cond.lays "TruthBridge$Fault" "java/lang/Throwable" "depth" "I") ∈ lw_all := lw_g (lw_at lw_m1 219 rfl) rfl
theorem q377 : (Jvm.Cond.superclass "TruthBridge$Fault" "java/lang/RuntimeException") ∈ lw_all := lw_g (lw_at lw_m1 222 rfl) rfl
theorem in_X2 : ∀ w ∈ wsX20, w ∈ lw_all := lw_in wsX20 [316, 318, 320, 322, 324, 374, 366, 368] (by decide +kernel) (by decide +kernel)
/-! TruthBridge$Form -/
set_option maxRecDepth 100000
def RX5 : String := "TruthBridge$Form"
abbrev cX5_init : ByteArray := prog_6_method_1_code
def yX5_init : MethodName := ⟨RX5, "<init>", "()V"⟩
theorem dX5_init_0 : decode cX5_init 0 = .ok (.aload_n 0, 1) := by decide +kernel
theorem dX5_init_1 : decode cX5_init 1 = .ok (.invokespecial 1, 3) := by decide +kernel
theorem dX5_init_4 : decode cX5_init 4 = .ok (.return_, 1) := by decide +kernel
theorem q170 : (Jvm.Cond.initialized "TruthBridge$Form") ∈ lw_all := lw_g (lw_at lw_m1 15 rfl) rfl
theorem q733 : (Jvm.Cond.instanceMethod ({ cls := "TruthBridge$Form", name := "<init>", desc := "()V" } : Jvm.MethodName)) ∈ lw_all := lw_g (lw_at lw_m3 98 rfl) rfl
theorem q734 : (Jvm.Cond.code ({ cls := "TruthBridge$Form", name := "<init>", desc := "()V" } : Jvm.MethodName) prog_6_method_1_code (1 : Nat) (Option.none : Option Jvm.ClassFile.FieldType)) ∈ lw_all := lw_g (lw_at lw_m3 99 rfl) rfl
theorem q735 : (Jvm.Cond.methodLink "TruthBridge$Form" (1 : Nat) ({ cls := "java/lang/Object", name := "<init>", desc := "()V" } : Jvm.MethodName)) ∈ lw_all := lw_g (lw_at lw_m3 100 rfl) rfl
theorem q779 : (Jvm.Cond.declares ({ cls := "TruthBridge$Form", name := "holdsIn", desc := "(I)Z" } : Jvm.MethodName)) ∈ lw_tbl := lw_at lw_m3 144 rfl
theorem q780 : (Jvm.Cond.sameMethod "TruthBridge$Form" "TruthBridge$Form" "holdsIn" "(I)Z") ∈ lw_all := lw_g (lw_at lw_m3 145 rfl) rfl
/-! TruthBridge$Nay -/
set_option maxRecDepth 100000
def RX6 : String := "TruthBridge$Nay"
def TX6 : u_T := fun k => match k with
  | _ => ("TruthBridge$Nay", "form", "LTruthBridge$Form;", true)
def tyX6 : Nat → FieldType := fun k => match k with
  | _ => .object "TruthBridge$Form"
abbrev wsX60 : List Cond := u_ws RX6 TX6 1
theorem nmX6 : ∀ a, a < 1 → ∀ b, b < 1 → a ≠ b → (TX6 a).2.1 ≠ (TX6 b).2.1 := by decide +kernel
theorem tyX6_ok : ∀ k, k < 1 → parseFieldDescriptor (TX6 k).2.2.1 = some (tyX6 k) := by decide +kernel
abbrev cX6_init : ByteArray := prog_10_method_1_code
def yX6_init : MethodName := ⟨RX6, "<init>", "(LTruthBridge$Form;)V"⟩
def dkwX6_init_0 : List UInt8 := [42, 183, 0, 1, 42, 43, 181, 0, 7, 177]
abbrev dktX6_init_0 : List UInt8 := dkwX6_init_0 ++ []
theorem dksX6_init_0 : cX6_init.data.toList.drop 0 = dktX6_init_0 := by decide +kernel
theorem dX6_init_0 : decode cX6_init 0 = .ok (.aload_n 0, 1) := dk_42 (dk_at dksX6_init_0 0 rfl rfl)
theorem dX6_init_1 : decode cX6_init 1 = .ok (.invokespecial 1, 3) := dk_183 0 1 (dk_at dksX6_init_0 1 rfl rfl)
theorem dX6_init_4 : decode cX6_init 4 = .ok (.aload_n 0, 1) := dk_42 (dk_at dksX6_init_0 4 rfl rfl)
theorem dX6_init_5 : decode cX6_init 5 = .ok (.aload_n 1, 1) := dk_43 (dk_at dksX6_init_0 5 rfl rfl)
theorem dX6_init_6 : decode cX6_init 6 = .ok (.putfield 7, 3) := dk_181 0 7 (dk_at dksX6_init_0 6 rfl rfl)
theorem dX6_init_9 : decode cX6_init 9 = .ok (.return_, 1) := dk_177 (dk_at dksX6_init_0 9 rfl rfl)
abbrev cX6_holdsIn : ByteArray := prog_10_method_2_code
def yX6_holdsIn : MethodName := ⟨RX6, "holdsIn", "(I)Z"⟩
def dkwX6_holdsIn_0 : List UInt8 := [42, 180, 0, 7, 27, 182, 0, 13, 154, 0, 7, 4, 167, 0, 4, 3, 172]
abbrev dktX6_holdsIn_0 : List UInt8 := dkwX6_holdsIn_0 ++ []
theorem dksX6_holdsIn_0 : cX6_holdsIn.data.toList.drop 0 = dktX6_holdsIn_0 := by decide +kernel
theorem dX6_holdsIn_0 : decode cX6_holdsIn 0 = .ok (.aload_n 0, 1) := dk_42 (dk_at dksX6_holdsIn_0 0 rfl rfl)
theorem dX6_holdsIn_1 : decode cX6_holdsIn 1 = .ok (.getfield 7, 3) := dk_180 0 7 (dk_at dksX6_holdsIn_0 1 rfl rfl)
theorem dX6_holdsIn_4 : decode cX6_holdsIn 4 = .ok (.iload_n 1, 1) := dk_27 (dk_at dksX6_holdsIn_0 4 rfl rfl)
theorem dX6_holdsIn_5 : decode cX6_holdsIn 5 = .ok (.invokevirtual 13, 3) := dk_182 0 13 (dk_at dksX6_holdsIn_0 5 rfl rfl)
theorem dX6_holdsIn_8 : decode cX6_holdsIn 8 = .ok (.ifCond .ne 7, 3) := dk_154 0 7 (dk_at dksX6_holdsIn_0 8 rfl rfl)
theorem dX6_holdsIn_11 : decode cX6_holdsIn 11 = .ok (.iconst 1, 1) := dk_4 (dk_at dksX6_holdsIn_0 11 rfl rfl)
theorem dX6_holdsIn_12 : decode cX6_holdsIn 12 = .ok (.goto 4, 3) := dk_167 0 4 (dk_at dksX6_holdsIn_0 12 rfl rfl)
theorem dX6_holdsIn_15 : decode cX6_holdsIn 15 = .ok (.iconst 0, 1) := dk_3 (dk_at dksX6_holdsIn_0 15 rfl rfl)
theorem dX6_holdsIn_16 : decode cX6_holdsIn 16 = .ok (.ireturn, 1) := dk_172 (dk_at dksX6_holdsIn_0 16 rfl rfl)
theorem q171 : (Jvm.Cond.initialized "TruthBridge$Nay") ∈ lw_all := lw_g (lw_at lw_m1 16 rfl) rfl
theorem q728 : (Jvm.Cond.instantiable "TruthBridge$Nay" (1 : Nat)) ∈ lw_all := lw_g (lw_at lw_m3 93 rfl) rfl
theorem q730 : (Jvm.Cond.instanceMethod ({ cls := "TruthBridge$Nay", name := "<init>", desc := "(LTruthBridge$Form;)V" } : Jvm.MethodName)) ∈ lw_all := lw_g (lw_at lw_m3 95 rfl) rfl
theorem q731 : (Jvm.Cond.code ({ cls := "TruthBridge$Nay", name := "<init>", desc := "(LTruthBridge$Form;)V" } : Jvm.MethodName) prog_10_method_1_code (2 : Nat) (Option.none : Option Jvm.ClassFile.FieldType)) ∈ lw_all := lw_g (lw_at lw_m3 96 rfl) rfl
theorem q732 : (Jvm.Cond.methodLinkNest "TruthBridge$Nay" (1 : Nat) ({ cls := "TruthBridge$Form", name := "<init>", desc := "()V" } : Jvm.MethodName) "TruthBridge") ∈ lw_tbl := lw_at lw_m3 97 rfl
theorem q736 : (Jvm.Cond.fieldLink "TruthBridge$Nay" (7 : Nat) "TruthBridge$Nay" "form" "LTruthBridge$Form;") ∈ lw_all := lw_g (lw_at lw_m3 101 rfl) rfl
theorem q737 : (Jvm.Cond.laysFinal "TruthBridge$Nay" "TruthBridge$Nay" "form" "LTruthBridge$Form;") ∈ lw_all := lw_g (lw_at lw_m3 102 rfl) rfl
theorem q738 : (Jvm.Cond.soleField "TruthBridge$Nay" "form") ∈ lw_all := lw_g (lw_at lw_m3 103 rfl) rfl
theorem q739 : (Jvm.Cond.superclass "TruthBridge$Nay" "TruthBridge$Form") ∈ lw_all := lw_g (lw_at lw_m3 104 rfl) rfl
theorem q785 : (Jvm.Cond.selects "TruthBridge$Nay" ({ cls := "TruthBridge$Form", name := "holdsIn", desc := "(I)Z" } : Jvm.MethodName) ({ cls := "TruthBridge$Nay", name := "holdsIn", desc := "(I)Z" } : Jvm.MethodName)) ∈ lw_all := lw_g (lw_at lw_m3 150 rfl) rfl
theorem q786 : (Jvm.Cond.instanceMethod ({ cls := "TruthBridge$Nay", name := "holdsIn", desc := "(I)Z" } : Jvm.MethodName)) ∈ lw_all := lw_g (lw_at lw_m3 151 rfl) rfl
theorem q787 : (Jvm.Cond.code ({ cls := "TruthBridge$Nay", name := "holdsIn", desc := "(I)Z" } : Jvm.MethodName) prog_10_method_2_code (2 : Nat) (Option.some Jvm.ClassFile.FieldType.boolean)) ∈ lw_all := lw_g (lw_at lw_m3 152 rfl) rfl
theorem q788 : (Jvm.Cond.methodLink "TruthBridge$Nay" (13 : Nat) ({ cls := "TruthBridge$Form", name := "holdsIn", desc := "(I)Z" } : Jvm.MethodName)) ∈ lw_all := lw_g (lw_at lw_m3 153 rfl) rfl
theorem in_X6 : ∀ w ∈ wsX60, w ∈ lw_all := lw_in wsX60 [737] (by decide +kernel) (by decide +kernel)
/-! TruthBridge$Letter -/
set_option maxRecDepth 100000
def RX7 : String := "TruthBridge$Letter"
def TX7 : u_T := fun k => match k with
  | _ => ("TruthBridge$Letter", "letter", "I", true)
def tyX7 : Nat → FieldType := fun k => match k with
  | _ => .int
abbrev wsX70 : List Cond := u_ws RX7 TX7 1
theorem nmX7 : ∀ a, a < 1 → ∀ b, b < 1 → a ≠ b → (TX7 a).2.1 ≠ (TX7 b).2.1 := by decide +kernel
theorem tyX7_ok : ∀ k, k < 1 → parseFieldDescriptor (TX7 k).2.2.1 = some (tyX7 k) := by decide +kernel
abbrev cX7_init : ByteArray := prog_9_method_1_code
def yX7_init : MethodName := ⟨RX7, "<init>", "(I)V"⟩
def dkwX7_init_0 : List UInt8 := [42, 183, 0, 1, 42, 27, 181, 0, 7, 177]
abbrev dktX7_init_0 : List UInt8 := dkwX7_init_0 ++ []
theorem dksX7_init_0 : cX7_init.data.toList.drop 0 = dktX7_init_0 := by decide +kernel
theorem dX7_init_0 : decode cX7_init 0 = .ok (.aload_n 0, 1) := dk_42 (dk_at dksX7_init_0 0 rfl rfl)
theorem dX7_init_1 : decode cX7_init 1 = .ok (.invokespecial 1, 3) := dk_183 0 1 (dk_at dksX7_init_0 1 rfl rfl)
theorem dX7_init_4 : decode cX7_init 4 = .ok (.aload_n 0, 1) := dk_42 (dk_at dksX7_init_0 4 rfl rfl)
theorem dX7_init_5 : decode cX7_init 5 = .ok (.iload_n 1, 1) := dk_27 (dk_at dksX7_init_0 5 rfl rfl)
theorem dX7_init_6 : decode cX7_init 6 = .ok (.putfield 7, 3) := dk_181 0 7 (dk_at dksX7_init_0 6 rfl rfl)
theorem dX7_init_9 : decode cX7_init 9 = .ok (.return_, 1) := dk_177 (dk_at dksX7_init_0 9 rfl rfl)
abbrev cX7_holdsIn : ByteArray := prog_9_method_2_code
def yX7_holdsIn : MethodName := ⟨RX7, "holdsIn", "(I)Z"⟩
def dkwX7_holdsIn_0 : List UInt8 := [27, 42, 180, 0, 7, 184, 0, 13, 172]
abbrev dktX7_holdsIn_0 : List UInt8 := dkwX7_holdsIn_0 ++ []
theorem dksX7_holdsIn_0 : cX7_holdsIn.data.toList.drop 0 = dktX7_holdsIn_0 := by decide +kernel
theorem dX7_holdsIn_0 : decode cX7_holdsIn 0 = .ok (.iload_n 1, 1) := dk_27 (dk_at dksX7_holdsIn_0 0 rfl rfl)
theorem dX7_holdsIn_1 : decode cX7_holdsIn 1 = .ok (.aload_n 0, 1) := dk_42 (dk_at dksX7_holdsIn_0 1 rfl rfl)
theorem dX7_holdsIn_2 : decode cX7_holdsIn 2 = .ok (.getfield 7, 3) := dk_180 0 7 (dk_at dksX7_holdsIn_0 2 rfl rfl)
theorem dX7_holdsIn_5 : decode cX7_holdsIn 5 = .ok (.invokestatic 13, 3) := dk_184 0 13 (dk_at dksX7_holdsIn_0 5 rfl rfl)
theorem dX7_holdsIn_8 : decode cX7_holdsIn 8 = .ok (.ireturn, 1) := dk_172 (dk_at dksX7_holdsIn_0 8 rfl rfl)
theorem q172 : (Jvm.Cond.initialized "TruthBridge$Letter") ∈ lw_all := lw_g (lw_at lw_m1 17 rfl) rfl
theorem q743 : (Jvm.Cond.instantiable "TruthBridge$Letter" (1 : Nat)) ∈ lw_all := lw_g (lw_at lw_m3 108 rfl) rfl
theorem q745 : (Jvm.Cond.instanceMethod ({ cls := "TruthBridge$Letter", name := "<init>", desc := "(I)V" } : Jvm.MethodName)) ∈ lw_all := lw_g (lw_at lw_m3 110 rfl) rfl
theorem q746 : (Jvm.Cond.code ({ cls := "TruthBridge$Letter", name := "<init>", desc := "(I)V" } : Jvm.MethodName) prog_9_method_1_code (2 : Nat) (Option.none : Option Jvm.ClassFile.FieldType)) ∈ lw_all := lw_g (lw_at lw_m3 111 rfl) rfl
theorem q747 : (Jvm.Cond.methodLinkNest "TruthBridge$Letter" (1 : Nat) ({ cls := "TruthBridge$Form", name := "<init>", desc := "()V" } : Jvm.MethodName) "TruthBridge") ∈ lw_tbl := lw_at lw_m3 112 rfl
theorem q748 : (Jvm.Cond.fieldLink "TruthBridge$Letter" (7 : Nat) "TruthBridge$Letter" "letter" "I") ∈ lw_all := lw_g (lw_at lw_m3 113 rfl) rfl
theorem q749 : (Jvm.Cond.laysFinal "TruthBridge$Letter" "TruthBridge$Letter" "letter" "I") ∈ lw_all := lw_g (lw_at lw_m3 114 rfl) rfl
theorem q750 : (Jvm.Cond.soleField "TruthBridge$Letter" "letter") ∈ lw_all := lw_g (lw_at lw_m3 115 rfl) rfl
theorem q751 : (Jvm.Cond.superclass "TruthBridge$Letter" "TruthBridge$Form") ∈ lw_all := lw_g (lw_at lw_m3 116 rfl) rfl
theorem q781 : (Jvm.Cond.selects "TruthBridge$Letter" ({ cls := "TruthBridge$Form", name := "holdsIn", desc := "(I)Z" } : Jvm.MethodName) ({ cls := "TruthBridge$Letter", name := "holdsIn", desc := "(I)Z" } : Jvm.MethodName)) ∈ lw_all := lw_g (lw_at lw_m3 146 rfl) rfl
theorem q782 : (Jvm.Cond.instanceMethod ({ cls := "TruthBridge$Letter", name := "holdsIn", desc := "(I)Z" } : Jvm.MethodName)) ∈ lw_all := lw_g (lw_at lw_m3 147 rfl) rfl
theorem q783 : (Jvm.Cond.code ({ cls := "TruthBridge$Letter", name := "holdsIn", desc := "(I)Z" } : Jvm.MethodName) prog_9_method_2_code (2 : Nat) (Option.some Jvm.ClassFile.FieldType.boolean)) ∈ lw_all := lw_g (lw_at lw_m3 148 rfl) rfl
theorem q784 : (Jvm.Cond.methodLinkNest "TruthBridge$Letter" (13 : Nat) ({ cls := "TruthBridge", name := "has", desc := "(II)Z" } : Jvm.MethodName) "TruthBridge") ∈ lw_tbl := lw_at lw_m3 149 rfl
theorem in_X7 : ∀ w ∈ wsX70, w ∈ lw_all := lw_in wsX70 [749] (by decide +kernel) (by decide +kernel)
/-! TruthBridge$Two -/
set_option maxRecDepth 100000
def RX8 : String := "TruthBridge$Two"
def TX8 : u_T := fun k => match k with
  | 0 => ("TruthBridge$Two", "one", "LTruthBridge$Form;", true)
  | 1 => ("TruthBridge$Two", "other", "LTruthBridge$Form;", true)
  | _ => ("TruthBridge$Two", "both", "Z", true)
def tyX8 : Nat → FieldType := fun k => match k with
  | 0 => .object "TruthBridge$Form"
  | 1 => .object "TruthBridge$Form"
  | _ => .boolean
abbrev wsX80 : List Cond := u_ws RX8 TX8 3
theorem nmX8 : ∀ a, a < 3 → ∀ b, b < 3 → a ≠ b → (TX8 a).2.1 ≠ (TX8 b).2.1 := by decide +kernel
theorem tyX8_ok : ∀ k, k < 3 → parseFieldDescriptor (TX8 k).2.2.1 = some (tyX8 k) := by decide +kernel
abbrev cX8_init : ByteArray := prog_17_method_1_code
def yX8_init : MethodName := ⟨RX8, "<init>", "(LTruthBridge$Form;ZLTruthBridge$Form;)V"⟩
def dkwX8_init_0 : List UInt8 := [42, 183, 0, 1, 42, 43, 181, 0, 7, 42, 28, 181, 0, 13, 42, 45, 181, 0, 17, 177]
abbrev dktX8_init_0 : List UInt8 := dkwX8_init_0 ++ []
theorem dksX8_init_0 : cX8_init.data.toList.drop 0 = dktX8_init_0 := by decide +kernel
theorem dX8_init_0 : decode cX8_init 0 = .ok (.aload_n 0, 1) := dk_42 (dk_at dksX8_init_0 0 rfl rfl)
theorem dX8_init_1 : decode cX8_init 1 = .ok (.invokespecial 1, 3) := dk_183 0 1 (dk_at dksX8_init_0 1 rfl rfl)
theorem dX8_init_4 : decode cX8_init 4 = .ok (.aload_n 0, 1) := dk_42 (dk_at dksX8_init_0 4 rfl rfl)
theorem dX8_init_5 : decode cX8_init 5 = .ok (.aload_n 1, 1) := dk_43 (dk_at dksX8_init_0 5 rfl rfl)
theorem dX8_init_6 : decode cX8_init 6 = .ok (.putfield 7, 3) := dk_181 0 7 (dk_at dksX8_init_0 6 rfl rfl)
theorem dX8_init_9 : decode cX8_init 9 = .ok (.aload_n 0, 1) := dk_42 (dk_at dksX8_init_0 9 rfl rfl)
theorem dX8_init_10 : decode cX8_init 10 = .ok (.iload_n 2, 1) := dk_28 (dk_at dksX8_init_0 10 rfl rfl)
theorem dX8_init_11 : decode cX8_init 11 = .ok (.putfield 13, 3) := dk_181 0 13 (dk_at dksX8_init_0 11 rfl rfl)
theorem dX8_init_14 : decode cX8_init 14 = .ok (.aload_n 0, 1) := dk_42 (dk_at dksX8_init_0 14 rfl rfl)
theorem dX8_init_15 : decode cX8_init 15 = .ok (.aload_n 3, 1) := dk_45 (dk_at dksX8_init_0 15 rfl rfl)
theorem dX8_init_16 : decode cX8_init 16 = .ok (.putfield 17, 3) := dk_181 0 17 (dk_at dksX8_init_0 16 rfl rfl)
theorem dX8_init_19 : decode cX8_init 19 = .ok (.return_, 1) := dk_177 (dk_at dksX8_init_0 19 rfl rfl)
abbrev cX8_holdsIn : ByteArray := prog_17_method_2_code
def yX8_holdsIn : MethodName := ⟨RX8, "holdsIn", "(I)Z"⟩
def dkwX8_holdsIn_2 : List UInt8 := [154, 0, 14, 42, 180, 0, 17, 27, 182, 0, 20, 153, 0, 7, 4, 167, 0, 4, 3, 172]
abbrev dktX8_holdsIn_2 : List UInt8 := dkwX8_holdsIn_2 ++ []
def dkwX8_holdsIn_1 : List UInt8 := [182, 0, 20, 153, 0, 7, 4, 167, 0, 34, 3, 167, 0, 30, 42, 180, 0, 7, 27, 182, 0, 20]
abbrev dktX8_holdsIn_1 : List UInt8 := dkwX8_holdsIn_1 ++ dktX8_holdsIn_2
def dkwX8_holdsIn_0 : List UInt8 := [42, 180, 0, 13, 153, 0, 33, 42, 180, 0, 7, 27, 182, 0, 20, 153, 0, 18, 42, 180, 0, 17, 27]
abbrev dktX8_holdsIn_0 : List UInt8 := dkwX8_holdsIn_0 ++ dktX8_holdsIn_1
theorem dksX8_holdsIn_0 : cX8_holdsIn.data.toList.drop 0 = dktX8_holdsIn_0 := by decide +kernel
theorem dksX8_holdsIn_1 : cX8_holdsIn.data.toList.drop 23 = dktX8_holdsIn_1 := dk_seg dksX8_holdsIn_0 23 rfl rfl
theorem dksX8_holdsIn_2 : cX8_holdsIn.data.toList.drop 45 = dktX8_holdsIn_2 := dk_seg dksX8_holdsIn_1 22 rfl rfl
theorem dX8_holdsIn_0 : decode cX8_holdsIn 0 = .ok (.aload_n 0, 1) := dk_42 (dk_at dksX8_holdsIn_0 0 rfl rfl)
theorem dX8_holdsIn_1 : decode cX8_holdsIn 1 = .ok (.getfield 13, 3) := dk_180 0 13 (dk_at dksX8_holdsIn_0 1 rfl rfl)
theorem dX8_holdsIn_4 : decode cX8_holdsIn 4 = .ok (.ifCond .eq 33, 3) := dk_153 0 33 (dk_at dksX8_holdsIn_0 4 rfl rfl)
theorem dX8_holdsIn_7 : decode cX8_holdsIn 7 = .ok (.aload_n 0, 1) := dk_42 (dk_at dksX8_holdsIn_0 7 rfl rfl)
theorem dX8_holdsIn_8 : decode cX8_holdsIn 8 = .ok (.getfield 7, 3) := dk_180 0 7 (dk_at dksX8_holdsIn_0 8 rfl rfl)
theorem dX8_holdsIn_11 : decode cX8_holdsIn 11 = .ok (.iload_n 1, 1) := dk_27 (dk_at dksX8_holdsIn_0 11 rfl rfl)
theorem dX8_holdsIn_12 : decode cX8_holdsIn 12 = .ok (.invokevirtual 20, 3) := dk_182 0 20 (dk_at dksX8_holdsIn_0 12 rfl rfl)
theorem dX8_holdsIn_15 : decode cX8_holdsIn 15 = .ok (.ifCond .eq 18, 3) := dk_153 0 18 (dk_at dksX8_holdsIn_0 15 rfl rfl)
theorem dX8_holdsIn_18 : decode cX8_holdsIn 18 = .ok (.aload_n 0, 1) := dk_42 (dk_at dksX8_holdsIn_0 18 rfl rfl)
theorem dX8_holdsIn_19 : decode cX8_holdsIn 19 = .ok (.getfield 17, 3) := dk_180 0 17 (dk_at dksX8_holdsIn_0 19 rfl rfl)
theorem dX8_holdsIn_22 : decode cX8_holdsIn 22 = .ok (.iload_n 1, 1) := dk_27 (dk_at dksX8_holdsIn_0 22 rfl rfl)
theorem dX8_holdsIn_23 : decode cX8_holdsIn 23 = .ok (.invokevirtual 20, 3) := dk_182 0 20 (dk_at dksX8_holdsIn_1 0 rfl rfl)
theorem dX8_holdsIn_26 : decode cX8_holdsIn 26 = .ok (.ifCond .eq 7, 3) := dk_153 0 7 (dk_at dksX8_holdsIn_1 3 rfl rfl)
theorem dX8_holdsIn_29 : decode cX8_holdsIn 29 = .ok (.iconst 1, 1) := dk_4 (dk_at dksX8_holdsIn_1 6 rfl rfl)
theorem dX8_holdsIn_30 : decode cX8_holdsIn 30 = .ok (.goto 34, 3) := dk_167 0 34 (dk_at dksX8_holdsIn_1 7 rfl rfl)
theorem dX8_holdsIn_33 : decode cX8_holdsIn 33 = .ok (.iconst 0, 1) := dk_3 (dk_at dksX8_holdsIn_1 10 rfl rfl)
theorem dX8_holdsIn_34 : decode cX8_holdsIn 34 = .ok (.goto 30, 3) := dk_167 0 30 (dk_at dksX8_holdsIn_1 11 rfl rfl)
theorem dX8_holdsIn_37 : decode cX8_holdsIn 37 = .ok (.aload_n 0, 1) := dk_42 (dk_at dksX8_holdsIn_1 14 rfl rfl)
theorem dX8_holdsIn_38 : decode cX8_holdsIn 38 = .ok (.getfield 7, 3) := dk_180 0 7 (dk_at dksX8_holdsIn_1 15 rfl rfl)
theorem dX8_holdsIn_41 : decode cX8_holdsIn 41 = .ok (.iload_n 1, 1) := dk_27 (dk_at dksX8_holdsIn_1 18 rfl rfl)
theorem dX8_holdsIn_42 : decode cX8_holdsIn 42 = .ok (.invokevirtual 20, 3) := dk_182 0 20 (dk_at dksX8_holdsIn_1 19 rfl rfl)
theorem dX8_holdsIn_45 : decode cX8_holdsIn 45 = .ok (.ifCond .ne 14, 3) := dk_154 0 14 (dk_at dksX8_holdsIn_2 0 rfl rfl)
theorem dX8_holdsIn_48 : decode cX8_holdsIn 48 = .ok (.aload_n 0, 1) := dk_42 (dk_at dksX8_holdsIn_2 3 rfl rfl)
theorem dX8_holdsIn_49 : decode cX8_holdsIn 49 = .ok (.getfield 17, 3) := dk_180 0 17 (dk_at dksX8_holdsIn_2 4 rfl rfl)
theorem dX8_holdsIn_52 : decode cX8_holdsIn 52 = .ok (.iload_n 1, 1) := dk_27 (dk_at dksX8_holdsIn_2 7 rfl rfl)
theorem dX8_holdsIn_53 : decode cX8_holdsIn 53 = .ok (.invokevirtual 20, 3) := dk_182 0 20 (dk_at dksX8_holdsIn_2 8 rfl rfl)
theorem dX8_holdsIn_56 : decode cX8_holdsIn 56 = .ok (.ifCond .eq 7, 3) := dk_153 0 7 (dk_at dksX8_holdsIn_2 11 rfl rfl)
theorem dX8_holdsIn_59 : decode cX8_holdsIn 59 = .ok (.iconst 1, 1) := dk_4 (dk_at dksX8_holdsIn_2 14 rfl rfl)
theorem dX8_holdsIn_60 : decode cX8_holdsIn 60 = .ok (.goto 4, 3) := dk_167 0 4 (dk_at dksX8_holdsIn_2 15 rfl rfl)
theorem dX8_holdsIn_63 : decode cX8_holdsIn 63 = .ok (.iconst 0, 1) := dk_3 (dk_at dksX8_holdsIn_2 18 rfl rfl)
theorem dX8_holdsIn_64 : decode cX8_holdsIn 64 = .ok (.ireturn, 1) := dk_172 (dk_at dksX8_holdsIn_2 19 rfl rfl)
theorem q173 : (Jvm.Cond.initialized "TruthBridge$Two") ∈ lw_all := lw_g (lw_at lw_m1 18 rfl) rfl
theorem q758 : (Jvm.Cond.instantiable "TruthBridge$Two" (3 : Nat)) ∈ lw_all := lw_g (lw_at lw_m3 123 rfl) rfl
theorem q760 : (Jvm.Cond.instanceMethod ({ cls := "TruthBridge$Two", name := "<init>", desc := "(LTruthBridge$Form;ZLTruthBridge$Form;)V" } : Jvm.MethodName)) ∈ lw_all := lw_g (lw_at lw_m3 125 rfl) rfl
theorem q761 : (Jvm.Cond.code ({ cls := "TruthBridge$Two", name := "<init>", desc := "(LTruthBridge$Form;ZLTruthBridge$Form;)V" } : Jvm.MethodName) prog_17_method_1_code (4 : Nat) (Option.none : Option Jvm.ClassFile.FieldType)) ∈ lw_all := lw_g (lw_at lw_m3 126 rfl) rfl
theorem q762 : (Jvm.Cond.methodLinkNest "TruthBridge$Two" (1 : Nat) ({ cls := "TruthBridge$Form", name := "<init>", desc := "()V" } : Jvm.MethodName) "TruthBridge") ∈ lw_tbl := lw_at lw_m3 127 rfl
theorem q763 : (Jvm.Cond.fieldLink "TruthBridge$Two" (7 : Nat) "TruthBridge$Two" "one" "LTruthBridge$Form;") ∈ lw_all := lw_g (lw_at lw_m3 128 rfl) rfl
theorem q764 : (Jvm.Cond.fieldLink "TruthBridge$Two" (17 : Nat) "TruthBridge$Two" "other" "LTruthBridge$Form;") ∈ lw_all := lw_g (lw_at lw_m3 129 rfl) rfl
theorem q765 : (Jvm.Cond.fieldLink "TruthBridge$Two" (13 : Nat) "TruthBridge$Two" "both" "Z") ∈ lw_all := lw_g (lw_at lw_m3 130 rfl) rfl
theorem q766 : (Jvm.Cond.laysFinal "TruthBridge$Two" "TruthBridge$Two" "one" "LTruthBridge$Form;") ∈ lw_all := lw_g (lw_at lw_m3 131 rfl) rfl
theorem q767 : (Jvm.Cond.soleField "TruthBridge$Two" "one") ∈ lw_all := lw_g (lw_at lw_m3 132 rfl) rfl
theorem q768 : (Jvm.Cond.laysFinal "TruthBridge$Two" "TruthBridge$Two" "other" "LTruthBridge$Form;") ∈ lw_all := lw_g (lw_at lw_m3 133 rfl) rfl
theorem q769 : (Jvm.Cond.soleField "TruthBridge$Two" "other") ∈ lw_all := lw_g (lw_at lw_m3 134 rfl) rfl
theorem q770 : (Jvm.Cond.laysFinal "TruthBridge$Two" "TruthBridge$Two" "both" "Z") ∈ lw_all := lw_g (lw_at lw_m3 135 rfl) rfl
theorem q771 : (Jvm.Cond.soleField "TruthBridge$Two" "both") ∈ lw_all := lw_g (lw_at lw_m3 136 rfl) rfl
theorem q772 : (Jvm.Cond.superclass "TruthBridge$Two" "TruthBridge$Form") ∈ lw_all := lw_g (lw_at lw_m3 137 rfl) rfl
theorem q789 : (Jvm.Cond.instanceMethod ({ cls := "TruthBridge$Two", name := "holdsIn", desc := "(I)Z" } : Jvm.MethodName)) ∈ lw_all := lw_g (lw_at lw_m3 154 rfl) rfl
theorem q790 : (Jvm.Cond.code ({ cls := "TruthBridge$Two", name := "holdsIn", desc := "(I)Z" } : Jvm.MethodName) prog_17_method_2_code (2 : Nat) (Option.some Jvm.ClassFile.FieldType.boolean)) ∈ lw_all := lw_g (lw_at lw_m3 155 rfl) rfl
theorem q791 : (Jvm.Cond.methodLink "TruthBridge$Two" (20 : Nat) ({ cls := "TruthBridge$Form", name := "holdsIn", desc := "(I)Z" } : Jvm.MethodName)) ∈ lw_all := lw_g (lw_at lw_m3 156 rfl) rfl
theorem q792 : (Jvm.Cond.selects "TruthBridge$Two" ({ cls := "TruthBridge$Form", name := "holdsIn", desc := "(I)Z" } : Jvm.MethodName) ({ cls := "TruthBridge$Two", name := "holdsIn", desc := "(I)Z" } : Jvm.MethodName)) ∈ lw_all := lw_g (lw_at lw_m3 157 rfl) rfl
theorem in_X8 : ∀ w ∈ wsX80, w ∈ lw_all := lw_in wsX80 [766, 768, 770] (by decide +kernel) (by decide +kernel)
/-! TruthBridge$Rule -/
set_option maxRecDepth 100000
def RX9 : String := "TruthBridge$Rule"
def TX9 : u_T := fun k => match k with
  | 0 => ("TruthBridge$Rule", "clauses", "[LTruthBridge$Clause;", true)
  | _ => ("TruthBridge$Rule", "many", "I", false)
def tyX9 : Nat → FieldType := fun k => match k with
  | 0 => .array (.object "TruthBridge$Clause")
  | _ => .int
abbrev wsX90 : List Cond := u_ws RX9 TX9 2
theorem nmX9 : ∀ a, a < 2 → ∀ b, b < 2 → a ≠ b → (TX9 a).2.1 ≠ (TX9 b).2.1 := by decide +kernel
theorem tyX9_ok : ∀ k, k < 2 → parseFieldDescriptor (TX9 k).2.2.1 = some (tyX9 k) := by decide +kernel
abbrev cX9_init : ByteArray := prog_14_method_1_code
def yX9_init : MethodName := ⟨RX9, "<init>", "()V"⟩
def dkwX9_init_0 : List UInt8 := [42, 183, 0, 3, 42, 16, 12, 189, 0, 9, 181, 0, 11, 177]
abbrev dktX9_init_0 : List UInt8 := dkwX9_init_0 ++ []
theorem dksX9_init_0 : cX9_init.data.toList.drop 0 = dktX9_init_0 := by decide +kernel
theorem dX9_init_0 : decode cX9_init 0 = .ok (.aload_n 0, 1) := dk_42 (dk_at dksX9_init_0 0 rfl rfl)
theorem dX9_init_1 : decode cX9_init 1 = .ok (.invokespecial 3, 3) := dk_183 0 3 (dk_at dksX9_init_0 1 rfl rfl)
theorem dX9_init_4 : decode cX9_init 4 = .ok (.aload_n 0, 1) := dk_42 (dk_at dksX9_init_0 4 rfl rfl)
theorem dX9_init_5 : decode cX9_init 5 = .ok (.bipush 12, 2) := dk_16 12 (dk_at dksX9_init_0 5 rfl rfl)
theorem dX9_init_7 : decode cX9_init 7 = .ok (.anewarray 9, 3) := dk_189 0 9 (dk_at dksX9_init_0 7 rfl rfl)
theorem dX9_init_10 : decode cX9_init 10 = .ok (.putfield 11, 3) := dk_181 0 11 (dk_at dksX9_init_0 10 rfl rfl)
theorem dX9_init_13 : decode cX9_init 13 = .ok (.return_, 1) := dk_177 (dk_at dksX9_init_0 13 rfl rfl)
abbrev cX9_sumFor : ByteArray := prog_14_method_2_code
def yX9_sumFor : MethodName := ⟨RX9, "sumFor", "([J)J"⟩
def dkwX9_sumFor_1 : List UInt8 := [180, 0, 11, 28, 50, 180, 0, 25, 43, 182, 0, 29, 173, 132, 2, 1, 167, 255, 218, 9, 173]
abbrev dktX9_sumFor_1 : List UInt8 := dkwX9_sumFor_1 ++ []
def dkwX9_sumFor_0 : List UInt8 := [3, 61, 28, 42, 180, 0, 17, 162, 0, 36, 42, 180, 0, 11, 28, 50, 43, 182, 0, 21, 153, 0, 17, 42]
abbrev dktX9_sumFor_0 : List UInt8 := dkwX9_sumFor_0 ++ dktX9_sumFor_1
theorem dksX9_sumFor_0 : cX9_sumFor.data.toList.drop 0 = dktX9_sumFor_0 := by decide +kernel
theorem dksX9_sumFor_1 : cX9_sumFor.data.toList.drop 24 = dktX9_sumFor_1 := dk_seg dksX9_sumFor_0 24 rfl rfl
theorem dX9_sumFor_0 : decode cX9_sumFor 0 = .ok (.iconst 0, 1) := dk_3 (dk_at dksX9_sumFor_0 0 rfl rfl)
theorem dX9_sumFor_1 : decode cX9_sumFor 1 = .ok (.istore_n 2, 1) := dk_61 (dk_at dksX9_sumFor_0 1 rfl rfl)
theorem dX9_sumFor_2 : decode cX9_sumFor 2 = .ok (.iload_n 2, 1) := dk_28 (dk_at dksX9_sumFor_0 2 rfl rfl)
theorem dX9_sumFor_3 : decode cX9_sumFor 3 = .ok (.aload_n 0, 1) := dk_42 (dk_at dksX9_sumFor_0 3 rfl rfl)
theorem dX9_sumFor_4 : decode cX9_sumFor 4 = .ok (.getfield 17, 3) := dk_180 0 17 (dk_at dksX9_sumFor_0 4 rfl rfl)
theorem dX9_sumFor_7 : decode cX9_sumFor 7 = .ok (.if_icmp .ge 36, 3) := dk_162 0 36 (dk_at dksX9_sumFor_0 7 rfl rfl)
theorem dX9_sumFor_10 : decode cX9_sumFor 10 = .ok (.aload_n 0, 1) := dk_42 (dk_at dksX9_sumFor_0 10 rfl rfl)
theorem dX9_sumFor_11 : decode cX9_sumFor 11 = .ok (.getfield 11, 3) := dk_180 0 11 (dk_at dksX9_sumFor_0 11 rfl rfl)
theorem dX9_sumFor_14 : decode cX9_sumFor 14 = .ok (.iload_n 2, 1) := dk_28 (dk_at dksX9_sumFor_0 14 rfl rfl)
theorem dX9_sumFor_15 : decode cX9_sumFor 15 = .ok (.aaload, 1) := dk_50 (dk_at dksX9_sumFor_0 15 rfl rfl)
theorem dX9_sumFor_16 : decode cX9_sumFor 16 = .ok (.aload_n 1, 1) := dk_43 (dk_at dksX9_sumFor_0 16 rfl rfl)
theorem dX9_sumFor_17 : decode cX9_sumFor 17 = .ok (.invokevirtual 21, 3) := dk_182 0 21 (dk_at dksX9_sumFor_0 17 rfl rfl)
theorem dX9_sumFor_20 : decode cX9_sumFor 20 = .ok (.ifCond .eq 17, 3) := dk_153 0 17 (dk_at dksX9_sumFor_0 20 rfl rfl)
theorem dX9_sumFor_23 : decode cX9_sumFor 23 = .ok (.aload_n 0, 1) := dk_42 (dk_at dksX9_sumFor_0 23 rfl rfl)
theorem dX9_sumFor_24 : decode cX9_sumFor 24 = .ok (.getfield 11, 3) := dk_180 0 11 (dk_at dksX9_sumFor_1 0 rfl rfl)
theorem dX9_sumFor_27 : decode cX9_sumFor 27 = .ok (.iload_n 2, 1) := dk_28 (dk_at dksX9_sumFor_1 3 rfl rfl)
theorem dX9_sumFor_28 : decode cX9_sumFor 28 = .ok (.aaload, 1) := dk_50 (dk_at dksX9_sumFor_1 4 rfl rfl)
theorem dX9_sumFor_29 : decode cX9_sumFor 29 = .ok (.getfield 25, 3) := dk_180 0 25 (dk_at dksX9_sumFor_1 5 rfl rfl)
theorem dX9_sumFor_32 : decode cX9_sumFor 32 = .ok (.aload_n 1, 1) := dk_43 (dk_at dksX9_sumFor_1 8 rfl rfl)
theorem dX9_sumFor_33 : decode cX9_sumFor 33 = .ok (.invokevirtual 29, 3) := dk_182 0 29 (dk_at dksX9_sumFor_1 9 rfl rfl)
theorem dX9_sumFor_36 : decode cX9_sumFor 36 = .ok (.lreturn, 1) := dk_173 (dk_at dksX9_sumFor_1 12 rfl rfl)
theorem dX9_sumFor_37 : decode cX9_sumFor 37 = .ok (.iinc 2 1, 3) := dk_132 2 1 (dk_at dksX9_sumFor_1 13 rfl rfl)
theorem dX9_sumFor_40 : decode cX9_sumFor 40 = .ok (.goto (-38), 3) := dk_167 255 218 (dk_at dksX9_sumFor_1 16 rfl rfl)
theorem dX9_sumFor_43 : decode cX9_sumFor 43 = .ok (.lconst 0, 1) := dk_9 (dk_at dksX9_sumFor_1 19 rfl rfl)
theorem dX9_sumFor_44 : decode cX9_sumFor 44 = .ok (.lreturn, 1) := dk_173 (dk_at dksX9_sumFor_1 20 rfl rfl)
theorem q174 : (Jvm.Cond.initialized "TruthBridge$Rule") ∈ lw_all := lw_g (lw_at lw_m1 19 rfl) rfl
theorem q802 : (Jvm.Cond.instantiable "TruthBridge$Rule" (2 : Nat)) ∈ lw_all := lw_g (lw_at lw_m3 167 rfl) rfl
theorem q804 : (Jvm.Cond.instanceMethod ({ cls := "TruthBridge$Rule", name := "<init>", desc := "()V" } : Jvm.MethodName)) ∈ lw_all := lw_g (lw_at lw_m3 169 rfl) rfl
theorem q805 : (Jvm.Cond.code ({ cls := "TruthBridge$Rule", name := "<init>", desc := "()V" } : Jvm.MethodName) prog_14_method_1_code (1 : Nat) (Option.none : Option Jvm.ClassFile.FieldType)) ∈ lw_all := lw_g (lw_at lw_m3 170 rfl) rfl
theorem q806 : (Jvm.Cond.methodLink "TruthBridge$Rule" (3 : Nat) ({ cls := "java/lang/Object", name := "<init>", desc := "()V" } : Jvm.MethodName)) ∈ lw_all := lw_g (lw_at lw_m3 171 rfl) rfl
theorem q807 : (Jvm.Cond.classLink "TruthBridge$Rule" (9 : Nat) "TruthBridge$Clause") ∈ lw_all := lw_g (lw_at lw_m3 172 rfl) rfl
theorem q809 : (Jvm.Cond.fieldLink "TruthBridge$Rule" (11 : Nat) "TruthBridge$Rule" "clauses" "[LTruthBridge$Clause;") ∈ lw_all := lw_g (lw_at lw_m3 174 rfl) rfl
theorem q811 : (Jvm.Cond.fieldLink "TruthBridge$Rule" (17 : Nat) "TruthBridge$Rule" "many" "I") ∈ lw_all := lw_g (lw_at lw_m3 176 rfl) rfl
theorem q813 : (Jvm.Cond.laysFinal "TruthBridge$Rule" "TruthBridge$Rule" "clauses" "[LTruthBridge$Clause;") ∈ lw_all := lw_g (lw_at lw_m3 178 rfl) rfl
theorem q814 : (Jvm.Cond.soleField "TruthBridge$Rule" "clauses") ∈ lw_all := lw_g (lw_at lw_m3 179 rfl) rfl
theorem q815 : (Jvm.Cond.lays "TruthBridge$Rule" "TruthBridge$Rule" "many" "I") ∈ lw_all := lw_g (lw_at lw_m3 180 rfl) rfl
theorem q816 : (Jvm.Cond.soleField "TruthBridge$Rule" "many") ∈ lw_all := lw_g (lw_at lw_m3 181 rfl) rfl
theorem q817 : (Jvm.Cond.superclass "TruthBridge$Rule" "java/lang/Object") ∈ lw_all := lw_g (lw_at lw_m3 182 rfl) rfl
theorem q828 : (Jvm.Cond.fieldLinkNest "TruthBridge$Rule" (25 : Nat) "TruthBridge$Clause" "sum" "LTruthBridge$Value;" "TruthBridge") ∈ lw_tbl := lw_at lw_m3 193 rfl
theorem q1129 : (Jvm.Cond.instanceMethod ({ cls := "TruthBridge$Rule", name := "sumFor", desc := "([J)J" } : Jvm.MethodName)) ∈ lw_all := lw_g (lw_at lw_m5 14 rfl) rfl
theorem q1130 : (Jvm.Cond.selects "TruthBridge$Rule" ({ cls := "TruthBridge$Rule", name := "sumFor", desc := "([J)J" } : Jvm.MethodName) ({ cls := "TruthBridge$Rule", name := "sumFor", desc := "([J)J" } : Jvm.MethodName)) ∈ lw_all := lw_g (lw_at lw_m5 15 rfl) rfl
theorem q1131 : (Jvm.Cond.code ({ cls := "TruthBridge$Rule", name := "sumFor", desc := "([J)J" } : Jvm.MethodName) prog_14_method_2_code (3 : Nat) (Option.some Jvm.ClassFile.FieldType.long)) ∈ lw_all := lw_g (lw_at lw_m5 16 rfl) rfl
theorem q1132 : (Jvm.Cond.methodLink "TruthBridge$Rule" (21 : Nat) ({ cls := "TruthBridge$Clause", name := "fits", desc := "([J)Z" } : Jvm.MethodName)) ∈ lw_all := lw_g (lw_at lw_m5 17 rfl) rfl
theorem q1163 : (Jvm.Cond.methodLink "TruthBridge$Rule" (29 : Nat) ({ cls := "TruthBridge$Value", name := "of", desc := "([J)J" } : Jvm.MethodName)) ∈ lw_all := lw_g (lw_at lw_m5 48 rfl) rfl
theorem in_X9 : ∀ w ∈ wsX90, w ∈ lw_all := lw_in wsX90 [813, 815] (by decide +kernel) (by decide +kernel)
/-! TruthBridge$Clause -/
set_option maxRecDepth 100000
def RX10 : String := "TruthBridge$Clause"
def TX10 : u_T := fun k => match k with
  | 0 => ("TruthBridge$Clause", "sum", "LTruthBridge$Value;", false)
  | _ => ("TruthBridge$Clause", "test", "LTruthBridge$Test;", false)
def tyX10 : Nat → FieldType := fun k => match k with
  | 0 => .object "TruthBridge$Value"
  | _ => .object "TruthBridge$Test"
abbrev wsX100 : List Cond := u_ws RX10 TX10 2
theorem nmX10 : ∀ a, a < 2 → ∀ b, b < 2 → a ≠ b → (TX10 a).2.1 ≠ (TX10 b).2.1 := by decide +kernel
theorem tyX10_ok : ∀ k, k < 2 → parseFieldDescriptor (TX10 k).2.2.1 = some (tyX10 k) := by decide +kernel
abbrev cX10_init : ByteArray := prog_3_method_1_code
def yX10_init : MethodName := ⟨RX10, "<init>", "()V"⟩
theorem dX10_init_0 : decode cX10_init 0 = .ok (.aload_n 0, 1) := by decide +kernel
theorem dX10_init_1 : decode cX10_init 1 = .ok (.invokespecial 1, 3) := by decide +kernel
theorem dX10_init_4 : decode cX10_init 4 = .ok (.return_, 1) := by decide +kernel
abbrev cX10_fits : ByteArray := prog_3_method_2_code
def yX10_fits : MethodName := ⟨RX10, "fits", "([J)Z"⟩
def dkwX10_fits_0 : List UInt8 := [42, 180, 0, 7, 198, 0, 14, 42, 180, 0, 7, 43, 182, 0, 13, 153, 0, 7, 4, 167, 0, 4, 3, 172]
abbrev dktX10_fits_0 : List UInt8 := dkwX10_fits_0 ++ []
theorem dksX10_fits_0 : cX10_fits.data.toList.drop 0 = dktX10_fits_0 := by decide +kernel
theorem dX10_fits_0 : decode cX10_fits 0 = .ok (.aload_n 0, 1) := dk_42 (dk_at dksX10_fits_0 0 rfl rfl)
theorem dX10_fits_1 : decode cX10_fits 1 = .ok (.getfield 7, 3) := dk_180 0 7 (dk_at dksX10_fits_0 1 rfl rfl)
theorem dX10_fits_4 : decode cX10_fits 4 = .ok (.ifnull 14, 3) := dk_198 0 14 (dk_at dksX10_fits_0 4 rfl rfl)
theorem dX10_fits_7 : decode cX10_fits 7 = .ok (.aload_n 0, 1) := dk_42 (dk_at dksX10_fits_0 7 rfl rfl)
theorem dX10_fits_8 : decode cX10_fits 8 = .ok (.getfield 7, 3) := dk_180 0 7 (dk_at dksX10_fits_0 8 rfl rfl)
theorem dX10_fits_11 : decode cX10_fits 11 = .ok (.aload_n 1, 1) := dk_43 (dk_at dksX10_fits_0 11 rfl rfl)
theorem dX10_fits_12 : decode cX10_fits 12 = .ok (.invokevirtual 13, 3) := dk_182 0 13 (dk_at dksX10_fits_0 12 rfl rfl)
theorem dX10_fits_15 : decode cX10_fits 15 = .ok (.ifCond .eq 7, 3) := dk_153 0 7 (dk_at dksX10_fits_0 15 rfl rfl)
theorem dX10_fits_18 : decode cX10_fits 18 = .ok (.iconst 1, 1) := dk_4 (dk_at dksX10_fits_0 18 rfl rfl)
theorem dX10_fits_19 : decode cX10_fits 19 = .ok (.goto 4, 3) := dk_167 0 4 (dk_at dksX10_fits_0 19 rfl rfl)
theorem dX10_fits_22 : decode cX10_fits 22 = .ok (.iconst 0, 1) := dk_3 (dk_at dksX10_fits_0 22 rfl rfl)
theorem dX10_fits_23 : decode cX10_fits 23 = .ok (.ireturn, 1) := dk_172 (dk_at dksX10_fits_0 23 rfl rfl)
theorem q175 : (Jvm.Cond.initialized "TruthBridge$Clause") ∈ lw_all := lw_g (lw_at lw_m1 20 rfl) rfl
theorem q823 : (Jvm.Cond.instantiable "TruthBridge$Clause" (2 : Nat)) ∈ lw_all := lw_g (lw_at lw_m3 188 rfl) rfl
theorem q825 : (Jvm.Cond.instanceMethod ({ cls := "TruthBridge$Clause", name := "<init>", desc := "()V" } : Jvm.MethodName)) ∈ lw_all := lw_g (lw_at lw_m3 190 rfl) rfl
theorem q826 : (Jvm.Cond.code ({ cls := "TruthBridge$Clause", name := "<init>", desc := "()V" } : Jvm.MethodName) prog_3_method_1_code (1 : Nat) (Option.none : Option Jvm.ClassFile.FieldType)) ∈ lw_all := lw_g (lw_at lw_m3 191 rfl) rfl
theorem q827 : (Jvm.Cond.methodLink "TruthBridge$Clause" (1 : Nat) ({ cls := "java/lang/Object", name := "<init>", desc := "()V" } : Jvm.MethodName)) ∈ lw_all := lw_g (lw_at lw_m3 192 rfl) rfl
theorem q830 : (Jvm.Cond.fieldLink "TruthBridge$Clause" (7 : Nat) "TruthBridge$Clause" "test" "LTruthBridge$Test;") ∈ lw_all := lw_g (lw_at lw_m3 195 rfl) rfl
theorem q832 : (Jvm.Cond.lays "TruthBridge$Clause" "TruthBridge$Clause" "sum" "LTruthBridge$Value;") ∈ lw_all := lw_g (lw_at lw_m3 197 rfl) rfl
theorem q833 : (Jvm.Cond.soleField "TruthBridge$Clause" "sum") ∈ lw_all := lw_g (lw_at lw_m3 198 rfl) rfl
theorem q834 : (Jvm.Cond.lays "TruthBridge$Clause" "TruthBridge$Clause" "test" "LTruthBridge$Test;") ∈ lw_all := lw_g (lw_at lw_m3 199 rfl) rfl
theorem q835 : (Jvm.Cond.soleField "TruthBridge$Clause" "test") ∈ lw_all := lw_g (lw_at lw_m3 200 rfl) rfl
theorem q836 : (Jvm.Cond.superclass "TruthBridge$Clause" "java/lang/Object") ∈ lw_all := lw_g (lw_at lw_m3 201 rfl) rfl
theorem q1133 : (Jvm.Cond.instanceMethod ({ cls := "TruthBridge$Clause", name := "fits", desc := "([J)Z" } : Jvm.MethodName)) ∈ lw_all := lw_g (lw_at lw_m5 18 rfl) rfl
theorem q1134 : (Jvm.Cond.selects "TruthBridge$Clause" ({ cls := "TruthBridge$Clause", name := "fits", desc := "([J)Z" } : Jvm.MethodName) ({ cls := "TruthBridge$Clause", name := "fits", desc := "([J)Z" } : Jvm.MethodName)) ∈ lw_all := lw_g (lw_at lw_m5 19 rfl) rfl
theorem q1135 : (Jvm.Cond.code ({ cls := "TruthBridge$Clause", name := "fits", desc := "([J)Z" } : Jvm.MethodName) prog_3_method_2_code (2 : Nat) (Option.some Jvm.ClassFile.FieldType.boolean)) ∈ lw_all := lw_g (lw_at lw_m5 20 rfl) rfl
theorem q1136 : (Jvm.Cond.methodLink "TruthBridge$Clause" (13 : Nat) ({ cls := "TruthBridge$Test", name := "is", desc := "([J)Z" } : Jvm.MethodName)) ∈ lw_all := lw_g (lw_at lw_m5 21 rfl) rfl
theorem in_X10 : ∀ w ∈ wsX100, w ∈ lw_all := lw_in wsX100 [832, 834] (by decide +kernel) (by decide +kernel)
/-! TruthBridge$Value -/
set_option maxRecDepth 100000
def RX11 : String := "TruthBridge$Value"
abbrev cX11_init : ByteArray := prog_18_method_1_code
def yX11_init : MethodName := ⟨RX11, "<init>", "()V"⟩
theorem dX11_init_0 : decode cX11_init 0 = .ok (.aload_n 0, 1) := by decide +kernel
theorem dX11_init_1 : decode cX11_init 1 = .ok (.invokespecial 1, 3) := by decide +kernel
theorem dX11_init_4 : decode cX11_init 4 = .ok (.return_, 1) := by decide +kernel
theorem q176 : (Jvm.Cond.initialized "TruthBridge$Value") ∈ lw_all := lw_g (lw_at lw_m1 21 rfl) rfl
theorem q860 : (Jvm.Cond.instanceMethod ({ cls := "TruthBridge$Value", name := "<init>", desc := "()V" } : Jvm.MethodName)) ∈ lw_all := lw_g (lw_at lw_m3 225 rfl) rfl
theorem q861 : (Jvm.Cond.code ({ cls := "TruthBridge$Value", name := "<init>", desc := "()V" } : Jvm.MethodName) prog_18_method_1_code (1 : Nat) (Option.none : Option Jvm.ClassFile.FieldType)) ∈ lw_all := lw_g (lw_at lw_m3 226 rfl) rfl
theorem q862 : (Jvm.Cond.methodLink "TruthBridge$Value" (1 : Nat) ({ cls := "java/lang/Object", name := "<init>", desc := "()V" } : Jvm.MethodName)) ∈ lw_all := lw_g (lw_at lw_m3 227 rfl) rfl
theorem q1146 : (Jvm.Cond.declares ({ cls := "TruthBridge$Value", name := "of", desc := "([J)J" } : Jvm.MethodName)) ∈ lw_tbl := lw_at lw_m5 31 rfl
theorem q1147 : (Jvm.Cond.sameMethod "TruthBridge$Value" "TruthBridge$Value" "of" "([J)J") ∈ lw_all := lw_g (lw_at lw_m5 32 rfl) rfl
/-! TruthBridge$Number -/
set_option maxRecDepth 100000
def RX12 : String := "TruthBridge$Number"
def TX12 : u_T := fun k => match k with
  | _ => ("TruthBridge$Number", "number", "J", true)
def tyX12 : Nat → FieldType := fun k => match k with
  | _ => .long
abbrev wsX120 : List Cond := u_ws RX12 TX12 1
theorem nmX12 : ∀ a, a < 1 → ∀ b, b < 1 → a ≠ b → (TX12 a).2.1 ≠ (TX12 b).2.1 := by decide +kernel
theorem tyX12_ok : ∀ k, k < 1 → parseFieldDescriptor (TX12 k).2.2.1 = some (tyX12 k) := by decide +kernel
abbrev cX12_init : ByteArray := prog_12_method_1_code
def yX12_init : MethodName := ⟨RX12, "<init>", "(J)V"⟩
def dkwX12_init_0 : List UInt8 := [42, 183, 0, 1, 42, 31, 181, 0, 7, 177]
abbrev dktX12_init_0 : List UInt8 := dkwX12_init_0 ++ []
theorem dksX12_init_0 : cX12_init.data.toList.drop 0 = dktX12_init_0 := by decide +kernel
theorem dX12_init_0 : decode cX12_init 0 = .ok (.aload_n 0, 1) := dk_42 (dk_at dksX12_init_0 0 rfl rfl)
theorem dX12_init_1 : decode cX12_init 1 = .ok (.invokespecial 1, 3) := dk_183 0 1 (dk_at dksX12_init_0 1 rfl rfl)
theorem dX12_init_4 : decode cX12_init 4 = .ok (.aload_n 0, 1) := dk_42 (dk_at dksX12_init_0 4 rfl rfl)
theorem dX12_init_5 : decode cX12_init 5 = .ok (.lload_n 1, 1) := dk_31 (dk_at dksX12_init_0 5 rfl rfl)
theorem dX12_init_6 : decode cX12_init 6 = .ok (.putfield 7, 3) := dk_181 0 7 (dk_at dksX12_init_0 6 rfl rfl)
theorem dX12_init_9 : decode cX12_init 9 = .ok (.return_, 1) := dk_177 (dk_at dksX12_init_0 9 rfl rfl)
abbrev cX12_of : ByteArray := prog_12_method_2_code
def yX12_of : MethodName := ⟨RX12, "of", "([J)J"⟩
theorem dX12_of_0 : decode cX12_of 0 = .ok (.aload_n 0, 1) := by decide +kernel
theorem dX12_of_1 : decode cX12_of 1 = .ok (.getfield 7, 3) := by decide +kernel
theorem dX12_of_4 : decode cX12_of 4 = .ok (.lreturn, 1) := by decide +kernel
theorem q177 : (Jvm.Cond.initialized "TruthBridge$Number") ∈ lw_all := lw_g (lw_at lw_m1 22 rfl) rfl
theorem q855 : (Jvm.Cond.instantiable "TruthBridge$Number" (1 : Nat)) ∈ lw_all := lw_g (lw_at lw_m3 220 rfl) rfl
theorem q857 : (Jvm.Cond.instanceMethod ({ cls := "TruthBridge$Number", name := "<init>", desc := "(J)V" } : Jvm.MethodName)) ∈ lw_all := lw_g (lw_at lw_m3 222 rfl) rfl
theorem q858 : (Jvm.Cond.code ({ cls := "TruthBridge$Number", name := "<init>", desc := "(J)V" } : Jvm.MethodName) prog_12_method_1_code (3 : Nat) (Option.none : Option Jvm.ClassFile.FieldType)) ∈ lw_all := lw_g (lw_at lw_m3 223 rfl) rfl
theorem q859 : (Jvm.Cond.methodLinkNest "TruthBridge$Number" (1 : Nat) ({ cls := "TruthBridge$Value", name := "<init>", desc := "()V" } : Jvm.MethodName) "TruthBridge") ∈ lw_tbl := lw_at lw_m3 224 rfl
theorem q863 : (Jvm.Cond.fieldLink "TruthBridge$Number" (7 : Nat) "TruthBridge$Number" "number" "J") ∈ lw_all := lw_g (lw_at lw_m3 228 rfl) rfl
theorem q864 : (Jvm.Cond.laysFinal "TruthBridge$Number" "TruthBridge$Number" "number" "J") ∈ lw_all := lw_g (lw_at lw_m3 229 rfl) rfl
theorem q865 : (Jvm.Cond.soleField "TruthBridge$Number" "number") ∈ lw_all := lw_g (lw_at lw_m3 230 rfl) rfl
theorem q866 : (Jvm.Cond.superclass "TruthBridge$Number" "TruthBridge$Value") ∈ lw_all := lw_g (lw_at lw_m3 231 rfl) rfl
theorem q1148 : (Jvm.Cond.selects "TruthBridge$Number" ({ cls := "TruthBridge$Value", name := "of", desc := "([J)J" } : Jvm.MethodName) ({ cls := "TruthBridge$Number", name := "of", desc := "([J)J" } : Jvm.MethodName)) ∈ lw_all := lw_g (lw_at lw_m5 33 rfl) rfl
theorem q1149 : (Jvm.Cond.instanceMethod ({ cls := "TruthBridge$Number", name := "of", desc := "([J)J" } : Jvm.MethodName)) ∈ lw_all := lw_g (lw_at lw_m5 34 rfl) rfl
theorem q1150 : (Jvm.Cond.code ({ cls := "TruthBridge$Number", name := "of", desc := "([J)J" } : Jvm.MethodName) prog_12_method_2_code (2 : Nat) (Option.some Jvm.ClassFile.FieldType.long)) ∈ lw_all := lw_g (lw_at lw_m5 35 rfl) rfl
theorem in_X12 : ∀ w ∈ wsX120, w ∈ lw_all := lw_in wsX120 [864] (by decide +kernel) (by decide +kernel)
/-! TruthBridge$Word -/
set_option maxRecDepth 100000
def RX13 : String := "TruthBridge$Word"
def TX13 : u_T := fun k => match k with
  | _ => ("TruthBridge$Word", "word", "I", true)
def tyX13 : Nat → FieldType := fun k => match k with
  | _ => .int
abbrev wsX130 : List Cond := u_ws RX13 TX13 1
theorem nmX13 : ∀ a, a < 1 → ∀ b, b < 1 → a ≠ b → (TX13 a).2.1 ≠ (TX13 b).2.1 := by decide +kernel
theorem tyX13_ok : ∀ k, k < 1 → parseFieldDescriptor (TX13 k).2.2.1 = some (tyX13 k) := by decide +kernel
abbrev cX13_init : ByteArray := prog_19_method_1_code
def yX13_init : MethodName := ⟨RX13, "<init>", "(I)V"⟩
def dkwX13_init_0 : List UInt8 := [42, 183, 0, 1, 42, 27, 181, 0, 7, 177]
abbrev dktX13_init_0 : List UInt8 := dkwX13_init_0 ++ []
theorem dksX13_init_0 : cX13_init.data.toList.drop 0 = dktX13_init_0 := by decide +kernel
theorem dX13_init_0 : decode cX13_init 0 = .ok (.aload_n 0, 1) := dk_42 (dk_at dksX13_init_0 0 rfl rfl)
theorem dX13_init_1 : decode cX13_init 1 = .ok (.invokespecial 1, 3) := dk_183 0 1 (dk_at dksX13_init_0 1 rfl rfl)
theorem dX13_init_4 : decode cX13_init 4 = .ok (.aload_n 0, 1) := dk_42 (dk_at dksX13_init_0 4 rfl rfl)
theorem dX13_init_5 : decode cX13_init 5 = .ok (.iload_n 1, 1) := dk_27 (dk_at dksX13_init_0 5 rfl rfl)
theorem dX13_init_6 : decode cX13_init 6 = .ok (.putfield 7, 3) := dk_181 0 7 (dk_at dksX13_init_0 6 rfl rfl)
theorem dX13_init_9 : decode cX13_init 9 = .ok (.return_, 1) := dk_177 (dk_at dksX13_init_0 9 rfl rfl)
abbrev cX13_of : ByteArray := prog_19_method_2_code
def yX13_of : MethodName := ⟨RX13, "of", "([J)J"⟩
def dkwX13_of_0 : List UInt8 := [43, 42, 180, 0, 7, 47, 173]
abbrev dktX13_of_0 : List UInt8 := dkwX13_of_0 ++ []
theorem dksX13_of_0 : cX13_of.data.toList.drop 0 = dktX13_of_0 := by decide +kernel
theorem dX13_of_0 : decode cX13_of 0 = .ok (.aload_n 1, 1) := dk_43 (dk_at dksX13_of_0 0 rfl rfl)
theorem dX13_of_1 : decode cX13_of 1 = .ok (.aload_n 0, 1) := dk_42 (dk_at dksX13_of_0 1 rfl rfl)
theorem dX13_of_2 : decode cX13_of 2 = .ok (.getfield 7, 3) := dk_180 0 7 (dk_at dksX13_of_0 2 rfl rfl)
theorem dX13_of_5 : decode cX13_of 5 = .ok (.laload, 1) := dk_47 (dk_at dksX13_of_0 5 rfl rfl)
theorem dX13_of_6 : decode cX13_of 6 = .ok (.lreturn, 1) := dk_173 (dk_at dksX13_of_0 6 rfl rfl)
theorem q178 : (Jvm.Cond.initialized "TruthBridge$Word") ∈ lw_all := lw_g (lw_at lw_m1 23 rfl) rfl
theorem q868 : (Jvm.Cond.instantiable "TruthBridge$Word" (1 : Nat)) ∈ lw_all := lw_g (lw_at lw_m3 233 rfl) rfl
theorem q870 : (Jvm.Cond.instanceMethod ({ cls := "TruthBridge$Word", name := "<init>", desc := "(I)V" } : Jvm.MethodName)) ∈ lw_all := lw_g (lw_at lw_m3 235 rfl) rfl
theorem q871 : (Jvm.Cond.code ({ cls := "TruthBridge$Word", name := "<init>", desc := "(I)V" } : Jvm.MethodName) prog_19_method_1_code (2 : Nat) (Option.none : Option Jvm.ClassFile.FieldType)) ∈ lw_all := lw_g (lw_at lw_m3 236 rfl) rfl
theorem q872 : (Jvm.Cond.methodLinkNest "TruthBridge$Word" (1 : Nat) ({ cls := "TruthBridge$Value", name := "<init>", desc := "()V" } : Jvm.MethodName) "TruthBridge") ∈ lw_tbl := lw_at lw_m3 237 rfl
theorem q873 : (Jvm.Cond.fieldLink "TruthBridge$Word" (7 : Nat) "TruthBridge$Word" "word" "I") ∈ lw_all := lw_g (lw_at lw_m3 238 rfl) rfl
theorem q874 : (Jvm.Cond.laysFinal "TruthBridge$Word" "TruthBridge$Word" "word" "I") ∈ lw_all := lw_g (lw_at lw_m3 239 rfl) rfl
theorem q875 : (Jvm.Cond.soleField "TruthBridge$Word" "word") ∈ lw_all := lw_g (lw_at lw_m4 0 rfl) rfl
theorem q876 : (Jvm.Cond.superclass "TruthBridge$Word" "TruthBridge$Value") ∈ lw_all := lw_g (lw_at lw_m4 1 rfl) rfl
theorem q1155 : (Jvm.Cond.instanceMethod ({ cls := "TruthBridge$Word", name := "of", desc := "([J)J" } : Jvm.MethodName)) ∈ lw_all := lw_g (lw_at lw_m5 40 rfl) rfl
theorem q1156 : (Jvm.Cond.code ({ cls := "TruthBridge$Word", name := "of", desc := "([J)J" } : Jvm.MethodName) prog_19_method_2_code (2 : Nat) (Option.some Jvm.ClassFile.FieldType.long)) ∈ lw_all := lw_g (lw_at lw_m5 41 rfl) rfl
theorem q1157 : (Jvm.Cond.selects "TruthBridge$Word" ({ cls := "TruthBridge$Value", name := "of", desc := "([J)J" } : Jvm.MethodName) ({ cls := "TruthBridge$Word", name := "of", desc := "([J)J" } : Jvm.MethodName)) ∈ lw_all := lw_g (lw_at lw_m5 42 rfl) rfl
theorem in_X13 : ∀ w ∈ wsX130, w ∈ lw_all := lw_in wsX130 [874] (by decide +kernel) (by decide +kernel)
/-! TruthBridge$Pair -/
set_option maxRecDepth 100000
def RX14 : String := "TruthBridge$Pair"
def TX14 : u_T := fun k => match k with
  | 0 => ("TruthBridge$Pair", "first", "LTruthBridge$Value;", true)
  | 1 => ("TruthBridge$Pair", "second", "LTruthBridge$Value;", true)
  | _ => ("TruthBridge$Pair", "sign", "I", true)
def tyX14 : Nat → FieldType := fun k => match k with
  | 0 => .object "TruthBridge$Value"
  | 1 => .object "TruthBridge$Value"
  | _ => .int
abbrev wsX140 : List Cond := u_ws RX14 TX14 3
theorem nmX14 : ∀ a, a < 3 → ∀ b, b < 3 → a ≠ b → (TX14 a).2.1 ≠ (TX14 b).2.1 := by decide +kernel
theorem tyX14_ok : ∀ k, k < 3 → parseFieldDescriptor (TX14 k).2.2.1 = some (tyX14 k) := by decide +kernel
abbrev cX14_init : ByteArray := prog_13_method_1_code
def yX14_init : MethodName := ⟨RX14, "<init>", "(LTruthBridge$Value;ILTruthBridge$Value;)V"⟩
def dkwX14_init_0 : List UInt8 := [42, 183, 0, 1, 42, 43, 181, 0, 7, 42, 28, 181, 0, 13, 42, 45, 181, 0, 17, 177]
abbrev dktX14_init_0 : List UInt8 := dkwX14_init_0 ++ []
theorem dksX14_init_0 : cX14_init.data.toList.drop 0 = dktX14_init_0 := by decide +kernel
theorem dX14_init_0 : decode cX14_init 0 = .ok (.aload_n 0, 1) := dk_42 (dk_at dksX14_init_0 0 rfl rfl)
theorem dX14_init_1 : decode cX14_init 1 = .ok (.invokespecial 1, 3) := dk_183 0 1 (dk_at dksX14_init_0 1 rfl rfl)
theorem dX14_init_4 : decode cX14_init 4 = .ok (.aload_n 0, 1) := dk_42 (dk_at dksX14_init_0 4 rfl rfl)
theorem dX14_init_5 : decode cX14_init 5 = .ok (.aload_n 1, 1) := dk_43 (dk_at dksX14_init_0 5 rfl rfl)
theorem dX14_init_6 : decode cX14_init 6 = .ok (.putfield 7, 3) := dk_181 0 7 (dk_at dksX14_init_0 6 rfl rfl)
theorem dX14_init_9 : decode cX14_init 9 = .ok (.aload_n 0, 1) := dk_42 (dk_at dksX14_init_0 9 rfl rfl)
theorem dX14_init_10 : decode cX14_init 10 = .ok (.iload_n 2, 1) := dk_28 (dk_at dksX14_init_0 10 rfl rfl)
theorem dX14_init_11 : decode cX14_init 11 = .ok (.putfield 13, 3) := dk_181 0 13 (dk_at dksX14_init_0 11 rfl rfl)
theorem dX14_init_14 : decode cX14_init 14 = .ok (.aload_n 0, 1) := dk_42 (dk_at dksX14_init_0 14 rfl rfl)
theorem dX14_init_15 : decode cX14_init 15 = .ok (.aload_n 3, 1) := dk_45 (dk_at dksX14_init_0 15 rfl rfl)
theorem dX14_init_16 : decode cX14_init 16 = .ok (.putfield 17, 3) := dk_181 0 17 (dk_at dksX14_init_0 16 rfl rfl)
theorem dX14_init_19 : decode cX14_init 19 = .ok (.return_, 1) := dk_177 (dk_at dksX14_init_0 19 rfl rfl)
abbrev cX14_of : ByteArray := prog_13_method_2_code
def yX14_of : MethodName := ⟨RX14, "of", "([J)J"⟩
def dkwX14_of_3 : List UInt8 := [167, 0, 7, 32, 22, 4, 113, 173, 22, 4, 9, 148, 154, 0, 7, 9, 167, 0, 7, 32, 22, 4, 109, 173]
abbrev dktX14_of_3 : List UInt8 := dkwX14_of_3 ++ []
def dkwX14_of_2 : List UInt8 := [32, 22, 4, 97, 173, 32, 22, 4, 101, 173, 32, 22, 4, 105, 173, 22, 4, 9, 148, 154, 0, 7, 9]
abbrev dktX14_of_2 : List UInt8 := dkwX14_of_2 ++ dktX14_of_3
def dkwX14_of_1 : List UInt8 := [170, 0, 0, 0, 80, 0, 0, 0, 37, 0, 0, 0, 45, 0, 0, 0, 64, 0, 0, 0, 80, 0, 0, 0, 80, 0, 0, 0, 80, 0, 0, 0, 80, 0, 0, 0, 59, 0, 0, 0, 49, 0, 0, 0, 80, 0, 0, 0, 54]
abbrev dktX14_of_1 : List UInt8 := dkwX14_of_1 ++ dktX14_of_2
def dkwX14_of_0 : List UInt8 := [42, 180, 0, 7, 43, 182, 0, 20, 65, 42, 180, 0, 17, 43, 182, 0, 20, 55, 4, 42, 180, 0, 13]
abbrev dktX14_of_0 : List UInt8 := dkwX14_of_0 ++ dktX14_of_1
theorem dksX14_of_0 : cX14_of.data.toList.drop 0 = dktX14_of_0 := by decide +kernel
theorem dksX14_of_1 : cX14_of.data.toList.drop 23 = dktX14_of_1 := dk_seg dksX14_of_0 23 rfl rfl
theorem dksX14_of_2 : cX14_of.data.toList.drop 72 = dktX14_of_2 := dk_seg dksX14_of_1 49 rfl rfl
theorem dksX14_of_3 : cX14_of.data.toList.drop 95 = dktX14_of_3 := dk_seg dksX14_of_2 23 rfl rfl
theorem dX14_of_0 : decode cX14_of 0 = .ok (.aload_n 0, 1) := dk_42 (dk_at dksX14_of_0 0 rfl rfl)
theorem dX14_of_1 : decode cX14_of 1 = .ok (.getfield 7, 3) := dk_180 0 7 (dk_at dksX14_of_0 1 rfl rfl)
theorem dX14_of_4 : decode cX14_of 4 = .ok (.aload_n 1, 1) := dk_43 (dk_at dksX14_of_0 4 rfl rfl)
theorem dX14_of_5 : decode cX14_of 5 = .ok (.invokevirtual 20, 3) := dk_182 0 20 (dk_at dksX14_of_0 5 rfl rfl)
theorem dX14_of_8 : decode cX14_of 8 = .ok (.lstore_n 2, 1) := dk_65 (dk_at dksX14_of_0 8 rfl rfl)
theorem dX14_of_9 : decode cX14_of 9 = .ok (.aload_n 0, 1) := dk_42 (dk_at dksX14_of_0 9 rfl rfl)
theorem dX14_of_10 : decode cX14_of 10 = .ok (.getfield 17, 3) := dk_180 0 17 (dk_at dksX14_of_0 10 rfl rfl)
theorem dX14_of_13 : decode cX14_of 13 = .ok (.aload_n 1, 1) := dk_43 (dk_at dksX14_of_0 13 rfl rfl)
theorem dX14_of_14 : decode cX14_of 14 = .ok (.invokevirtual 20, 3) := dk_182 0 20 (dk_at dksX14_of_0 14 rfl rfl)
theorem dX14_of_17 : decode cX14_of 17 = .ok (.lstore 4, 2) := dk_55 4 (dk_at dksX14_of_0 17 rfl rfl)
theorem dX14_of_19 : decode cX14_of 19 = .ok (.aload_n 0, 1) := dk_42 (dk_at dksX14_of_0 19 rfl rfl)
theorem dX14_of_20 : decode cX14_of 20 = .ok (.getfield 13, 3) := dk_180 0 13 (dk_at dksX14_of_0 20 rfl rfl)
theorem dX14_of_23 : decode cX14_of 23 = .ok (.tableswitch 80 37 45 #[64, 80, 80, 80, 80, 59, 49, 80, 54], 49) := by decide +kernel
theorem dX14_of_72 : decode cX14_of 72 = .ok (.lload_n 2, 1) := dk_32 (dk_at dksX14_of_2 0 rfl rfl)
theorem dX14_of_73 : decode cX14_of 73 = .ok (.lload 4, 2) := dk_22 4 (dk_at dksX14_of_2 1 rfl rfl)
theorem dX14_of_75 : decode cX14_of 75 = .ok (.ladd, 1) := dk_97 (dk_at dksX14_of_2 3 rfl rfl)
theorem dX14_of_76 : decode cX14_of 76 = .ok (.lreturn, 1) := dk_173 (dk_at dksX14_of_2 4 rfl rfl)
theorem dX14_of_77 : decode cX14_of 77 = .ok (.lload_n 2, 1) := dk_32 (dk_at dksX14_of_2 5 rfl rfl)
theorem dX14_of_78 : decode cX14_of 78 = .ok (.lload 4, 2) := dk_22 4 (dk_at dksX14_of_2 6 rfl rfl)
theorem dX14_of_80 : decode cX14_of 80 = .ok (.lsub, 1) := dk_101 (dk_at dksX14_of_2 8 rfl rfl)
theorem dX14_of_81 : decode cX14_of 81 = .ok (.lreturn, 1) := dk_173 (dk_at dksX14_of_2 9 rfl rfl)
theorem dX14_of_82 : decode cX14_of 82 = .ok (.lload_n 2, 1) := dk_32 (dk_at dksX14_of_2 10 rfl rfl)
theorem dX14_of_83 : decode cX14_of 83 = .ok (.lload 4, 2) := dk_22 4 (dk_at dksX14_of_2 11 rfl rfl)
theorem dX14_of_85 : decode cX14_of 85 = .ok (.lmul, 1) := dk_105 (dk_at dksX14_of_2 13 rfl rfl)
theorem dX14_of_86 : decode cX14_of 86 = .ok (.lreturn, 1) := dk_173 (dk_at dksX14_of_2 14 rfl rfl)
theorem dX14_of_87 : decode cX14_of 87 = .ok (.lload 4, 2) := dk_22 4 (dk_at dksX14_of_2 15 rfl rfl)
theorem dX14_of_89 : decode cX14_of 89 = .ok (.lconst 0, 1) := dk_9 (dk_at dksX14_of_2 17 rfl rfl)
theorem dX14_of_90 : decode cX14_of 90 = .ok (.lcmp, 1) := dk_148 (dk_at dksX14_of_2 18 rfl rfl)
theorem dX14_of_91 : decode cX14_of 91 = .ok (.ifCond .ne 7, 3) := dk_154 0 7 (dk_at dksX14_of_2 19 rfl rfl)
theorem dX14_of_94 : decode cX14_of 94 = .ok (.lconst 0, 1) := dk_9 (dk_at dksX14_of_2 22 rfl rfl)
theorem dX14_of_95 : decode cX14_of 95 = .ok (.goto 7, 3) := dk_167 0 7 (dk_at dksX14_of_3 0 rfl rfl)
theorem dX14_of_98 : decode cX14_of 98 = .ok (.lload_n 2, 1) := dk_32 (dk_at dksX14_of_3 3 rfl rfl)
theorem dX14_of_99 : decode cX14_of 99 = .ok (.lload 4, 2) := dk_22 4 (dk_at dksX14_of_3 4 rfl rfl)
theorem dX14_of_101 : decode cX14_of 101 = .ok (.lrem, 1) := dk_113 (dk_at dksX14_of_3 6 rfl rfl)
theorem dX14_of_102 : decode cX14_of 102 = .ok (.lreturn, 1) := dk_173 (dk_at dksX14_of_3 7 rfl rfl)
theorem dX14_of_103 : decode cX14_of 103 = .ok (.lload 4, 2) := dk_22 4 (dk_at dksX14_of_3 8 rfl rfl)
theorem dX14_of_105 : decode cX14_of 105 = .ok (.lconst 0, 1) := dk_9 (dk_at dksX14_of_3 10 rfl rfl)
theorem dX14_of_106 : decode cX14_of 106 = .ok (.lcmp, 1) := dk_148 (dk_at dksX14_of_3 11 rfl rfl)
theorem dX14_of_107 : decode cX14_of 107 = .ok (.ifCond .ne 7, 3) := dk_154 0 7 (dk_at dksX14_of_3 12 rfl rfl)
theorem dX14_of_110 : decode cX14_of 110 = .ok (.lconst 0, 1) := dk_9 (dk_at dksX14_of_3 15 rfl rfl)
theorem dX14_of_111 : decode cX14_of 111 = .ok (.goto 7, 3) := dk_167 0 7 (dk_at dksX14_of_3 16 rfl rfl)
theorem dX14_of_114 : decode cX14_of 114 = .ok (.lload_n 2, 1) := dk_32 (dk_at dksX14_of_3 19 rfl rfl)
theorem dX14_of_115 : decode cX14_of 115 = .ok (.lload 4, 2) := dk_22 4 (dk_at dksX14_of_3 20 rfl rfl)
theorem dX14_of_117 : decode cX14_of 117 = .ok (.ldiv, 1) := dk_109 (dk_at dksX14_of_3 22 rfl rfl)
theorem dX14_of_118 : decode cX14_of 118 = .ok (.lreturn, 1) := dk_173 (dk_at dksX14_of_3 23 rfl rfl)
theorem q179 : (Jvm.Cond.initialized "TruthBridge$Pair") ∈ lw_all := lw_g (lw_at lw_m1 24 rfl) rfl
theorem q878 : (Jvm.Cond.instantiable "TruthBridge$Pair" (3 : Nat)) ∈ lw_all := lw_g (lw_at lw_m4 3 rfl) rfl
theorem q880 : (Jvm.Cond.instanceMethod ({ cls := "TruthBridge$Pair", name := "<init>", desc := "(LTruthBridge$Value;ILTruthBridge$Value;)V" } : Jvm.MethodName)) ∈ lw_all := lw_g (lw_at lw_m4 5 rfl) rfl
theorem q881 : (Jvm.Cond.code ({ cls := "TruthBridge$Pair", name := "<init>", desc := "(LTruthBridge$Value;ILTruthBridge$Value;)V" } : Jvm.MethodName) prog_13_method_1_code (4 : Nat) (Option.none : Option Jvm.ClassFile.FieldType)) ∈ lw_all := lw_g (lw_at lw_m4 6 rfl) rfl
theorem q882 : (Jvm.Cond.methodLinkNest "TruthBridge$Pair" (1 : Nat) ({ cls := "TruthBridge$Value", name := "<init>", desc := "()V" } : Jvm.MethodName) "TruthBridge") ∈ lw_tbl := lw_at lw_m4 7 rfl
theorem q883 : (Jvm.Cond.fieldLink "TruthBridge$Pair" (7 : Nat) "TruthBridge$Pair" "first" "LTruthBridge$Value;") ∈ lw_all := lw_g (lw_at lw_m4 8 rfl) rfl
theorem q884 : (Jvm.Cond.fieldLink "TruthBridge$Pair" (17 : Nat) "TruthBridge$Pair" "second" "LTruthBridge$Value;") ∈ lw_all := lw_g (lw_at lw_m4 9 rfl) rfl
theorem q885 : (Jvm.Cond.fieldLink "TruthBridge$Pair" (13 : Nat) "TruthBridge$Pair" "sign" "I") ∈ lw_all := lw_g (lw_at lw_m4 10 rfl) rfl
theorem q886 : (Jvm.Cond.laysFinal "TruthBridge$Pair" "TruthBridge$Pair" "first" "LTruthBridge$Value;") ∈ lw_all := lw_g (lw_at lw_m4 11 rfl) rfl
theorem q887 : (Jvm.Cond.soleField "TruthBridge$Pair" "first") ∈ lw_all := lw_g (lw_at lw_m4 12 rfl) rfl
theorem q888 : (Jvm.Cond.laysFinal "TruthBridge$Pair" "TruthBridge$Pair" "second" "LTruthBridge$Value;") ∈ lw_all := lw_g (lw_at lw_m4 13 rfl) rfl
theorem q889 : (Jvm.Cond.soleField "TruthBridge$Pair" "second") ∈ lw_all := lw_g (lw_at lw_m4 14 rfl) rfl
theorem q890 : (Jvm.Cond.laysFinal "TruthBridge$Pair" "TruthBridge$Pair" "sign" "I") ∈ lw_all := lw_g (lw_at lw_m4 15 rfl) rfl
theorem q891 : (Jvm.Cond.soleField "TruthBridge$Pair" "sign") ∈ lw_all := lw_g (lw_at lw_m4 16 rfl) rfl
theorem q892 : (Jvm.Cond.superclass "TruthBridge$Pair" "TruthBridge$Value") ∈ lw_all := lw_g (lw_at lw_m4 17 rfl) rfl
theorem q1151 : (Jvm.Cond.selects "TruthBridge$Pair" ({ cls := "TruthBridge$Value", name := "of", desc := "([J)J" } : Jvm.MethodName) ({ cls := "TruthBridge$Pair", name := "of", desc := "([J)J" } : Jvm.MethodName)) ∈ lw_all := lw_g (lw_at lw_m5 36 rfl) rfl
theorem q1152 : (Jvm.Cond.instanceMethod ({ cls := "TruthBridge$Pair", name := "of", desc := "([J)J" } : Jvm.MethodName)) ∈ lw_all := lw_g (lw_at lw_m5 37 rfl) rfl
theorem q1153 : (Jvm.Cond.code ({ cls := "TruthBridge$Pair", name := "of", desc := "([J)J" } : Jvm.MethodName) prog_13_method_2_code (6 : Nat) (Option.some Jvm.ClassFile.FieldType.long)) ∈ lw_all := lw_g (lw_at lw_m5 38 rfl) rfl
theorem q1154 : (Jvm.Cond.methodLink "TruthBridge$Pair" (20 : Nat) ({ cls := "TruthBridge$Value", name := "of", desc := "([J)J" } : Jvm.MethodName)) ∈ lw_all := lw_g (lw_at lw_m5 39 rfl) rfl
theorem in_X14 : ∀ w ∈ wsX140, w ∈ lw_all := lw_in wsX140 [886, 888, 890] (by decide +kernel) (by decide +kernel)
/-! TruthBridge$Test -/
set_option maxRecDepth 100000
def RX15 : String := "TruthBridge$Test"
abbrev cX15_init : ByteArray := prog_15_method_1_code
def yX15_init : MethodName := ⟨RX15, "<init>", "()V"⟩
theorem dX15_init_0 : decode cX15_init 0 = .ok (.aload_n 0, 1) := by decide +kernel
theorem dX15_init_1 : decode cX15_init 1 = .ok (.invokespecial 1, 3) := by decide +kernel
theorem dX15_init_4 : decode cX15_init 4 = .ok (.return_, 1) := by decide +kernel
theorem q180 : (Jvm.Cond.initialized "TruthBridge$Test") ∈ lw_all := lw_g (lw_at lw_m1 25 rfl) rfl
theorem q912 : (Jvm.Cond.instanceMethod ({ cls := "TruthBridge$Test", name := "<init>", desc := "()V" } : Jvm.MethodName)) ∈ lw_all := lw_g (lw_at lw_m4 37 rfl) rfl
theorem q913 : (Jvm.Cond.code ({ cls := "TruthBridge$Test", name := "<init>", desc := "()V" } : Jvm.MethodName) prog_15_method_1_code (1 : Nat) (Option.none : Option Jvm.ClassFile.FieldType)) ∈ lw_all := lw_g (lw_at lw_m4 38 rfl) rfl
theorem q914 : (Jvm.Cond.methodLink "TruthBridge$Test" (1 : Nat) ({ cls := "java/lang/Object", name := "<init>", desc := "()V" } : Jvm.MethodName)) ∈ lw_all := lw_g (lw_at lw_m4 39 rfl) rfl
theorem q1137 : (Jvm.Cond.declares ({ cls := "TruthBridge$Test", name := "is", desc := "([J)Z" } : Jvm.MethodName)) ∈ lw_tbl := lw_at lw_m5 22 rfl
theorem q1138 : (Jvm.Cond.sameMethod "TruthBridge$Test" "TruthBridge$Test" "is" "([J)Z") ∈ lw_all := lw_g (lw_at lw_m5 23 rfl) rfl
/-! TruthBridge$Not -/
set_option maxRecDepth 100000
def RX16 : String := "TruthBridge$Not"
def TX16 : u_T := fun k => match k with
  | _ => ("TruthBridge$Not", "test", "LTruthBridge$Test;", true)
def tyX16 : Nat → FieldType := fun k => match k with
  | _ => .object "TruthBridge$Test"
abbrev wsX160 : List Cond := u_ws RX16 TX16 1
theorem nmX16 : ∀ a, a < 1 → ∀ b, b < 1 → a ≠ b → (TX16 a).2.1 ≠ (TX16 b).2.1 := by decide +kernel
theorem tyX16_ok : ∀ k, k < 1 → parseFieldDescriptor (TX16 k).2.2.1 = some (tyX16 k) := by decide +kernel
abbrev cX16_init : ByteArray := prog_11_method_1_code
def yX16_init : MethodName := ⟨RX16, "<init>", "(LTruthBridge$Test;)V"⟩
def dkwX16_init_0 : List UInt8 := [42, 183, 0, 1, 42, 43, 181, 0, 7, 177]
abbrev dktX16_init_0 : List UInt8 := dkwX16_init_0 ++ []
theorem dksX16_init_0 : cX16_init.data.toList.drop 0 = dktX16_init_0 := by decide +kernel
theorem dX16_init_0 : decode cX16_init 0 = .ok (.aload_n 0, 1) := dk_42 (dk_at dksX16_init_0 0 rfl rfl)
theorem dX16_init_1 : decode cX16_init 1 = .ok (.invokespecial 1, 3) := dk_183 0 1 (dk_at dksX16_init_0 1 rfl rfl)
theorem dX16_init_4 : decode cX16_init 4 = .ok (.aload_n 0, 1) := dk_42 (dk_at dksX16_init_0 4 rfl rfl)
theorem dX16_init_5 : decode cX16_init 5 = .ok (.aload_n 1, 1) := dk_43 (dk_at dksX16_init_0 5 rfl rfl)
theorem dX16_init_6 : decode cX16_init 6 = .ok (.putfield 7, 3) := dk_181 0 7 (dk_at dksX16_init_0 6 rfl rfl)
theorem dX16_init_9 : decode cX16_init 9 = .ok (.return_, 1) := dk_177 (dk_at dksX16_init_0 9 rfl rfl)
abbrev cX16_is : ByteArray := prog_11_method_2_code
def yX16_is : MethodName := ⟨RX16, "is", "([J)Z"⟩
def dkwX16_is_0 : List UInt8 := [42, 180, 0, 7, 43, 182, 0, 13, 154, 0, 7, 4, 167, 0, 4, 3, 172]
abbrev dktX16_is_0 : List UInt8 := dkwX16_is_0 ++ []
theorem dksX16_is_0 : cX16_is.data.toList.drop 0 = dktX16_is_0 := by decide +kernel
theorem dX16_is_0 : decode cX16_is 0 = .ok (.aload_n 0, 1) := dk_42 (dk_at dksX16_is_0 0 rfl rfl)
theorem dX16_is_1 : decode cX16_is 1 = .ok (.getfield 7, 3) := dk_180 0 7 (dk_at dksX16_is_0 1 rfl rfl)
theorem dX16_is_4 : decode cX16_is 4 = .ok (.aload_n 1, 1) := dk_43 (dk_at dksX16_is_0 4 rfl rfl)
theorem dX16_is_5 : decode cX16_is 5 = .ok (.invokevirtual 13, 3) := dk_182 0 13 (dk_at dksX16_is_0 5 rfl rfl)
theorem dX16_is_8 : decode cX16_is 8 = .ok (.ifCond .ne 7, 3) := dk_154 0 7 (dk_at dksX16_is_0 8 rfl rfl)
theorem dX16_is_11 : decode cX16_is 11 = .ok (.iconst 1, 1) := dk_4 (dk_at dksX16_is_0 11 rfl rfl)
theorem dX16_is_12 : decode cX16_is 12 = .ok (.goto 4, 3) := dk_167 0 4 (dk_at dksX16_is_0 12 rfl rfl)
theorem dX16_is_15 : decode cX16_is 15 = .ok (.iconst 0, 1) := dk_3 (dk_at dksX16_is_0 15 rfl rfl)
theorem dX16_is_16 : decode cX16_is 16 = .ok (.ireturn, 1) := dk_172 (dk_at dksX16_is_0 16 rfl rfl)
theorem q181 : (Jvm.Cond.initialized "TruthBridge$Not") ∈ lw_all := lw_g (lw_at lw_m1 26 rfl) rfl
theorem q907 : (Jvm.Cond.instantiable "TruthBridge$Not" (1 : Nat)) ∈ lw_all := lw_g (lw_at lw_m4 32 rfl) rfl
theorem q909 : (Jvm.Cond.instanceMethod ({ cls := "TruthBridge$Not", name := "<init>", desc := "(LTruthBridge$Test;)V" } : Jvm.MethodName)) ∈ lw_all := lw_g (lw_at lw_m4 34 rfl) rfl
theorem q910 : (Jvm.Cond.code ({ cls := "TruthBridge$Not", name := "<init>", desc := "(LTruthBridge$Test;)V" } : Jvm.MethodName) prog_11_method_1_code (2 : Nat) (Option.none : Option Jvm.ClassFile.FieldType)) ∈ lw_all := lw_g (lw_at lw_m4 35 rfl) rfl
theorem q911 : (Jvm.Cond.methodLinkNest "TruthBridge$Not" (1 : Nat) ({ cls := "TruthBridge$Test", name := "<init>", desc := "()V" } : Jvm.MethodName) "TruthBridge") ∈ lw_tbl := lw_at lw_m4 36 rfl
theorem q915 : (Jvm.Cond.fieldLink "TruthBridge$Not" (7 : Nat) "TruthBridge$Not" "test" "LTruthBridge$Test;") ∈ lw_all := lw_g (lw_at lw_m4 40 rfl) rfl
theorem q916 : (Jvm.Cond.laysFinal "TruthBridge$Not" "TruthBridge$Not" "test" "LTruthBridge$Test;") ∈ lw_all := lw_g (lw_at lw_m4 41 rfl) rfl
theorem q917 : (Jvm.Cond.soleField "TruthBridge$Not" "test") ∈ lw_all := lw_g (lw_at lw_m4 42 rfl) rfl
theorem q918 : (Jvm.Cond.superclass "TruthBridge$Not" "TruthBridge$Test") ∈ lw_all := lw_g (lw_at lw_m4 43 rfl) rfl
theorem q1158 : (Jvm.Cond.instanceMethod ({ cls := "TruthBridge$Not", name := "is", desc := "([J)Z" } : Jvm.MethodName)) ∈ lw_all := lw_g (lw_at lw_m5 43 rfl) rfl
theorem q1159 : (Jvm.Cond.code ({ cls := "TruthBridge$Not", name := "is", desc := "([J)Z" } : Jvm.MethodName) prog_11_method_2_code (2 : Nat) (Option.some Jvm.ClassFile.FieldType.boolean)) ∈ lw_all := lw_g (lw_at lw_m5 44 rfl) rfl
theorem q1160 : (Jvm.Cond.methodLink "TruthBridge$Not" (13 : Nat) ({ cls := "TruthBridge$Test", name := "is", desc := "([J)Z" } : Jvm.MethodName)) ∈ lw_all := lw_g (lw_at lw_m5 45 rfl) rfl
theorem q1162 : (Jvm.Cond.selects "TruthBridge$Not" ({ cls := "TruthBridge$Test", name := "is", desc := "([J)Z" } : Jvm.MethodName) ({ cls := "TruthBridge$Not", name := "is", desc := "([J)Z" } : Jvm.MethodName)) ∈ lw_all := lw_g (lw_at lw_m5 47 rfl) rfl
theorem in_X16 : ∀ w ∈ wsX160, w ∈ lw_all := lw_in wsX160 [916] (by decide +kernel) (by decide +kernel)
/-! TruthBridge$Compare -/
set_option maxRecDepth 100000
def RX17 : String := "TruthBridge$Compare"
def TX17 : u_T := fun k => match k with
  | 0 => ("TruthBridge$Compare", "first", "LTruthBridge$Value;", true)
  | 1 => ("TruthBridge$Compare", "second", "LTruthBridge$Value;", true)
  | _ => ("TruthBridge$Compare", "sign", "I", true)
def tyX17 : Nat → FieldType := fun k => match k with
  | 0 => .object "TruthBridge$Value"
  | 1 => .object "TruthBridge$Value"
  | _ => .int
abbrev wsX170 : List Cond := u_ws RX17 TX17 3
theorem nmX17 : ∀ a, a < 3 → ∀ b, b < 3 → a ≠ b → (TX17 a).2.1 ≠ (TX17 b).2.1 := by decide +kernel
theorem tyX17_ok : ∀ k, k < 3 → parseFieldDescriptor (TX17 k).2.2.1 = some (tyX17 k) := by decide +kernel
abbrev cX17_init : ByteArray := prog_4_method_1_code
def yX17_init : MethodName := ⟨RX17, "<init>", "(LTruthBridge$Value;ILTruthBridge$Value;)V"⟩
def dkwX17_init_0 : List UInt8 := [42, 183, 0, 1, 42, 43, 181, 0, 7, 42, 28, 181, 0, 13, 42, 45, 181, 0, 17, 177]
abbrev dktX17_init_0 : List UInt8 := dkwX17_init_0 ++ []
theorem dksX17_init_0 : cX17_init.data.toList.drop 0 = dktX17_init_0 := by decide +kernel
theorem dX17_init_0 : decode cX17_init 0 = .ok (.aload_n 0, 1) := dk_42 (dk_at dksX17_init_0 0 rfl rfl)
theorem dX17_init_1 : decode cX17_init 1 = .ok (.invokespecial 1, 3) := dk_183 0 1 (dk_at dksX17_init_0 1 rfl rfl)
theorem dX17_init_4 : decode cX17_init 4 = .ok (.aload_n 0, 1) := dk_42 (dk_at dksX17_init_0 4 rfl rfl)
theorem dX17_init_5 : decode cX17_init 5 = .ok (.aload_n 1, 1) := dk_43 (dk_at dksX17_init_0 5 rfl rfl)
theorem dX17_init_6 : decode cX17_init 6 = .ok (.putfield 7, 3) := dk_181 0 7 (dk_at dksX17_init_0 6 rfl rfl)
theorem dX17_init_9 : decode cX17_init 9 = .ok (.aload_n 0, 1) := dk_42 (dk_at dksX17_init_0 9 rfl rfl)
theorem dX17_init_10 : decode cX17_init 10 = .ok (.iload_n 2, 1) := dk_28 (dk_at dksX17_init_0 10 rfl rfl)
theorem dX17_init_11 : decode cX17_init 11 = .ok (.putfield 13, 3) := dk_181 0 13 (dk_at dksX17_init_0 11 rfl rfl)
theorem dX17_init_14 : decode cX17_init 14 = .ok (.aload_n 0, 1) := dk_42 (dk_at dksX17_init_0 14 rfl rfl)
theorem dX17_init_15 : decode cX17_init 15 = .ok (.aload_n 3, 1) := dk_45 (dk_at dksX17_init_0 15 rfl rfl)
theorem dX17_init_16 : decode cX17_init 16 = .ok (.putfield 17, 3) := dk_181 0 17 (dk_at dksX17_init_0 16 rfl rfl)
theorem dX17_init_19 : decode cX17_init 19 = .ok (.return_, 1) := dk_177 (dk_at dksX17_init_0 19 rfl rfl)
abbrev cX17_is : ByteArray := prog_4_method_2_code
def yX17_is : MethodName := ⟨RX17, "is", "([J)Z"⟩
def dkwX17_is_4 : List UInt8 := [167, 0, 4, 3, 172, 32, 22, 4, 148, 158, 0, 7, 4, 167, 0, 4, 3, 172]
abbrev dktX17_is_4 : List UInt8 := dkwX17_is_4 ++ []
def dkwX17_is_3 : List UInt8 := [3, 172, 32, 22, 4, 148, 154, 0, 7, 4, 167, 0, 4, 3, 172, 32, 22, 4, 148, 155, 0, 7, 4]
abbrev dktX17_is_3 : List UInt8 := dkwX17_is_3 ++ dktX17_is_4
def dkwX17_is_2 : List UInt8 := [32, 22, 4, 148, 156, 0, 7, 4, 167, 0, 4, 3, 172, 32, 22, 4, 148, 157, 0, 7, 4, 167, 0, 4]
abbrev dktX17_is_2 : List UInt8 := dkwX17_is_2 ++ dktX17_is_3
def dkwX17_is_1 : List UInt8 := [170, 0, 0, 0, 81, 0, 0, 0, 0, 0, 0, 0, 3, 0, 0, 0, 29, 0, 0, 0, 42, 0, 0, 0, 55, 0, 0, 0, 68]
abbrev dktX17_is_1 : List UInt8 := dkwX17_is_1 ++ dktX17_is_2
def dkwX17_is_0 : List UInt8 := [42, 180, 0, 7, 43, 182, 0, 20, 65, 42, 180, 0, 17, 43, 182, 0, 20, 55, 4, 42, 180, 0, 13]
abbrev dktX17_is_0 : List UInt8 := dkwX17_is_0 ++ dktX17_is_1
theorem dksX17_is_0 : cX17_is.data.toList.drop 0 = dktX17_is_0 := by decide +kernel
theorem dksX17_is_1 : cX17_is.data.toList.drop 23 = dktX17_is_1 := dk_seg dksX17_is_0 23 rfl rfl
theorem dksX17_is_2 : cX17_is.data.toList.drop 52 = dktX17_is_2 := dk_seg dksX17_is_1 29 rfl rfl
theorem dksX17_is_3 : cX17_is.data.toList.drop 76 = dktX17_is_3 := dk_seg dksX17_is_2 24 rfl rfl
theorem dksX17_is_4 : cX17_is.data.toList.drop 99 = dktX17_is_4 := dk_seg dksX17_is_3 23 rfl rfl
theorem dX17_is_0 : decode cX17_is 0 = .ok (.aload_n 0, 1) := dk_42 (dk_at dksX17_is_0 0 rfl rfl)
theorem dX17_is_1 : decode cX17_is 1 = .ok (.getfield 7, 3) := dk_180 0 7 (dk_at dksX17_is_0 1 rfl rfl)
theorem dX17_is_4 : decode cX17_is 4 = .ok (.aload_n 1, 1) := dk_43 (dk_at dksX17_is_0 4 rfl rfl)
theorem dX17_is_5 : decode cX17_is 5 = .ok (.invokevirtual 20, 3) := dk_182 0 20 (dk_at dksX17_is_0 5 rfl rfl)
theorem dX17_is_8 : decode cX17_is 8 = .ok (.lstore_n 2, 1) := dk_65 (dk_at dksX17_is_0 8 rfl rfl)
theorem dX17_is_9 : decode cX17_is 9 = .ok (.aload_n 0, 1) := dk_42 (dk_at dksX17_is_0 9 rfl rfl)
theorem dX17_is_10 : decode cX17_is 10 = .ok (.getfield 17, 3) := dk_180 0 17 (dk_at dksX17_is_0 10 rfl rfl)
theorem dX17_is_13 : decode cX17_is 13 = .ok (.aload_n 1, 1) := dk_43 (dk_at dksX17_is_0 13 rfl rfl)
theorem dX17_is_14 : decode cX17_is 14 = .ok (.invokevirtual 20, 3) := dk_182 0 20 (dk_at dksX17_is_0 14 rfl rfl)
theorem dX17_is_17 : decode cX17_is 17 = .ok (.lstore 4, 2) := dk_55 4 (dk_at dksX17_is_0 17 rfl rfl)
theorem dX17_is_19 : decode cX17_is 19 = .ok (.aload_n 0, 1) := dk_42 (dk_at dksX17_is_0 19 rfl rfl)
theorem dX17_is_20 : decode cX17_is 20 = .ok (.getfield 13, 3) := dk_180 0 13 (dk_at dksX17_is_0 20 rfl rfl)
theorem dX17_is_23 : decode cX17_is 23 = .ok (.tableswitch 81 0 3 #[29, 42, 55, 68], 29) := by decide +kernel
theorem dX17_is_52 : decode cX17_is 52 = .ok (.lload_n 2, 1) := dk_32 (dk_at dksX17_is_2 0 rfl rfl)
theorem dX17_is_53 : decode cX17_is 53 = .ok (.lload 4, 2) := dk_22 4 (dk_at dksX17_is_2 1 rfl rfl)
theorem dX17_is_55 : decode cX17_is 55 = .ok (.lcmp, 1) := dk_148 (dk_at dksX17_is_2 3 rfl rfl)
theorem dX17_is_56 : decode cX17_is 56 = .ok (.ifCond .ge 7, 3) := dk_156 0 7 (dk_at dksX17_is_2 4 rfl rfl)
theorem dX17_is_59 : decode cX17_is 59 = .ok (.iconst 1, 1) := dk_4 (dk_at dksX17_is_2 7 rfl rfl)
theorem dX17_is_60 : decode cX17_is 60 = .ok (.goto 4, 3) := dk_167 0 4 (dk_at dksX17_is_2 8 rfl rfl)
theorem dX17_is_63 : decode cX17_is 63 = .ok (.iconst 0, 1) := dk_3 (dk_at dksX17_is_2 11 rfl rfl)
theorem dX17_is_64 : decode cX17_is 64 = .ok (.ireturn, 1) := dk_172 (dk_at dksX17_is_2 12 rfl rfl)
theorem dX17_is_65 : decode cX17_is 65 = .ok (.lload_n 2, 1) := dk_32 (dk_at dksX17_is_2 13 rfl rfl)
theorem dX17_is_66 : decode cX17_is 66 = .ok (.lload 4, 2) := dk_22 4 (dk_at dksX17_is_2 14 rfl rfl)
theorem dX17_is_68 : decode cX17_is 68 = .ok (.lcmp, 1) := dk_148 (dk_at dksX17_is_2 16 rfl rfl)
theorem dX17_is_69 : decode cX17_is 69 = .ok (.ifCond .gt 7, 3) := dk_157 0 7 (dk_at dksX17_is_2 17 rfl rfl)
theorem dX17_is_72 : decode cX17_is 72 = .ok (.iconst 1, 1) := dk_4 (dk_at dksX17_is_2 20 rfl rfl)
theorem dX17_is_73 : decode cX17_is 73 = .ok (.goto 4, 3) := dk_167 0 4 (dk_at dksX17_is_2 21 rfl rfl)
theorem dX17_is_76 : decode cX17_is 76 = .ok (.iconst 0, 1) := dk_3 (dk_at dksX17_is_3 0 rfl rfl)
theorem dX17_is_77 : decode cX17_is 77 = .ok (.ireturn, 1) := dk_172 (dk_at dksX17_is_3 1 rfl rfl)
theorem dX17_is_78 : decode cX17_is 78 = .ok (.lload_n 2, 1) := dk_32 (dk_at dksX17_is_3 2 rfl rfl)
theorem dX17_is_79 : decode cX17_is 79 = .ok (.lload 4, 2) := dk_22 4 (dk_at dksX17_is_3 3 rfl rfl)
theorem dX17_is_81 : decode cX17_is 81 = .ok (.lcmp, 1) := dk_148 (dk_at dksX17_is_3 5 rfl rfl)
theorem dX17_is_82 : decode cX17_is 82 = .ok (.ifCond .ne 7, 3) := dk_154 0 7 (dk_at dksX17_is_3 6 rfl rfl)
theorem dX17_is_85 : decode cX17_is 85 = .ok (.iconst 1, 1) := dk_4 (dk_at dksX17_is_3 9 rfl rfl)
theorem dX17_is_86 : decode cX17_is 86 = .ok (.goto 4, 3) := dk_167 0 4 (dk_at dksX17_is_3 10 rfl rfl)
theorem dX17_is_89 : decode cX17_is 89 = .ok (.iconst 0, 1) := dk_3 (dk_at dksX17_is_3 13 rfl rfl)
theorem dX17_is_90 : decode cX17_is 90 = .ok (.ireturn, 1) := dk_172 (dk_at dksX17_is_3 14 rfl rfl)
theorem dX17_is_91 : decode cX17_is 91 = .ok (.lload_n 2, 1) := dk_32 (dk_at dksX17_is_3 15 rfl rfl)
theorem dX17_is_92 : decode cX17_is 92 = .ok (.lload 4, 2) := dk_22 4 (dk_at dksX17_is_3 16 rfl rfl)
theorem dX17_is_94 : decode cX17_is 94 = .ok (.lcmp, 1) := dk_148 (dk_at dksX17_is_3 18 rfl rfl)
theorem dX17_is_95 : decode cX17_is 95 = .ok (.ifCond .lt 7, 3) := dk_155 0 7 (dk_at dksX17_is_3 19 rfl rfl)
theorem dX17_is_98 : decode cX17_is 98 = .ok (.iconst 1, 1) := dk_4 (dk_at dksX17_is_3 22 rfl rfl)
theorem dX17_is_99 : decode cX17_is 99 = .ok (.goto 4, 3) := dk_167 0 4 (dk_at dksX17_is_4 0 rfl rfl)
theorem dX17_is_102 : decode cX17_is 102 = .ok (.iconst 0, 1) := dk_3 (dk_at dksX17_is_4 3 rfl rfl)
theorem dX17_is_103 : decode cX17_is 103 = .ok (.ireturn, 1) := dk_172 (dk_at dksX17_is_4 4 rfl rfl)
theorem dX17_is_104 : decode cX17_is 104 = .ok (.lload_n 2, 1) := dk_32 (dk_at dksX17_is_4 5 rfl rfl)
theorem dX17_is_105 : decode cX17_is 105 = .ok (.lload 4, 2) := dk_22 4 (dk_at dksX17_is_4 6 rfl rfl)
theorem dX17_is_107 : decode cX17_is 107 = .ok (.lcmp, 1) := dk_148 (dk_at dksX17_is_4 8 rfl rfl)
theorem dX17_is_108 : decode cX17_is 108 = .ok (.ifCond .le 7, 3) := dk_158 0 7 (dk_at dksX17_is_4 9 rfl rfl)
theorem dX17_is_111 : decode cX17_is 111 = .ok (.iconst 1, 1) := dk_4 (dk_at dksX17_is_4 12 rfl rfl)
theorem dX17_is_112 : decode cX17_is 112 = .ok (.goto 4, 3) := dk_167 0 4 (dk_at dksX17_is_4 13 rfl rfl)
theorem dX17_is_115 : decode cX17_is 115 = .ok (.iconst 0, 1) := dk_3 (dk_at dksX17_is_4 16 rfl rfl)
theorem dX17_is_116 : decode cX17_is 116 = .ok (.ireturn, 1) := dk_172 (dk_at dksX17_is_4 17 rfl rfl)
theorem q182 : (Jvm.Cond.initialized "TruthBridge$Compare") ∈ lw_all := lw_g (lw_at lw_m1 27 rfl) rfl
theorem q924 : (Jvm.Cond.instantiable "TruthBridge$Compare" (3 : Nat)) ∈ lw_all := lw_g (lw_at lw_m4 49 rfl) rfl
theorem q926 : (Jvm.Cond.instanceMethod ({ cls := "TruthBridge$Compare", name := "<init>", desc := "(LTruthBridge$Value;ILTruthBridge$Value;)V" } : Jvm.MethodName)) ∈ lw_all := lw_g (lw_at lw_m4 51 rfl) rfl
theorem q927 : (Jvm.Cond.code ({ cls := "TruthBridge$Compare", name := "<init>", desc := "(LTruthBridge$Value;ILTruthBridge$Value;)V" } : Jvm.MethodName) prog_4_method_1_code (4 : Nat) (Option.none : Option Jvm.ClassFile.FieldType)) ∈ lw_all := lw_g (lw_at lw_m4 52 rfl) rfl
theorem q928 : (Jvm.Cond.methodLinkNest "TruthBridge$Compare" (1 : Nat) ({ cls := "TruthBridge$Test", name := "<init>", desc := "()V" } : Jvm.MethodName) "TruthBridge") ∈ lw_tbl := lw_at lw_m4 53 rfl
theorem q929 : (Jvm.Cond.fieldLink "TruthBridge$Compare" (7 : Nat) "TruthBridge$Compare" "first" "LTruthBridge$Value;") ∈ lw_all := lw_g (lw_at lw_m4 54 rfl) rfl
theorem q930 : (Jvm.Cond.fieldLink "TruthBridge$Compare" (17 : Nat) "TruthBridge$Compare" "second" "LTruthBridge$Value;") ∈ lw_all := lw_g (lw_at lw_m4 55 rfl) rfl
theorem q931 : (Jvm.Cond.fieldLink "TruthBridge$Compare" (13 : Nat) "TruthBridge$Compare" "sign" "I") ∈ lw_all := lw_g (lw_at lw_m4 56 rfl) rfl
theorem q932 : (Jvm.Cond.laysFinal "TruthBridge$Compare" "TruthBridge$Compare" "first" "LTruthBridge$Value;") ∈ lw_all := lw_g (lw_at lw_m4 57 rfl) rfl
theorem q933 : (Jvm.Cond.soleField "TruthBridge$Compare" "first") ∈ lw_all := lw_g (lw_at lw_m4 58 rfl) rfl
theorem q934 : (Jvm.Cond.laysFinal "TruthBridge$Compare" "TruthBridge$Compare" "second" "LTruthBridge$Value;") ∈ lw_all := lw_g (lw_at lw_m4 59 rfl) rfl
theorem q935 : (Jvm.Cond.soleField "TruthBridge$Compare" "second") ∈ lw_all := lw_g (lw_at lw_m4 60 rfl) rfl
theorem q936 : (Jvm.Cond.laysFinal "TruthBridge$Compare" "TruthBridge$Compare" "sign" "I") ∈ lw_all := lw_g (lw_at lw_m4 61 rfl) rfl
theorem q937 : (Jvm.Cond.soleField "TruthBridge$Compare" "sign") ∈ lw_all := lw_g (lw_at lw_m4 62 rfl) rfl
theorem q938 : (Jvm.Cond.superclass "TruthBridge$Compare" "TruthBridge$Test") ∈ lw_all := lw_g (lw_at lw_m4 63 rfl) rfl
theorem q1143 : (Jvm.Cond.instanceMethod ({ cls := "TruthBridge$Compare", name := "is", desc := "([J)Z" } : Jvm.MethodName)) ∈ lw_all := lw_g (lw_at lw_m5 28 rfl) rfl
theorem q1144 : (Jvm.Cond.code ({ cls := "TruthBridge$Compare", name := "is", desc := "([J)Z" } : Jvm.MethodName) prog_4_method_2_code (6 : Nat) (Option.some Jvm.ClassFile.FieldType.boolean)) ∈ lw_all := lw_g (lw_at lw_m5 29 rfl) rfl
theorem q1145 : (Jvm.Cond.methodLink "TruthBridge$Compare" (20 : Nat) ({ cls := "TruthBridge$Value", name := "of", desc := "([J)J" } : Jvm.MethodName)) ∈ lw_all := lw_g (lw_at lw_m5 30 rfl) rfl
theorem q1161 : (Jvm.Cond.selects "TruthBridge$Compare" ({ cls := "TruthBridge$Test", name := "is", desc := "([J)Z" } : Jvm.MethodName) ({ cls := "TruthBridge$Compare", name := "is", desc := "([J)Z" } : Jvm.MethodName)) ∈ lw_all := lw_g (lw_at lw_m5 46 rfl) rfl
theorem in_X17 : ∀ w ∈ wsX170, w ∈ lw_all := lw_in wsX170 [932, 934, 936] (by decide +kernel) (by decide +kernel)
/-! TruthBridge$Both -/
set_option maxRecDepth 100000
def RX18 : String := "TruthBridge$Both"
def TX18 : u_T := fun k => match k with
  | 0 => ("TruthBridge$Both", "first", "LTruthBridge$Test;", true)
  | 1 => ("TruthBridge$Both", "second", "LTruthBridge$Test;", true)
  | _ => ("TruthBridge$Both", "isAnd", "Z", true)
def tyX18 : Nat → FieldType := fun k => match k with
  | 0 => .object "TruthBridge$Test"
  | 1 => .object "TruthBridge$Test"
  | _ => .boolean
abbrev wsX180 : List Cond := u_ws RX18 TX18 3
theorem nmX18 : ∀ a, a < 3 → ∀ b, b < 3 → a ≠ b → (TX18 a).2.1 ≠ (TX18 b).2.1 := by decide +kernel
theorem tyX18_ok : ∀ k, k < 3 → parseFieldDescriptor (TX18 k).2.2.1 = some (tyX18 k) := by decide +kernel
abbrev cX18_init : ByteArray := prog_2_method_1_code
def yX18_init : MethodName := ⟨RX18, "<init>", "(LTruthBridge$Test;ZLTruthBridge$Test;)V"⟩
def dkwX18_init_0 : List UInt8 := [42, 183, 0, 1, 42, 43, 181, 0, 7, 42, 28, 181, 0, 13, 42, 45, 181, 0, 17, 177]
abbrev dktX18_init_0 : List UInt8 := dkwX18_init_0 ++ []
theorem dksX18_init_0 : cX18_init.data.toList.drop 0 = dktX18_init_0 := by decide +kernel
theorem dX18_init_0 : decode cX18_init 0 = .ok (.aload_n 0, 1) := dk_42 (dk_at dksX18_init_0 0 rfl rfl)
theorem dX18_init_1 : decode cX18_init 1 = .ok (.invokespecial 1, 3) := dk_183 0 1 (dk_at dksX18_init_0 1 rfl rfl)
theorem dX18_init_4 : decode cX18_init 4 = .ok (.aload_n 0, 1) := dk_42 (dk_at dksX18_init_0 4 rfl rfl)
theorem dX18_init_5 : decode cX18_init 5 = .ok (.aload_n 1, 1) := dk_43 (dk_at dksX18_init_0 5 rfl rfl)
theorem dX18_init_6 : decode cX18_init 6 = .ok (.putfield 7, 3) := dk_181 0 7 (dk_at dksX18_init_0 6 rfl rfl)
theorem dX18_init_9 : decode cX18_init 9 = .ok (.aload_n 0, 1) := dk_42 (dk_at dksX18_init_0 9 rfl rfl)
theorem dX18_init_10 : decode cX18_init 10 = .ok (.iload_n 2, 1) := dk_28 (dk_at dksX18_init_0 10 rfl rfl)
theorem dX18_init_11 : decode cX18_init 11 = .ok (.putfield 13, 3) := dk_181 0 13 (dk_at dksX18_init_0 11 rfl rfl)
theorem dX18_init_14 : decode cX18_init 14 = .ok (.aload_n 0, 1) := dk_42 (dk_at dksX18_init_0 14 rfl rfl)
theorem dX18_init_15 : decode cX18_init 15 = .ok (.aload_n 3, 1) := dk_45 (dk_at dksX18_init_0 15 rfl rfl)
theorem dX18_init_16 : decode cX18_init 16 = .ok (.putfield 17, 3) := dk_181 0 17 (dk_at dksX18_init_0 16 rfl rfl)
theorem dX18_init_19 : decode cX18_init 19 = .ok (.return_, 1) := dk_177 (dk_at dksX18_init_0 19 rfl rfl)
abbrev cX18_is : ByteArray := prog_2_method_2_code
def yX18_is : MethodName := ⟨RX18, "is", "([J)Z"⟩
def dkwX18_is_2 : List UInt8 := [154, 0, 14, 42, 180, 0, 17, 43, 182, 0, 20, 153, 0, 7, 4, 167, 0, 4, 3, 172]
abbrev dktX18_is_2 : List UInt8 := dkwX18_is_2 ++ []
def dkwX18_is_1 : List UInt8 := [182, 0, 20, 153, 0, 7, 4, 167, 0, 34, 3, 167, 0, 30, 42, 180, 0, 7, 43, 182, 0, 20]
abbrev dktX18_is_1 : List UInt8 := dkwX18_is_1 ++ dktX18_is_2
def dkwX18_is_0 : List UInt8 := [42, 180, 0, 13, 153, 0, 33, 42, 180, 0, 7, 43, 182, 0, 20, 153, 0, 18, 42, 180, 0, 17, 43]
abbrev dktX18_is_0 : List UInt8 := dkwX18_is_0 ++ dktX18_is_1
theorem dksX18_is_0 : cX18_is.data.toList.drop 0 = dktX18_is_0 := by decide +kernel
theorem dksX18_is_1 : cX18_is.data.toList.drop 23 = dktX18_is_1 := dk_seg dksX18_is_0 23 rfl rfl
theorem dksX18_is_2 : cX18_is.data.toList.drop 45 = dktX18_is_2 := dk_seg dksX18_is_1 22 rfl rfl
theorem dX18_is_0 : decode cX18_is 0 = .ok (.aload_n 0, 1) := dk_42 (dk_at dksX18_is_0 0 rfl rfl)
theorem dX18_is_1 : decode cX18_is 1 = .ok (.getfield 13, 3) := dk_180 0 13 (dk_at dksX18_is_0 1 rfl rfl)
theorem dX18_is_4 : decode cX18_is 4 = .ok (.ifCond .eq 33, 3) := dk_153 0 33 (dk_at dksX18_is_0 4 rfl rfl)
theorem dX18_is_7 : decode cX18_is 7 = .ok (.aload_n 0, 1) := dk_42 (dk_at dksX18_is_0 7 rfl rfl)
theorem dX18_is_8 : decode cX18_is 8 = .ok (.getfield 7, 3) := dk_180 0 7 (dk_at dksX18_is_0 8 rfl rfl)
theorem dX18_is_11 : decode cX18_is 11 = .ok (.aload_n 1, 1) := dk_43 (dk_at dksX18_is_0 11 rfl rfl)
theorem dX18_is_12 : decode cX18_is 12 = .ok (.invokevirtual 20, 3) := dk_182 0 20 (dk_at dksX18_is_0 12 rfl rfl)
theorem dX18_is_15 : decode cX18_is 15 = .ok (.ifCond .eq 18, 3) := dk_153 0 18 (dk_at dksX18_is_0 15 rfl rfl)
theorem dX18_is_18 : decode cX18_is 18 = .ok (.aload_n 0, 1) := dk_42 (dk_at dksX18_is_0 18 rfl rfl)
theorem dX18_is_19 : decode cX18_is 19 = .ok (.getfield 17, 3) := dk_180 0 17 (dk_at dksX18_is_0 19 rfl rfl)
theorem dX18_is_22 : decode cX18_is 22 = .ok (.aload_n 1, 1) := dk_43 (dk_at dksX18_is_0 22 rfl rfl)
theorem dX18_is_23 : decode cX18_is 23 = .ok (.invokevirtual 20, 3) := dk_182 0 20 (dk_at dksX18_is_1 0 rfl rfl)
theorem dX18_is_26 : decode cX18_is 26 = .ok (.ifCond .eq 7, 3) := dk_153 0 7 (dk_at dksX18_is_1 3 rfl rfl)
theorem dX18_is_29 : decode cX18_is 29 = .ok (.iconst 1, 1) := dk_4 (dk_at dksX18_is_1 6 rfl rfl)
theorem dX18_is_30 : decode cX18_is 30 = .ok (.goto 34, 3) := dk_167 0 34 (dk_at dksX18_is_1 7 rfl rfl)
theorem dX18_is_33 : decode cX18_is 33 = .ok (.iconst 0, 1) := dk_3 (dk_at dksX18_is_1 10 rfl rfl)
theorem dX18_is_34 : decode cX18_is 34 = .ok (.goto 30, 3) := dk_167 0 30 (dk_at dksX18_is_1 11 rfl rfl)
theorem dX18_is_37 : decode cX18_is 37 = .ok (.aload_n 0, 1) := dk_42 (dk_at dksX18_is_1 14 rfl rfl)
theorem dX18_is_38 : decode cX18_is 38 = .ok (.getfield 7, 3) := dk_180 0 7 (dk_at dksX18_is_1 15 rfl rfl)
theorem dX18_is_41 : decode cX18_is 41 = .ok (.aload_n 1, 1) := dk_43 (dk_at dksX18_is_1 18 rfl rfl)
theorem dX18_is_42 : decode cX18_is 42 = .ok (.invokevirtual 20, 3) := dk_182 0 20 (dk_at dksX18_is_1 19 rfl rfl)
theorem dX18_is_45 : decode cX18_is 45 = .ok (.ifCond .ne 14, 3) := dk_154 0 14 (dk_at dksX18_is_2 0 rfl rfl)
theorem dX18_is_48 : decode cX18_is 48 = .ok (.aload_n 0, 1) := dk_42 (dk_at dksX18_is_2 3 rfl rfl)
theorem dX18_is_49 : decode cX18_is 49 = .ok (.getfield 17, 3) := dk_180 0 17 (dk_at dksX18_is_2 4 rfl rfl)
theorem dX18_is_52 : decode cX18_is 52 = .ok (.aload_n 1, 1) := dk_43 (dk_at dksX18_is_2 7 rfl rfl)
theorem dX18_is_53 : decode cX18_is 53 = .ok (.invokevirtual 20, 3) := dk_182 0 20 (dk_at dksX18_is_2 8 rfl rfl)
theorem dX18_is_56 : decode cX18_is 56 = .ok (.ifCond .eq 7, 3) := dk_153 0 7 (dk_at dksX18_is_2 11 rfl rfl)
theorem dX18_is_59 : decode cX18_is 59 = .ok (.iconst 1, 1) := dk_4 (dk_at dksX18_is_2 14 rfl rfl)
theorem dX18_is_60 : decode cX18_is 60 = .ok (.goto 4, 3) := dk_167 0 4 (dk_at dksX18_is_2 15 rfl rfl)
theorem dX18_is_63 : decode cX18_is 63 = .ok (.iconst 0, 1) := dk_3 (dk_at dksX18_is_2 18 rfl rfl)
theorem dX18_is_64 : decode cX18_is 64 = .ok (.ireturn, 1) := dk_172 (dk_at dksX18_is_2 19 rfl rfl)
theorem q183 : (Jvm.Cond.initialized "TruthBridge$Both") ∈ lw_all := lw_g (lw_at lw_m1 28 rfl) rfl
theorem q940 : (Jvm.Cond.instantiable "TruthBridge$Both" (3 : Nat)) ∈ lw_all := lw_g (lw_at lw_m4 65 rfl) rfl
theorem q942 : (Jvm.Cond.instanceMethod ({ cls := "TruthBridge$Both", name := "<init>", desc := "(LTruthBridge$Test;ZLTruthBridge$Test;)V" } : Jvm.MethodName)) ∈ lw_all := lw_g (lw_at lw_m4 67 rfl) rfl
theorem q943 : (Jvm.Cond.code ({ cls := "TruthBridge$Both", name := "<init>", desc := "(LTruthBridge$Test;ZLTruthBridge$Test;)V" } : Jvm.MethodName) prog_2_method_1_code (4 : Nat) (Option.none : Option Jvm.ClassFile.FieldType)) ∈ lw_all := lw_g (lw_at lw_m4 68 rfl) rfl
theorem q944 : (Jvm.Cond.methodLinkNest "TruthBridge$Both" (1 : Nat) ({ cls := "TruthBridge$Test", name := "<init>", desc := "()V" } : Jvm.MethodName) "TruthBridge") ∈ lw_tbl := lw_at lw_m4 69 rfl
theorem q945 : (Jvm.Cond.fieldLink "TruthBridge$Both" (7 : Nat) "TruthBridge$Both" "first" "LTruthBridge$Test;") ∈ lw_all := lw_g (lw_at lw_m4 70 rfl) rfl
theorem q946 : (Jvm.Cond.fieldLink "TruthBridge$Both" (17 : Nat) "TruthBridge$Both" "second" "LTruthBridge$Test;") ∈ lw_all := lw_g (lw_at lw_m4 71 rfl) rfl
theorem q947 : (Jvm.Cond.fieldLink "TruthBridge$Both" (13 : Nat) "TruthBridge$Both" "isAnd" "Z") ∈ lw_all := lw_g (lw_at lw_m4 72 rfl) rfl
theorem q948 : (Jvm.Cond.laysFinal "TruthBridge$Both" "TruthBridge$Both" "first" "LTruthBridge$Test;") ∈ lw_all := lw_g (lw_at lw_m4 73 rfl) rfl
theorem q949 : (Jvm.Cond.soleField "TruthBridge$Both" "first") ∈ lw_all := lw_g (lw_at lw_m4 74 rfl) rfl
theorem q950 : (Jvm.Cond.laysFinal "TruthBridge$Both" "TruthBridge$Both" "second" "LTruthBridge$Test;") ∈ lw_all := lw_g (lw_at lw_m4 75 rfl) rfl
theorem q951 : (Jvm.Cond.soleField "TruthBridge$Both" "second") ∈ lw_all := lw_g (lw_at lw_m4 76 rfl) rfl
theorem q952 : (Jvm.Cond.laysFinal "TruthBridge$Both" "TruthBridge$Both" "isAnd" "Z") ∈ lw_all := lw_g (lw_at lw_m4 77 rfl) rfl
theorem q953 : (Jvm.Cond.soleField "TruthBridge$Both" "isAnd") ∈ lw_all := lw_g (lw_at lw_m4 78 rfl) rfl
theorem q954 : (Jvm.Cond.superclass "TruthBridge$Both" "TruthBridge$Test") ∈ lw_all := lw_g (lw_at lw_m4 79 rfl) rfl
theorem q1139 : (Jvm.Cond.selects "TruthBridge$Both" ({ cls := "TruthBridge$Test", name := "is", desc := "([J)Z" } : Jvm.MethodName) ({ cls := "TruthBridge$Both", name := "is", desc := "([J)Z" } : Jvm.MethodName)) ∈ lw_all := lw_g (lw_at lw_m5 24 rfl) rfl
theorem q1140 : (Jvm.Cond.instanceMethod ({ cls := "TruthBridge$Both", name := "is", desc := "([J)Z" } : Jvm.MethodName)) ∈ lw_all := lw_g (lw_at lw_m5 25 rfl) rfl
theorem q1141 : (Jvm.Cond.code ({ cls := "TruthBridge$Both", name := "is", desc := "([J)Z" } : Jvm.MethodName) prog_2_method_2_code (2 : Nat) (Option.some Jvm.ClassFile.FieldType.boolean)) ∈ lw_all := lw_g (lw_at lw_m5 26 rfl) rfl
theorem q1142 : (Jvm.Cond.methodLink "TruthBridge$Both" (20 : Nat) ({ cls := "TruthBridge$Test", name := "is", desc := "([J)Z" } : Jvm.MethodName)) ∈ lw_all := lw_g (lw_at lw_m5 27 rfl) rfl
theorem in_X18 : ∀ w ∈ wsX180, w ∈ lw_all := lw_in wsX180 [948, 950, 952] (by decide +kernel) (by decide +kernel)
/-! TruthBridge$Image -/
set_option maxRecDepth 100000
def RX19 : String := "TruthBridge$Image"
def TX19 : u_T := fun k => match k with
  | 0 => ("TruthBridge$Image", "land", "LTruthBridge$Gorge;", true)
  | 1 => ("TruthBridge$Image", "isTold", "Z", false)
  | _ => ("TruthBridge$Image", "x", "I", false)
def tyX19 : Nat → FieldType := fun k => match k with
  | 0 => .object "TruthBridge$Gorge"
  | 1 => .boolean
  | _ => .int
abbrev wsX190 : List Cond := u_ws RX19 TX19 3
theorem nmX19 : ∀ a, a < 3 → ∀ b, b < 3 → a ≠ b → (TX19 a).2.1 ≠ (TX19 b).2.1 := by decide +kernel
theorem tyX19_ok : ∀ k, k < 3 → parseFieldDescriptor (TX19 k).2.2.1 = some (tyX19 k) := by decide +kernel
abbrev cX19_init : ByteArray := prog_8_method_1_code
def yX19_init : MethodName := ⟨RX19, "<init>", "()V"⟩
def dkwX19_init_0 : List UInt8 := [42, 183, 0, 1, 42, 187, 0, 7, 89, 183, 0, 9, 181, 0, 10, 177]
abbrev dktX19_init_0 : List UInt8 := dkwX19_init_0 ++ []
theorem dksX19_init_0 : cX19_init.data.toList.drop 0 = dktX19_init_0 := by decide +kernel
theorem dX19_init_0 : decode cX19_init 0 = .ok (.aload_n 0, 1) := dk_42 (dk_at dksX19_init_0 0 rfl rfl)
theorem dX19_init_1 : decode cX19_init 1 = .ok (.invokespecial 1, 3) := dk_183 0 1 (dk_at dksX19_init_0 1 rfl rfl)
theorem dX19_init_4 : decode cX19_init 4 = .ok (.aload_n 0, 1) := dk_42 (dk_at dksX19_init_0 4 rfl rfl)
theorem dX19_init_5 : decode cX19_init 5 = .ok (.new 7, 3) := dk_187 0 7 (dk_at dksX19_init_0 5 rfl rfl)
theorem dX19_init_8 : decode cX19_init 8 = .ok (.dup, 1) := dk_89 (dk_at dksX19_init_0 8 rfl rfl)
theorem dX19_init_9 : decode cX19_init 9 = .ok (.invokespecial 9, 3) := dk_183 0 9 (dk_at dksX19_init_0 9 rfl rfl)
theorem dX19_init_12 : decode cX19_init 12 = .ok (.putfield 10, 3) := dk_181 0 10 (dk_at dksX19_init_0 12 rfl rfl)
theorem dX19_init_15 : decode cX19_init 15 = .ok (.return_, 1) := dk_177 (dk_at dksX19_init_0 15 rfl rfl)
theorem q186 : (Jvm.Cond.initialized "TruthBridge$Image") ∈ lw_all := lw_g (lw_at lw_m1 31 rfl) rfl
theorem q1313 : (Jvm.Cond.instantiable "TruthBridge$Image" (3 : Nat)) ∈ lw_all := lw_g (lw_at lw_m5 198 rfl) rfl
theorem q1315 : (Jvm.Cond.instanceMethod ({ cls := "TruthBridge$Image", name := "<init>", desc := "()V" } : Jvm.MethodName)) ∈ lw_all := lw_g (lw_at lw_m5 200 rfl) rfl
theorem q1316 : (Jvm.Cond.code ({ cls := "TruthBridge$Image", name := "<init>", desc := "()V" } : Jvm.MethodName) prog_8_method_1_code (1 : Nat) (Option.none : Option Jvm.ClassFile.FieldType)) ∈ lw_all := lw_g (lw_at lw_m5 201 rfl) rfl
theorem q1317 : (Jvm.Cond.methodLink "TruthBridge$Image" (1 : Nat) ({ cls := "java/lang/Object", name := "<init>", desc := "()V" } : Jvm.MethodName)) ∈ lw_all := lw_g (lw_at lw_m5 202 rfl) rfl
theorem q1318 : (Jvm.Cond.classLink "TruthBridge$Image" (7 : Nat) "TruthBridge$Gorge") ∈ lw_all := lw_g (lw_at lw_m5 203 rfl) rfl
theorem q1319 : (Jvm.Cond.methodLinkNest "TruthBridge$Image" (9 : Nat) ({ cls := "TruthBridge$Gorge", name := "<init>", desc := "()V" } : Jvm.MethodName) "TruthBridge") ∈ lw_tbl := lw_at lw_m5 204 rfl
theorem q1320 : (Jvm.Cond.fieldLink "TruthBridge$Image" (10 : Nat) "TruthBridge$Image" "land" "LTruthBridge$Gorge;") ∈ lw_all := lw_g (lw_at lw_m5 205 rfl) rfl
theorem q1324 : (Jvm.Cond.laysFinal "TruthBridge$Image" "TruthBridge$Image" "land" "LTruthBridge$Gorge;") ∈ lw_all := lw_g (lw_at lw_m5 209 rfl) rfl
theorem q1325 : (Jvm.Cond.soleField "TruthBridge$Image" "land") ∈ lw_all := lw_g (lw_at lw_m5 210 rfl) rfl
theorem q1326 : (Jvm.Cond.lays "TruthBridge$Image" "TruthBridge$Image" "isTold" "Z") ∈ lw_all := lw_g (lw_at lw_m5 211 rfl) rfl
theorem q1327 : (Jvm.Cond.soleField "TruthBridge$Image" "isTold") ∈ lw_all := lw_g (lw_at lw_m5 212 rfl) rfl
theorem q1328 : (Jvm.Cond.lays "TruthBridge$Image" "TruthBridge$Image" "x" "I") ∈ lw_all := lw_g (lw_at lw_m5 213 rfl) rfl
theorem q1329 : (Jvm.Cond.soleField "TruthBridge$Image" "x") ∈ lw_all := lw_g (lw_at lw_m5 214 rfl) rfl
theorem q1330 : (Jvm.Cond.superclass "TruthBridge$Image" "java/lang/Object") ∈ lw_all := lw_g (lw_at lw_m5 215 rfl) rfl
theorem in_X19 : ∀ w ∈ wsX190, w ∈ lw_all := lw_in wsX190 [1324, 1326, 1328] (by decide +kernel) (by decide +kernel)
