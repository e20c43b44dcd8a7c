/-! TruthBridgeModel -/
set_option maxRecDepth 100000
def RX3 : String := "TruthBridgeModel"
def TX3 : u_T := fun k => match k with
  | 0 => ("TruthBridgeModel", "thrown", "I", false)
  | 1 => ("TruthBridgeModel", "scalar", "[I", true)
  | 2 => ("TruthBridgeModel", "side", "[I", true)
  | 3 => ("TruthBridgeModel", "weight", "[I", true)
  | 4 => ("TruthBridgeModel", "price", "[I", true)
  | 5 => ("TruthBridgeModel", "gone", "[I", true)
  | 6 => ("TruthBridgeModel", "fell", "[I", true)
  | 7 => ("TruthBridgeModel", "placeFact", "[I", true)
  | 8 => ("TruthBridgeModel", "pathOne", "[I", true)
  | 9 => ("TruthBridgeModel", "pathOther", "[I", true)
  | 10 => ("TruthBridgeModel", "pathHours", "[I", true)
  | 11 => ("TruthBridgeModel", "turnFact", "[I", true)
  | 12 => ("TruthBridgeModel", "turnDay", "[I", true)
  | 13 => ("TruthBridgeModel", "trialSaying", "[I", true)
  | 14 => ("TruthBridgeModel", "trialFell", "[I", true)
  | 15 => ("TruthBridgeModel", "held", "[I", true)
  | 16 => ("TruthBridgeModel", "newScalar", "[I", true)
  | 17 => ("TruthBridgeModel", "newSide", "[I", true)
  | 18 => ("TruthBridgeModel", "newWeight", "[I", true)
  | 19 => ("TruthBridgeModel", "newKnown", "[I", true)
  | 20 => ("TruthBridgeModel", "newPrice", "[I", true)
  | 21 => ("TruthBridgeModel", "newPlaceFact", "[I", true)
  | 22 => ("TruthBridgeModel", "newPathOne", "[I", true)
  | 23 => ("TruthBridgeModel", "newPathOther", "[I", true)
  | 24 => ("TruthBridgeModel", "newPathHours", "[I", true)
  | 25 => ("TruthBridgeModel", "newTurnFact", "[I", true)
  | 26 => ("TruthBridgeModel", "newTurnDay", "[I", true)
  | 27 => ("TruthBridgeModel", "taped", "I", false)
  | 28 => ("TruthBridgeModel", "p", "I", false)
  | 29 => ("TruthBridgeModel", "fault", "I", false)
  | 30 => ("TruthBridgeModel", "slot", "I", false)
  | 31 => ("TruthBridgeModel", "rules", "I", false)
  | 32 => ("TruthBridgeModel", "sayings", "I", false)
  | 33 => ("TruthBridgeModel", "entries", "I", false)
  | 34 => ("TruthBridgeModel", "deep", "I", false)
  | 35 => ("TruthBridgeModel", "counted", "I", false)
  | 36 => ("TruthBridgeModel", "opened", "I", false)
  | 37 => ("TruthBridgeModel", "words", "I", false)
  | 38 => ("TruthBridgeModel", "tape", "[B", true)
  | 39 => ("TruthBridgeModel", "sort", "[I", true)
  | 40 => ("TruthBridgeModel", "number", "[I", true)
  | 41 => ("TruthBridgeModel", "clauses", "[I", true)
  | 42 => ("TruthBridgeModel", "sumAt", "[I", true)
  | 43 => ("TruthBridgeModel", "testAt", "[I", true)
  | 44 => ("TruthBridgeModel", "endAt", "[I", true)
  | 45 => ("TruthBridgeModel", "open", "[I", true)
  | 46 => ("TruthBridgeModel", "table", "[I", true)
  | 47 => ("TruthBridgeModel", "either", "[I", true)
  | 48 => ("TruthBridgeModel", "both", "[I", true)
  | 49 => ("TruthBridgeModel", "operand", "[I", true)
  | 50 => ("TruthBridgeModel", "opens", "[I", true)
  | 51 => ("TruthBridgeModel", "openMany", "I", false)
  | 52 => ("TruthBridgeModel", "level", "I", false)
  | 53 => ("TruthBridgeModel", "letters", "I", false)
  | 54 => ("TruthBridgeModel", "asked", "[J", true)
  | 55 => ("TruthBridgeModel", "stack", "[J", true)
  | 56 => ("TruthBridgeModel", "far", "[I", true)
  | 57 => ("TruthBridgeModel", "past", "[I", true)
  | 58 => ("TruthBridgeModel", "ring", "[I", true)
  | 59 => ("TruthBridgeModel", "pastMany", "I", false)
  | 60 => ("TruthBridgeModel", "pastAt", "I", false)
  | 61 => ("TruthBridgeModel", "takesBack", "Z", false)
  | 62 => ("TruthBridgeModel", "turnedRow", "[I", true)
  | 63 => ("TruthBridgeModel", "there", "[I", true)
  | 64 => ("TruthBridgeModel", "turn", "[I", true)
  | 65 => ("TruthBridgeModel", "bestTurn", "[I", true)
  | 66 => ("TruthBridgeModel", "bridgeAt", "[I", true)
  | 67 => ("TruthBridgeModel", "thereMany", "I", false)
  | 68 => ("TruthBridgeModel", "planned", "I", false)
  | 69 => ("TruthBridgeModel", "hours", "[I", true)
  | 70 => ("TruthBridgeModel", "following", "[I", true)
  | 71 => ("TruthBridgeModel", "drawnOver", "I", false)
  | 72 => ("TruthBridgeModel", "drawnFell", "I", false)
  | 73 => ("TruthBridgeModel", "images", "[I", true)
  | 74 => ("TruthBridgeModel", "isMade", "[Z", true)
  | 75 => ("TruthBridgeModel", "imageAt", "I", false)
  | _ => ("TruthBridgeModel", "goesBack", "Z", false)
def tyX3 : Nat → FieldType := fun k => match k with
  | 0 => .int
  | 1 => .array .int
  | 2 => .array .int
  | 3 => .array .int
  | 4 => .array .int
  | 5 => .array .int
  | 6 => .array .int
  | 7 => .array .int
  | 8 => .array .int
  | 9 => .array .int
  | 10 => .array .int
  | 11 => .array .int
  | 12 => .array .int
  | 13 => .array .int
  | 14 => .array .int
  | 15 => .array .int
  | 16 => .array .int
  | 17 => .array .int
  | 18 => .array .int
  | 19 => .array .int
  | 20 => .array .int
  | 21 => .array .int
  | 22 => .array .int
  | 23 => .array .int
  | 24 => .array .int
  | 25 => .array .int
  | 26 => .array .int
  | 27 => .int
  | 28 => .int
  | 29 => .int
  | 30 => .int
  | 31 => .int
  | 32 => .int
  | 33 => .int
  | 34 => .int
  | 35 => .int
  | 36 => .int
  | 37 => .int
  | 38 => .array .byte
  | 39 => .array .int
  | 40 => .array .int
  | 41 => .array .int
  | 42 => .array .int
  | 43 => .array .int
  | 44 => .array .int
  | 45 => .array .int
  | 46 => .array .int
  | 47 => .array .int
  | 48 => .array .int
  | 49 => .array .int
  | 50 => .array .int
  | 51 => .int
  | 52 => .int
  | 53 => .int
  | 54 => .array .long
  | 55 => .array .long
  | 56 => .array .int
  | 57 => .array .int
  | 58 => .array .int
  | 59 => .int
  | 60 => .int
  | 61 => .boolean
  | 62 => .array .int
  | 63 => .array .int
  | 64 => .array .int
  | 65 => .array .int
  | 66 => .array .int
  | 67 => .int
  | 68 => .int
  | 69 => .array .int
  | 70 => .array .int
  | 71 => .int
  | 72 => .int
  | 73 => .array .int
  | 74 => .array .boolean
  | 75 => .int
  | _ => .boolean
abbrev wsX30 : List Cond := u_ws RX3 TX3 77
set_option maxRecDepth 100000 in
theorem nmX3 : ∀ a, a < 77 → ∀ b, b < 77 → a ≠ b → (TX3 a).2.1 ≠ (TX3 b).2.1 := by decide +kernel
set_option maxRecDepth 100000 in
theorem tyX3_ok : ∀ k, k < 77 → parseFieldDescriptor (TX3 k).2.2.1 = some (tyX3 k) := by decide +kernel
abbrev cX3_init : ByteArray := prog_21_method_1_code
def yX3_init : MethodName := ⟨RX3, "<init>", "()V"⟩
def dkwX3_init_18 : List UInt8 := [17, 34, 96, 188, 10, 181, 0, 169, 42, 7, 188, 4, 181, 0, 172, 177]
abbrev dktX3_init_18 : List UInt8 := dkwX3_init_18 ++ []
def dkwX3_init_17 : List UInt8 := [188, 10, 181, 0, 160, 42, 17, 1, 128, 188, 10, 181, 0, 163, 42, 16, 24, 188, 10, 181, 0, 166, 42]
abbrev dktX3_init_17 : List UInt8 := dkwX3_init_17 ++ dktX3_init_18
def dkwX3_init_16 : List UInt8 := [16, 6, 188, 10, 181, 0, 151, 42, 8, 188, 10, 181, 0, 154, 42, 8, 188, 10, 181, 0, 157, 42, 16, 40]
abbrev dktX3_init_16 : List UInt8 := dkwX3_init_16 ++ dktX3_init_17
def dkwX3_init_15 : List UInt8 := [17, 5, 240, 188, 10, 181, 0, 142, 42, 4, 188, 10, 181, 0, 145, 42, 16, 8, 188, 10, 181, 0, 148, 42]
abbrev dktX3_init_15 : List UInt8 := dkwX3_init_15 ++ dktX3_init_16
def dkwX3_init_14 : List UInt8 := [188, 11, 181, 0, 132, 42, 17, 1, 44, 188, 11, 181, 0, 136, 42, 16, 36, 188, 10, 181, 0, 139, 42]
abbrev dktX3_init_14 : List UInt8 := dkwX3_init_14 ++ dktX3_init_15
def dkwX3_init_13 : List UInt8 := [188, 10, 181, 0, 123, 42, 16, 8, 188, 10, 181, 0, 126, 42, 16, 11, 188, 10, 181, 0, 129, 42, 16, 10]
abbrev dktX3_init_13 : List UInt8 := dkwX3_init_13 ++ dktX3_init_14
def dkwX3_init_12 : List UInt8 := [181, 0, 114, 42, 17, 0, 192, 188, 10, 181, 0, 117, 42, 16, 88, 188, 10, 181, 0, 120, 42, 16, 88]
abbrev dktX3_init_12 : List UInt8 := dkwX3_init_12 ++ dktX3_init_13
def dkwX3_init_11 : List UInt8 := [42, 16, 72, 188, 10, 181, 0, 108, 42, 16, 72, 188, 10, 181, 0, 111, 42, 17, 1, 146, 188, 10]
abbrev dktX3_init_11 : List UInt8 := dkwX3_init_11 ++ dktX3_init_12
def dkwX3_init_10 : List UInt8 := [17, 7, 8, 188, 10, 181, 0, 99, 42, 16, 6, 188, 10, 181, 0, 102, 42, 16, 72, 188, 10, 181, 0, 105]
abbrev dktX3_init_10 : List UInt8 := dkwX3_init_10 ++ dktX3_init_11
def dkwX3_init_9 : List UInt8 := [181, 0, 88, 42, 17, 1, 144, 188, 8, 181, 0, 92, 42, 17, 7, 8, 188, 10, 181, 0, 96, 42]
abbrev dktX3_init_9 : List UInt8 := dkwX3_init_9 ++ dktX3_init_10
def dkwX3_init_8 : List UInt8 := [188, 10, 181, 0, 79, 42, 16, 8, 188, 10, 181, 0, 82, 42, 16, 8, 188, 10, 181, 0, 85, 42, 16, 10]
abbrev dktX3_init_8 : List UInt8 := dkwX3_init_8 ++ dktX3_init_9
def dkwX3_init_7 : List UInt8 := [188, 10, 181, 0, 70, 42, 16, 10, 188, 10, 181, 0, 73, 42, 16, 10, 188, 10, 181, 0, 76, 42, 16, 10]
abbrev dktX3_init_7 : List UInt8 := dkwX3_init_7 ++ dktX3_init_8
def dkwX3_init_6 : List UInt8 := [188, 10, 181, 0, 61, 42, 16, 6, 188, 10, 181, 0, 64, 42, 16, 6, 188, 10, 181, 0, 67, 42, 16, 6]
abbrev dktX3_init_6 : List UInt8 := dkwX3_init_6 ++ dktX3_init_7
def dkwX3_init_5 : List UInt8 := [188, 10, 181, 0, 52, 42, 16, 6, 188, 10, 181, 0, 55, 42, 16, 6, 188, 10, 181, 0, 58, 42, 16, 6]
abbrev dktX3_init_5 : List UInt8 := dkwX3_init_5 ++ dktX3_init_6
def dkwX3_init_4 : List UInt8 := [188, 10, 181, 0, 43, 42, 16, 10, 188, 10, 181, 0, 46, 42, 16, 10, 188, 10, 181, 0, 49, 42, 16, 56]
abbrev dktX3_init_4 : List UInt8 := dkwX3_init_4 ++ dktX3_init_5
def dkwX3_init_3 : List UInt8 := [188, 10, 181, 0, 34, 42, 16, 10, 188, 10, 181, 0, 37, 42, 16, 8, 188, 10, 181, 0, 40, 42, 16, 8]
abbrev dktX3_init_3 : List UInt8 := dkwX3_init_3 ++ dktX3_init_4
def dkwX3_init_2 : List UInt8 := [188, 10, 181, 0, 25, 42, 16, 6, 188, 10, 181, 0, 28, 42, 16, 10, 188, 10, 181, 0, 31, 42, 16, 10]
abbrev dktX3_init_2 : List UInt8 := dkwX3_init_2 ++ dktX3_init_3
def dkwX3_init_1 : List UInt8 := [188, 10, 181, 0, 16, 42, 16, 6, 188, 10, 181, 0, 19, 42, 16, 6, 188, 10, 181, 0, 22, 42, 16, 6]
abbrev dktX3_init_1 : List UInt8 := dkwX3_init_1 ++ dktX3_init_2
def dkwX3_init_0 : List UInt8 := [42, 183, 0, 3, 42, 16, 9, 188, 10, 181, 0, 9, 42, 16, 6, 188, 10, 181, 0, 13, 42, 16, 6]
abbrev dktX3_init_0 : List UInt8 := dkwX3_init_0 ++ dktX3_init_1
theorem dksX3_init_0 : cX3_init.data.toList.drop 0 = dktX3_init_0 := by decide +kernel
theorem dksX3_init_1 : cX3_init.data.toList.drop 23 = dktX3_init_1 := dk_seg dksX3_init_0 23 rfl rfl
theorem dksX3_init_2 : cX3_init.data.toList.drop 47 = dktX3_init_2 := dk_seg dksX3_init_1 24 rfl rfl
theorem dksX3_init_3 : cX3_init.data.toList.drop 71 = dktX3_init_3 := dk_seg dksX3_init_2 24 rfl rfl
theorem dksX3_init_4 : cX3_init.data.toList.drop 95 = dktX3_init_4 := dk_seg dksX3_init_3 24 rfl rfl
theorem dksX3_init_5 : cX3_init.data.toList.drop 119 = dktX3_init_5 := dk_seg dksX3_init_4 24 rfl rfl
theorem dksX3_init_6 : cX3_init.data.toList.drop 143 = dktX3_init_6 := dk_seg dksX3_init_5 24 rfl rfl
theorem dksX3_init_7 : cX3_init.data.toList.drop 167 = dktX3_init_7 := dk_seg dksX3_init_6 24 rfl rfl
theorem dksX3_init_8 : cX3_init.data.toList.drop 191 = dktX3_init_8 := dk_seg dksX3_init_7 24 rfl rfl
theorem dksX3_init_9 : cX3_init.data.toList.drop 215 = dktX3_init_9 := dk_seg dksX3_init_8 24 rfl rfl
theorem dksX3_init_10 : cX3_init.data.toList.drop 237 = dktX3_init_10 := dk_seg dksX3_init_9 22 rfl rfl
theorem dksX3_init_11 : cX3_init.data.toList.drop 261 = dktX3_init_11 := dk_seg dksX3_init_10 24 rfl rfl
theorem dksX3_init_12 : cX3_init.data.toList.drop 283 = dktX3_init_12 := dk_seg dksX3_init_11 22 rfl rfl
theorem dksX3_init_13 : cX3_init.data.toList.drop 306 = dktX3_init_13 := dk_seg dksX3_init_12 23 rfl rfl
theorem dksX3_init_14 : cX3_init.data.toList.drop 330 = dktX3_init_14 := dk_seg dksX3_init_13 24 rfl rfl
theorem dksX3_init_15 : cX3_init.data.toList.drop 353 = dktX3_init_15 := dk_seg dksX3_init_14 23 rfl rfl
theorem dksX3_init_16 : cX3_init.data.toList.drop 377 = dktX3_init_16 := dk_seg dksX3_init_15 24 rfl rfl
theorem dksX3_init_17 : cX3_init.data.toList.drop 401 = dktX3_init_17 := dk_seg dksX3_init_16 24 rfl rfl
theorem dksX3_init_18 : cX3_init.data.toList.drop 424 = dktX3_init_18 := dk_seg dksX3_init_17 23 rfl rfl
theorem dX3_init_0 : decode cX3_init 0 = .ok (.aload_n 0, 1) := dk_42 (dk_at dksX3_init_0 0 rfl rfl)
theorem dX3_init_1 : decode cX3_init 1 = .ok (.invokespecial 3, 3) := dk_183 0 3 (dk_at dksX3_init_0 1 rfl rfl)
theorem dX3_init_4 : decode cX3_init 4 = .ok (.aload_n 0, 1) := dk_42 (dk_at dksX3_init_0 4 rfl rfl)
theorem dX3_init_5 : decode cX3_init 5 = .ok (.bipush 9, 2) := dk_16 9 (dk_at dksX3_init_0 5 rfl rfl)
theorem dX3_init_7 : decode cX3_init 7 = .ok (.newarray .int, 2) := dk_188_10 (dk_at dksX3_init_0 7 rfl rfl)
theorem dX3_init_9 : decode cX3_init 9 = .ok (.putfield 9, 3) := dk_181 0 9 (dk_at dksX3_init_0 9 rfl rfl)
theorem dX3_init_12 : decode cX3_init 12 = .ok (.aload_n 0, 1) := dk_42 (dk_at dksX3_init_0 12 rfl rfl)
theorem dX3_init_13 : decode cX3_init 13 = .ok (.bipush 6, 2) := dk_16 6 (dk_at dksX3_init_0 13 rfl rfl)
theorem dX3_init_15 : decode cX3_init 15 = .ok (.newarray .int, 2) := dk_188_10 (dk_at dksX3_init_0 15 rfl rfl)
theorem dX3_init_17 : decode cX3_init 17 = .ok (.putfield 13, 3) := dk_181 0 13 (dk_at dksX3_init_0 17 rfl rfl)
theorem dX3_init_20 : decode cX3_init 20 = .ok (.aload_n 0, 1) := dk_42 (dk_at dksX3_init_0 20 rfl rfl)
theorem dX3_init_21 : decode cX3_init 21 = .ok (.bipush 6, 2) := dk_16 6 (dk_at dksX3_init_0 21 rfl rfl)
theorem dX3_init_23 : decode cX3_init 23 = .ok (.newarray .int, 2) := dk_188_10 (dk_at dksX3_init_1 0 rfl rfl)
theorem dX3_init_25 : decode cX3_init 25 = .ok (.putfield 16, 3) := dk_181 0 16 (dk_at dksX3_init_1 2 rfl rfl)
theorem dX3_init_28 : decode cX3_init 28 = .ok (.aload_n 0, 1) := dk_42 (dk_at dksX3_init_1 5 rfl rfl)
theorem dX3_init_29 : decode cX3_init 29 = .ok (.bipush 6, 2) := dk_16 6 (dk_at dksX3_init_1 6 rfl rfl)
theorem dX3_init_31 : decode cX3_init 31 = .ok (.newarray .int, 2) := dk_188_10 (dk_at dksX3_init_1 8 rfl rfl)
theorem dX3_init_33 : decode cX3_init 33 = .ok (.putfield 19, 3) := dk_181 0 19 (dk_at dksX3_init_1 10 rfl rfl)
theorem dX3_init_36 : decode cX3_init 36 = .ok (.aload_n 0, 1) := dk_42 (dk_at dksX3_init_1 13 rfl rfl)
theorem dX3_init_37 : decode cX3_init 37 = .ok (.bipush 6, 2) := dk_16 6 (dk_at dksX3_init_1 14 rfl rfl)
theorem dX3_init_39 : decode cX3_init 39 = .ok (.newarray .int, 2) := dk_188_10 (dk_at dksX3_init_1 16 rfl rfl)
theorem dX3_init_41 : decode cX3_init 41 = .ok (.putfield 22, 3) := dk_181 0 22 (dk_at dksX3_init_1 18 rfl rfl)
theorem dX3_init_44 : decode cX3_init 44 = .ok (.aload_n 0, 1) := dk_42 (dk_at dksX3_init_1 21 rfl rfl)
theorem dX3_init_45 : decode cX3_init 45 = .ok (.bipush 6, 2) := dk_16 6 (dk_at dksX3_init_1 22 rfl rfl)
theorem dX3_init_47 : decode cX3_init 47 = .ok (.newarray .int, 2) := dk_188_10 (dk_at dksX3_init_2 0 rfl rfl)
theorem dX3_init_49 : decode cX3_init 49 = .ok (.putfield 25, 3) := dk_181 0 25 (dk_at dksX3_init_2 2 rfl rfl)
theorem dX3_init_52 : decode cX3_init 52 = .ok (.aload_n 0, 1) := dk_42 (dk_at dksX3_init_2 5 rfl rfl)
theorem dX3_init_53 : decode cX3_init 53 = .ok (.bipush 6, 2) := dk_16 6 (dk_at dksX3_init_2 6 rfl rfl)
theorem dX3_init_55 : decode cX3_init 55 = .ok (.newarray .int, 2) := dk_188_10 (dk_at dksX3_init_2 8 rfl rfl)
theorem dX3_init_57 : decode cX3_init 57 = .ok (.putfield 28, 3) := dk_181 0 28 (dk_at dksX3_init_2 10 rfl rfl)
theorem dX3_init_60 : decode cX3_init 60 = .ok (.aload_n 0, 1) := dk_42 (dk_at dksX3_init_2 13 rfl rfl)
theorem dX3_init_61 : decode cX3_init 61 = .ok (.bipush 10, 2) := dk_16 10 (dk_at dksX3_init_2 14 rfl rfl)
theorem dX3_init_63 : decode cX3_init 63 = .ok (.newarray .int, 2) := dk_188_10 (dk_at dksX3_init_2 16 rfl rfl)
theorem dX3_init_65 : decode cX3_init 65 = .ok (.putfield 31, 3) := dk_181 0 31 (dk_at dksX3_init_2 18 rfl rfl)
theorem dX3_init_68 : decode cX3_init 68 = .ok (.aload_n 0, 1) := dk_42 (dk_at dksX3_init_2 21 rfl rfl)
theorem dX3_init_69 : decode cX3_init 69 = .ok (.bipush 10, 2) := dk_16 10 (dk_at dksX3_init_2 22 rfl rfl)
theorem dX3_init_71 : decode cX3_init 71 = .ok (.newarray .int, 2) := dk_188_10 (dk_at dksX3_init_3 0 rfl rfl)
theorem dX3_init_73 : decode cX3_init 73 = .ok (.putfield 34, 3) := dk_181 0 34 (dk_at dksX3_init_3 2 rfl rfl)
theorem dX3_init_76 : decode cX3_init 76 = .ok (.aload_n 0, 1) := dk_42 (dk_at dksX3_init_3 5 rfl rfl)
theorem dX3_init_77 : decode cX3_init 77 = .ok (.bipush 10, 2) := dk_16 10 (dk_at dksX3_init_3 6 rfl rfl)
theorem dX3_init_79 : decode cX3_init 79 = .ok (.newarray .int, 2) := dk_188_10 (dk_at dksX3_init_3 8 rfl rfl)
theorem dX3_init_81 : decode cX3_init 81 = .ok (.putfield 37, 3) := dk_181 0 37 (dk_at dksX3_init_3 10 rfl rfl)
theorem dX3_init_84 : decode cX3_init 84 = .ok (.aload_n 0, 1) := dk_42 (dk_at dksX3_init_3 13 rfl rfl)
theorem dX3_init_85 : decode cX3_init 85 = .ok (.bipush 8, 2) := dk_16 8 (dk_at dksX3_init_3 14 rfl rfl)
theorem dX3_init_87 : decode cX3_init 87 = .ok (.newarray .int, 2) := dk_188_10 (dk_at dksX3_init_3 16 rfl rfl)
theorem dX3_init_89 : decode cX3_init 89 = .ok (.putfield 40, 3) := dk_181 0 40 (dk_at dksX3_init_3 18 rfl rfl)
theorem dX3_init_92 : decode cX3_init 92 = .ok (.aload_n 0, 1) := dk_42 (dk_at dksX3_init_3 21 rfl rfl)
theorem dX3_init_93 : decode cX3_init 93 = .ok (.bipush 8, 2) := dk_16 8 (dk_at dksX3_init_3 22 rfl rfl)
theorem dX3_init_95 : decode cX3_init 95 = .ok (.newarray .int, 2) := dk_188_10 (dk_at dksX3_init_4 0 rfl rfl)
theorem dX3_init_97 : decode cX3_init 97 = .ok (.putfield 43, 3) := dk_181 0 43 (dk_at dksX3_init_4 2 rfl rfl)
theorem dX3_init_100 : decode cX3_init 100 = .ok (.aload_n 0, 1) := dk_42 (dk_at dksX3_init_4 5 rfl rfl)
theorem dX3_init_101 : decode cX3_init 101 = .ok (.bipush 10, 2) := dk_16 10 (dk_at dksX3_init_4 6 rfl rfl)
theorem dX3_init_103 : decode cX3_init 103 = .ok (.newarray .int, 2) := dk_188_10 (dk_at dksX3_init_4 8 rfl rfl)
theorem dX3_init_105 : decode cX3_init 105 = .ok (.putfield 46, 3) := dk_181 0 46 (dk_at dksX3_init_4 10 rfl rfl)
theorem dX3_init_108 : decode cX3_init 108 = .ok (.aload_n 0, 1) := dk_42 (dk_at dksX3_init_4 13 rfl rfl)
theorem dX3_init_109 : decode cX3_init 109 = .ok (.bipush 10, 2) := dk_16 10 (dk_at dksX3_init_4 14 rfl rfl)
theorem dX3_init_111 : decode cX3_init 111 = .ok (.newarray .int, 2) := dk_188_10 (dk_at dksX3_init_4 16 rfl rfl)
theorem dX3_init_113 : decode cX3_init 113 = .ok (.putfield 49, 3) := dk_181 0 49 (dk_at dksX3_init_4 18 rfl rfl)
theorem dX3_init_116 : decode cX3_init 116 = .ok (.aload_n 0, 1) := dk_42 (dk_at dksX3_init_4 21 rfl rfl)
theorem dX3_init_117 : decode cX3_init 117 = .ok (.bipush 56, 2) := dk_16 56 (dk_at dksX3_init_4 22 rfl rfl)
theorem dX3_init_119 : decode cX3_init 119 = .ok (.newarray .int, 2) := dk_188_10 (dk_at dksX3_init_5 0 rfl rfl)
theorem dX3_init_121 : decode cX3_init 121 = .ok (.putfield 52, 3) := dk_181 0 52 (dk_at dksX3_init_5 2 rfl rfl)
theorem dX3_init_124 : decode cX3_init 124 = .ok (.aload_n 0, 1) := dk_42 (dk_at dksX3_init_5 5 rfl rfl)
theorem dX3_init_125 : decode cX3_init 125 = .ok (.bipush 6, 2) := dk_16 6 (dk_at dksX3_init_5 6 rfl rfl)
theorem dX3_init_127 : decode cX3_init 127 = .ok (.newarray .int, 2) := dk_188_10 (dk_at dksX3_init_5 8 rfl rfl)
theorem dX3_init_129 : decode cX3_init 129 = .ok (.putfield 55, 3) := dk_181 0 55 (dk_at dksX3_init_5 10 rfl rfl)
theorem dX3_init_132 : decode cX3_init 132 = .ok (.aload_n 0, 1) := dk_42 (dk_at dksX3_init_5 13 rfl rfl)
theorem dX3_init_133 : decode cX3_init 133 = .ok (.bipush 6, 2) := dk_16 6 (dk_at dksX3_init_5 14 rfl rfl)
theorem dX3_init_135 : decode cX3_init 135 = .ok (.newarray .int, 2) := dk_188_10 (dk_at dksX3_init_5 16 rfl rfl)
theorem dX3_init_137 : decode cX3_init 137 = .ok (.putfield 58, 3) := dk_181 0 58 (dk_at dksX3_init_5 18 rfl rfl)
theorem dX3_init_140 : decode cX3_init 140 = .ok (.aload_n 0, 1) := dk_42 (dk_at dksX3_init_5 21 rfl rfl)
theorem dX3_init_141 : decode cX3_init 141 = .ok (.bipush 6, 2) := dk_16 6 (dk_at dksX3_init_5 22 rfl rfl)
theorem dX3_init_143 : decode cX3_init 143 = .ok (.newarray .int, 2) := dk_188_10 (dk_at dksX3_init_6 0 rfl rfl)
theorem dX3_init_145 : decode cX3_init 145 = .ok (.putfield 61, 3) := dk_181 0 61 (dk_at dksX3_init_6 2 rfl rfl)
theorem dX3_init_148 : decode cX3_init 148 = .ok (.aload_n 0, 1) := dk_42 (dk_at dksX3_init_6 5 rfl rfl)
theorem dX3_init_149 : decode cX3_init 149 = .ok (.bipush 6, 2) := dk_16 6 (dk_at dksX3_init_6 6 rfl rfl)
theorem dX3_init_151 : decode cX3_init 151 = .ok (.newarray .int, 2) := dk_188_10 (dk_at dksX3_init_6 8 rfl rfl)
theorem dX3_init_153 : decode cX3_init 153 = .ok (.putfield 64, 3) := dk_181 0 64 (dk_at dksX3_init_6 10 rfl rfl)
theorem dX3_init_156 : decode cX3_init 156 = .ok (.aload_n 0, 1) := dk_42 (dk_at dksX3_init_6 13 rfl rfl)
theorem dX3_init_157 : decode cX3_init 157 = .ok (.bipush 6, 2) := dk_16 6 (dk_at dksX3_init_6 14 rfl rfl)
theorem dX3_init_159 : decode cX3_init 159 = .ok (.newarray .int, 2) := dk_188_10 (dk_at dksX3_init_6 16 rfl rfl)
theorem dX3_init_161 : decode cX3_init 161 = .ok (.putfield 67, 3) := dk_181 0 67 (dk_at dksX3_init_6 18 rfl rfl)
theorem dX3_init_164 : decode cX3_init 164 = .ok (.aload_n 0, 1) := dk_42 (dk_at dksX3_init_6 21 rfl rfl)
theorem dX3_init_165 : decode cX3_init 165 = .ok (.bipush 6, 2) := dk_16 6 (dk_at dksX3_init_6 22 rfl rfl)
theorem dX3_init_167 : decode cX3_init 167 = .ok (.newarray .int, 2) := dk_188_10 (dk_at dksX3_init_7 0 rfl rfl)
theorem dX3_init_169 : decode cX3_init 169 = .ok (.putfield 70, 3) := dk_181 0 70 (dk_at dksX3_init_7 2 rfl rfl)
theorem dX3_init_172 : decode cX3_init 172 = .ok (.aload_n 0, 1) := dk_42 (dk_at dksX3_init_7 5 rfl rfl)
theorem dX3_init_173 : decode cX3_init 173 = .ok (.bipush 10, 2) := dk_16 10 (dk_at dksX3_init_7 6 rfl rfl)
theorem dX3_init_175 : decode cX3_init 175 = .ok (.newarray .int, 2) := dk_188_10 (dk_at dksX3_init_7 8 rfl rfl)
theorem dX3_init_177 : decode cX3_init 177 = .ok (.putfield 73, 3) := dk_181 0 73 (dk_at dksX3_init_7 10 rfl rfl)
theorem dX3_init_180 : decode cX3_init 180 = .ok (.aload_n 0, 1) := dk_42 (dk_at dksX3_init_7 13 rfl rfl)
theorem dX3_init_181 : decode cX3_init 181 = .ok (.bipush 10, 2) := dk_16 10 (dk_at dksX3_init_7 14 rfl rfl)
theorem dX3_init_183 : decode cX3_init 183 = .ok (.newarray .int, 2) := dk_188_10 (dk_at dksX3_init_7 16 rfl rfl)
theorem dX3_init_185 : decode cX3_init 185 = .ok (.putfield 76, 3) := dk_181 0 76 (dk_at dksX3_init_7 18 rfl rfl)
theorem dX3_init_188 : decode cX3_init 188 = .ok (.aload_n 0, 1) := dk_42 (dk_at dksX3_init_7 21 rfl rfl)
theorem dX3_init_189 : decode cX3_init 189 = .ok (.bipush 10, 2) := dk_16 10 (dk_at dksX3_init_7 22 rfl rfl)
theorem dX3_init_191 : decode cX3_init 191 = .ok (.newarray .int, 2) := dk_188_10 (dk_at dksX3_init_8 0 rfl rfl)
theorem dX3_init_193 : decode cX3_init 193 = .ok (.putfield 79, 3) := dk_181 0 79 (dk_at dksX3_init_8 2 rfl rfl)
theorem dX3_init_196 : decode cX3_init 196 = .ok (.aload_n 0, 1) := dk_42 (dk_at dksX3_init_8 5 rfl rfl)
theorem dX3_init_197 : decode cX3_init 197 = .ok (.bipush 8, 2) := dk_16 8 (dk_at dksX3_init_8 6 rfl rfl)
theorem dX3_init_199 : decode cX3_init 199 = .ok (.newarray .int, 2) := dk_188_10 (dk_at dksX3_init_8 8 rfl rfl)
theorem dX3_init_201 : decode cX3_init 201 = .ok (.putfield 82, 3) := dk_181 0 82 (dk_at dksX3_init_8 10 rfl rfl)
theorem dX3_init_204 : decode cX3_init 204 = .ok (.aload_n 0, 1) := dk_42 (dk_at dksX3_init_8 13 rfl rfl)
theorem dX3_init_205 : decode cX3_init 205 = .ok (.bipush 8, 2) := dk_16 8 (dk_at dksX3_init_8 14 rfl rfl)
theorem dX3_init_207 : decode cX3_init 207 = .ok (.newarray .int, 2) := dk_188_10 (dk_at dksX3_init_8 16 rfl rfl)
theorem dX3_init_209 : decode cX3_init 209 = .ok (.putfield 85, 3) := dk_181 0 85 (dk_at dksX3_init_8 18 rfl rfl)
theorem dX3_init_212 : decode cX3_init 212 = .ok (.aload_n 0, 1) := dk_42 (dk_at dksX3_init_8 21 rfl rfl)
theorem dX3_init_213 : decode cX3_init 213 = .ok (.bipush 10, 2) := dk_16 10 (dk_at dksX3_init_8 22 rfl rfl)
theorem dX3_init_215 : decode cX3_init 215 = .ok (.putfield 88, 3) := dk_181 0 88 (dk_at dksX3_init_9 0 rfl rfl)
theorem dX3_init_218 : decode cX3_init 218 = .ok (.aload_n 0, 1) := dk_42 (dk_at dksX3_init_9 3 rfl rfl)
theorem dX3_init_219 : decode cX3_init 219 = .ok (.sipush 400, 3) := dk_17 1 144 (dk_at dksX3_init_9 4 rfl rfl)
theorem dX3_init_222 : decode cX3_init 222 = .ok (.newarray .byte, 2) := dk_188_8 (dk_at dksX3_init_9 7 rfl rfl)
theorem dX3_init_224 : decode cX3_init 224 = .ok (.putfield 92, 3) := dk_181 0 92 (dk_at dksX3_init_9 9 rfl rfl)
theorem dX3_init_227 : decode cX3_init 227 = .ok (.aload_n 0, 1) := dk_42 (dk_at dksX3_init_9 12 rfl rfl)
theorem dX3_init_228 : decode cX3_init 228 = .ok (.sipush 1800, 3) := dk_17 7 8 (dk_at dksX3_init_9 13 rfl rfl)
theorem dX3_init_231 : decode cX3_init 231 = .ok (.newarray .int, 2) := dk_188_10 (dk_at dksX3_init_9 16 rfl rfl)
theorem dX3_init_233 : decode cX3_init 233 = .ok (.putfield 96, 3) := dk_181 0 96 (dk_at dksX3_init_9 18 rfl rfl)
theorem dX3_init_236 : decode cX3_init 236 = .ok (.aload_n 0, 1) := dk_42 (dk_at dksX3_init_9 21 rfl rfl)
theorem dX3_init_237 : decode cX3_init 237 = .ok (.sipush 1800, 3) := dk_17 7 8 (dk_at dksX3_init_10 0 rfl rfl)
theorem dX3_init_240 : decode cX3_init 240 = .ok (.newarray .int, 2) := dk_188_10 (dk_at dksX3_init_10 3 rfl rfl)
theorem dX3_init_242 : decode cX3_init 242 = .ok (.putfield 99, 3) := dk_181 0 99 (dk_at dksX3_init_10 5 rfl rfl)
theorem dX3_init_245 : decode cX3_init 245 = .ok (.aload_n 0, 1) := dk_42 (dk_at dksX3_init_10 8 rfl rfl)
theorem dX3_init_246 : decode cX3_init 246 = .ok (.bipush 6, 2) := dk_16 6 (dk_at dksX3_init_10 9 rfl rfl)
theorem dX3_init_248 : decode cX3_init 248 = .ok (.newarray .int, 2) := dk_188_10 (dk_at dksX3_init_10 11 rfl rfl)
theorem dX3_init_250 : decode cX3_init 250 = .ok (.putfield 102, 3) := dk_181 0 102 (dk_at dksX3_init_10 13 rfl rfl)
theorem dX3_init_253 : decode cX3_init 253 = .ok (.aload_n 0, 1) := dk_42 (dk_at dksX3_init_10 16 rfl rfl)
theorem dX3_init_254 : decode cX3_init 254 = .ok (.bipush 72, 2) := dk_16 72 (dk_at dksX3_init_10 17 rfl rfl)
theorem dX3_init_256 : decode cX3_init 256 = .ok (.newarray .int, 2) := dk_188_10 (dk_at dksX3_init_10 19 rfl rfl)
theorem dX3_init_258 : decode cX3_init 258 = .ok (.putfield 105, 3) := dk_181 0 105 (dk_at dksX3_init_10 21 rfl rfl)
theorem dX3_init_261 : decode cX3_init 261 = .ok (.aload_n 0, 1) := dk_42 (dk_at dksX3_init_11 0 rfl rfl)
theorem dX3_init_262 : decode cX3_init 262 = .ok (.bipush 72, 2) := dk_16 72 (dk_at dksX3_init_11 1 rfl rfl)
theorem dX3_init_264 : decode cX3_init 264 = .ok (.newarray .int, 2) := dk_188_10 (dk_at dksX3_init_11 3 rfl rfl)
theorem dX3_init_266 : decode cX3_init 266 = .ok (.putfield 108, 3) := dk_181 0 108 (dk_at dksX3_init_11 5 rfl rfl)
theorem dX3_init_269 : decode cX3_init 269 = .ok (.aload_n 0, 1) := dk_42 (dk_at dksX3_init_11 8 rfl rfl)
theorem dX3_init_270 : decode cX3_init 270 = .ok (.bipush 72, 2) := dk_16 72 (dk_at dksX3_init_11 9 rfl rfl)
theorem dX3_init_272 : decode cX3_init 272 = .ok (.newarray .int, 2) := dk_188_10 (dk_at dksX3_init_11 11 rfl rfl)
theorem dX3_init_274 : decode cX3_init 274 = .ok (.putfield 111, 3) := dk_181 0 111 (dk_at dksX3_init_11 13 rfl rfl)
theorem dX3_init_277 : decode cX3_init 277 = .ok (.aload_n 0, 1) := dk_42 (dk_at dksX3_init_11 16 rfl rfl)
theorem dX3_init_278 : decode cX3_init 278 = .ok (.sipush 402, 3) := dk_17 1 146 (dk_at dksX3_init_11 17 rfl rfl)
theorem dX3_init_281 : decode cX3_init 281 = .ok (.newarray .int, 2) := dk_188_10 (dk_at dksX3_init_11 20 rfl rfl)
theorem dX3_init_283 : decode cX3_init 283 = .ok (.putfield 114, 3) := dk_181 0 114 (dk_at dksX3_init_12 0 rfl rfl)
theorem dX3_init_286 : decode cX3_init 286 = .ok (.aload_n 0, 1) := dk_42 (dk_at dksX3_init_12 3 rfl rfl)
theorem dX3_init_287 : decode cX3_init 287 = .ok (.sipush 192, 3) := dk_17 0 192 (dk_at dksX3_init_12 4 rfl rfl)
theorem dX3_init_290 : decode cX3_init 290 = .ok (.newarray .int, 2) := dk_188_10 (dk_at dksX3_init_12 7 rfl rfl)
theorem dX3_init_292 : decode cX3_init 292 = .ok (.putfield 117, 3) := dk_181 0 117 (dk_at dksX3_init_12 9 rfl rfl)
theorem dX3_init_295 : decode cX3_init 295 = .ok (.aload_n 0, 1) := dk_42 (dk_at dksX3_init_12 12 rfl rfl)
theorem dX3_init_296 : decode cX3_init 296 = .ok (.bipush 88, 2) := dk_16 88 (dk_at dksX3_init_12 13 rfl rfl)
theorem dX3_init_298 : decode cX3_init 298 = .ok (.newarray .int, 2) := dk_188_10 (dk_at dksX3_init_12 15 rfl rfl)
theorem dX3_init_300 : decode cX3_init 300 = .ok (.putfield 120, 3) := dk_181 0 120 (dk_at dksX3_init_12 17 rfl rfl)
theorem dX3_init_303 : decode cX3_init 303 = .ok (.aload_n 0, 1) := dk_42 (dk_at dksX3_init_12 20 rfl rfl)
theorem dX3_init_304 : decode cX3_init 304 = .ok (.bipush 88, 2) := dk_16 88 (dk_at dksX3_init_12 21 rfl rfl)
theorem dX3_init_306 : decode cX3_init 306 = .ok (.newarray .int, 2) := dk_188_10 (dk_at dksX3_init_13 0 rfl rfl)
theorem dX3_init_308 : decode cX3_init 308 = .ok (.putfield 123, 3) := dk_181 0 123 (dk_at dksX3_init_13 2 rfl rfl)
theorem dX3_init_311 : decode cX3_init 311 = .ok (.aload_n 0, 1) := dk_42 (dk_at dksX3_init_13 5 rfl rfl)
theorem dX3_init_312 : decode cX3_init 312 = .ok (.bipush 8, 2) := dk_16 8 (dk_at dksX3_init_13 6 rfl rfl)
theorem dX3_init_314 : decode cX3_init 314 = .ok (.newarray .int, 2) := dk_188_10 (dk_at dksX3_init_13 8 rfl rfl)
theorem dX3_init_316 : decode cX3_init 316 = .ok (.putfield 126, 3) := dk_181 0 126 (dk_at dksX3_init_13 10 rfl rfl)
theorem dX3_init_319 : decode cX3_init 319 = .ok (.aload_n 0, 1) := dk_42 (dk_at dksX3_init_13 13 rfl rfl)
theorem dX3_init_320 : decode cX3_init 320 = .ok (.bipush 11, 2) := dk_16 11 (dk_at dksX3_init_13 14 rfl rfl)
theorem dX3_init_322 : decode cX3_init 322 = .ok (.newarray .int, 2) := dk_188_10 (dk_at dksX3_init_13 16 rfl rfl)
theorem dX3_init_324 : decode cX3_init 324 = .ok (.putfield 129, 3) := dk_181 0 129 (dk_at dksX3_init_13 18 rfl rfl)
theorem dX3_init_327 : decode cX3_init 327 = .ok (.aload_n 0, 1) := dk_42 (dk_at dksX3_init_13 21 rfl rfl)
theorem dX3_init_328 : decode cX3_init 328 = .ok (.bipush 10, 2) := dk_16 10 (dk_at dksX3_init_13 22 rfl rfl)
theorem dX3_init_330 : decode cX3_init 330 = .ok (.newarray .long, 2) := dk_188_11 (dk_at dksX3_init_14 0 rfl rfl)
theorem dX3_init_332 : decode cX3_init 332 = .ok (.putfield 132, 3) := dk_181 0 132 (dk_at dksX3_init_14 2 rfl rfl)
theorem dX3_init_335 : decode cX3_init 335 = .ok (.aload_n 0, 1) := dk_42 (dk_at dksX3_init_14 5 rfl rfl)
theorem dX3_init_336 : decode cX3_init 336 = .ok (.sipush 300, 3) := dk_17 1 44 (dk_at dksX3_init_14 6 rfl rfl)
theorem dX3_init_339 : decode cX3_init 339 = .ok (.newarray .long, 2) := dk_188_11 (dk_at dksX3_init_14 9 rfl rfl)
theorem dX3_init_341 : decode cX3_init 341 = .ok (.putfield 136, 3) := dk_181 0 136 (dk_at dksX3_init_14 11 rfl rfl)
theorem dX3_init_344 : decode cX3_init 344 = .ok (.aload_n 0, 1) := dk_42 (dk_at dksX3_init_14 14 rfl rfl)
theorem dX3_init_345 : decode cX3_init 345 = .ok (.bipush 36, 2) := dk_16 36 (dk_at dksX3_init_14 15 rfl rfl)
theorem dX3_init_347 : decode cX3_init 347 = .ok (.newarray .int, 2) := dk_188_10 (dk_at dksX3_init_14 17 rfl rfl)
theorem dX3_init_349 : decode cX3_init 349 = .ok (.putfield 139, 3) := dk_181 0 139 (dk_at dksX3_init_14 19 rfl rfl)
theorem dX3_init_352 : decode cX3_init 352 = .ok (.aload_n 0, 1) := dk_42 (dk_at dksX3_init_14 22 rfl rfl)
theorem dX3_init_353 : decode cX3_init 353 = .ok (.sipush 1520, 3) := dk_17 5 240 (dk_at dksX3_init_15 0 rfl rfl)
theorem dX3_init_356 : decode cX3_init 356 = .ok (.newarray .int, 2) := dk_188_10 (dk_at dksX3_init_15 3 rfl rfl)
theorem dX3_init_358 : decode cX3_init 358 = .ok (.putfield 142, 3) := dk_181 0 142 (dk_at dksX3_init_15 5 rfl rfl)
theorem dX3_init_361 : decode cX3_init 361 = .ok (.aload_n 0, 1) := dk_42 (dk_at dksX3_init_15 8 rfl rfl)
theorem dX3_init_362 : decode cX3_init 362 = .ok (.iconst 1, 1) := dk_4 (dk_at dksX3_init_15 9 rfl rfl)
theorem dX3_init_363 : decode cX3_init 363 = .ok (.newarray .int, 2) := dk_188_10 (dk_at dksX3_init_15 10 rfl rfl)
theorem dX3_init_365 : decode cX3_init 365 = .ok (.putfield 145, 3) := dk_181 0 145 (dk_at dksX3_init_15 12 rfl rfl)
theorem dX3_init_368 : decode cX3_init 368 = .ok (.aload_n 0, 1) := dk_42 (dk_at dksX3_init_15 15 rfl rfl)
theorem dX3_init_369 : decode cX3_init 369 = .ok (.bipush 8, 2) := dk_16 8 (dk_at dksX3_init_15 16 rfl rfl)
theorem dX3_init_371 : decode cX3_init 371 = .ok (.newarray .int, 2) := dk_188_10 (dk_at dksX3_init_15 18 rfl rfl)
theorem dX3_init_373 : decode cX3_init 373 = .ok (.putfield 148, 3) := dk_181 0 148 (dk_at dksX3_init_15 20 rfl rfl)
theorem dX3_init_376 : decode cX3_init 376 = .ok (.aload_n 0, 1) := dk_42 (dk_at dksX3_init_15 23 rfl rfl)
theorem dX3_init_377 : decode cX3_init 377 = .ok (.bipush 6, 2) := dk_16 6 (dk_at dksX3_init_16 0 rfl rfl)
theorem dX3_init_379 : decode cX3_init 379 = .ok (.newarray .int, 2) := dk_188_10 (dk_at dksX3_init_16 2 rfl rfl)
theorem dX3_init_381 : decode cX3_init 381 = .ok (.putfield 151, 3) := dk_181 0 151 (dk_at dksX3_init_16 4 rfl rfl)
theorem dX3_init_384 : decode cX3_init 384 = .ok (.aload_n 0, 1) := dk_42 (dk_at dksX3_init_16 7 rfl rfl)
theorem dX3_init_385 : decode cX3_init 385 = .ok (.iconst 5, 1) := dk_8 (dk_at dksX3_init_16 8 rfl rfl)
theorem dX3_init_386 : decode cX3_init 386 = .ok (.newarray .int, 2) := dk_188_10 (dk_at dksX3_init_16 9 rfl rfl)
theorem dX3_init_388 : decode cX3_init 388 = .ok (.putfield 154, 3) := dk_181 0 154 (dk_at dksX3_init_16 11 rfl rfl)
theorem dX3_init_391 : decode cX3_init 391 = .ok (.aload_n 0, 1) := dk_42 (dk_at dksX3_init_16 14 rfl rfl)
theorem dX3_init_392 : decode cX3_init 392 = .ok (.iconst 5, 1) := dk_8 (dk_at dksX3_init_16 15 rfl rfl)
theorem dX3_init_393 : decode cX3_init 393 = .ok (.newarray .int, 2) := dk_188_10 (dk_at dksX3_init_16 16 rfl rfl)
theorem dX3_init_395 : decode cX3_init 395 = .ok (.putfield 157, 3) := dk_181 0 157 (dk_at dksX3_init_16 18 rfl rfl)
theorem dX3_init_398 : decode cX3_init 398 = .ok (.aload_n 0, 1) := dk_42 (dk_at dksX3_init_16 21 rfl rfl)
theorem dX3_init_399 : decode cX3_init 399 = .ok (.bipush 40, 2) := dk_16 40 (dk_at dksX3_init_16 22 rfl rfl)
theorem dX3_init_401 : decode cX3_init 401 = .ok (.newarray .int, 2) := dk_188_10 (dk_at dksX3_init_17 0 rfl rfl)
theorem dX3_init_403 : decode cX3_init 403 = .ok (.putfield 160, 3) := dk_181 0 160 (dk_at dksX3_init_17 2 rfl rfl)
theorem dX3_init_406 : decode cX3_init 406 = .ok (.aload_n 0, 1) := dk_42 (dk_at dksX3_init_17 5 rfl rfl)
theorem dX3_init_407 : decode cX3_init 407 = .ok (.sipush 384, 3) := dk_17 1 128 (dk_at dksX3_init_17 6 rfl rfl)
theorem dX3_init_410 : decode cX3_init 410 = .ok (.newarray .int, 2) := dk_188_10 (dk_at dksX3_init_17 9 rfl rfl)
theorem dX3_init_412 : decode cX3_init 412 = .ok (.putfield 163, 3) := dk_181 0 163 (dk_at dksX3_init_17 11 rfl rfl)
theorem dX3_init_415 : decode cX3_init 415 = .ok (.aload_n 0, 1) := dk_42 (dk_at dksX3_init_17 14 rfl rfl)
theorem dX3_init_416 : decode cX3_init 416 = .ok (.bipush 24, 2) := dk_16 24 (dk_at dksX3_init_17 15 rfl rfl)
theorem dX3_init_418 : decode cX3_init 418 = .ok (.newarray .int, 2) := dk_188_10 (dk_at dksX3_init_17 17 rfl rfl)
theorem dX3_init_420 : decode cX3_init 420 = .ok (.putfield 166, 3) := dk_181 0 166 (dk_at dksX3_init_17 19 rfl rfl)
theorem dX3_init_423 : decode cX3_init 423 = .ok (.aload_n 0, 1) := dk_42 (dk_at dksX3_init_17 22 rfl rfl)
theorem dX3_init_424 : decode cX3_init 424 = .ok (.sipush 8800, 3) := dk_17 34 96 (dk_at dksX3_init_18 0 rfl rfl)
theorem dX3_init_427 : decode cX3_init 427 = .ok (.newarray .int, 2) := dk_188_10 (dk_at dksX3_init_18 3 rfl rfl)
theorem dX3_init_429 : decode cX3_init 429 = .ok (.putfield 169, 3) := dk_181 0 169 (dk_at dksX3_init_18 5 rfl rfl)
theorem dX3_init_432 : decode cX3_init 432 = .ok (.aload_n 0, 1) := dk_42 (dk_at dksX3_init_18 8 rfl rfl)
theorem dX3_init_433 : decode cX3_init 433 = .ok (.iconst 4, 1) := dk_7 (dk_at dksX3_init_18 9 rfl rfl)
theorem dX3_init_434 : decode cX3_init 434 = .ok (.newarray .boolean, 2) := dk_188_4 (dk_at dksX3_init_18 10 rfl rfl)
theorem dX3_init_436 : decode cX3_init 436 = .ok (.putfield 172, 3) := dk_181 0 172 (dk_at dksX3_init_18 12 rfl rfl)
theorem dX3_init_439 : decode cX3_init 439 = .ok (.return_, 1) := dk_177 (dk_at dksX3_init_18 15 rfl rfl)
abbrev cX3_feed : ByteArray := prog_21_method_13_code
def yX3_feed : MethodName := ⟨RX3, "feed", "(IIIII)I"⟩
def dkwX3_feed_2 : List UInt8 := [172]
abbrev dktX3_feed_2 : List UInt8 := dkwX3_feed_2 ++ []
def dkwX3_feed_1 : List UInt8 := [182, 0, 197, 42, 29, 182, 0, 197, 42, 21, 4, 182, 0, 197, 42, 21, 5, 182, 0, 197, 42, 180, 0, 194]
abbrev dktX3_feed_1 : List UInt8 := dkwX3_feed_1 ++ dktX3_feed_2
def dkwX3_feed_0 : List UInt8 := [42, 180, 0, 194, 16, 20, 96, 17, 1, 144, 164, 0, 5, 2, 172, 42, 27, 182, 0, 197, 42, 28]
abbrev dktX3_feed_0 : List UInt8 := dkwX3_feed_0 ++ dktX3_feed_1
theorem dksX3_feed_0 : cX3_feed.data.toList.drop 0 = dktX3_feed_0 := by decide +kernel
theorem dksX3_feed_1 : cX3_feed.data.toList.drop 22 = dktX3_feed_1 := dk_seg dksX3_feed_0 22 rfl rfl
theorem dksX3_feed_2 : cX3_feed.data.toList.drop 46 = dktX3_feed_2 := dk_seg dksX3_feed_1 24 rfl rfl
theorem dX3_feed_0 : decode cX3_feed 0 = .ok (.aload_n 0, 1) := dk_42 (dk_at dksX3_feed_0 0 rfl rfl)
theorem dX3_feed_1 : decode cX3_feed 1 = .ok (.getfield 194, 3) := dk_180 0 194 (dk_at dksX3_feed_0 1 rfl rfl)
theorem dX3_feed_4 : decode cX3_feed 4 = .ok (.bipush 20, 2) := dk_16 20 (dk_at dksX3_feed_0 4 rfl rfl)
theorem dX3_feed_6 : decode cX3_feed 6 = .ok (.iadd, 1) := dk_96 (dk_at dksX3_feed_0 6 rfl rfl)
theorem dX3_feed_7 : decode cX3_feed 7 = .ok (.sipush 400, 3) := dk_17 1 144 (dk_at dksX3_feed_0 7 rfl rfl)
theorem dX3_feed_10 : decode cX3_feed 10 = .ok (.if_icmp .le 5, 3) := dk_164 0 5 (dk_at dksX3_feed_0 10 rfl rfl)
theorem dX3_feed_13 : decode cX3_feed 13 = .ok (.iconst (-1), 1) := dk_2 (dk_at dksX3_feed_0 13 rfl rfl)
theorem dX3_feed_14 : decode cX3_feed 14 = .ok (.ireturn, 1) := dk_172 (dk_at dksX3_feed_0 14 rfl rfl)
theorem dX3_feed_15 : decode cX3_feed 15 = .ok (.aload_n 0, 1) := dk_42 (dk_at dksX3_feed_0 15 rfl rfl)
theorem dX3_feed_16 : decode cX3_feed 16 = .ok (.iload_n 1, 1) := dk_27 (dk_at dksX3_feed_0 16 rfl rfl)
theorem dX3_feed_17 : decode cX3_feed 17 = .ok (.invokevirtual 197, 3) := dk_182 0 197 (dk_at dksX3_feed_0 17 rfl rfl)
theorem dX3_feed_20 : decode cX3_feed 20 = .ok (.aload_n 0, 1) := dk_42 (dk_at dksX3_feed_0 20 rfl rfl)
theorem dX3_feed_21 : decode cX3_feed 21 = .ok (.iload_n 2, 1) := dk_28 (dk_at dksX3_feed_0 21 rfl rfl)
theorem dX3_feed_22 : decode cX3_feed 22 = .ok (.invokevirtual 197, 3) := dk_182 0 197 (dk_at dksX3_feed_1 0 rfl rfl)
theorem dX3_feed_25 : decode cX3_feed 25 = .ok (.aload_n 0, 1) := dk_42 (dk_at dksX3_feed_1 3 rfl rfl)
theorem dX3_feed_26 : decode cX3_feed 26 = .ok (.iload_n 3, 1) := dk_29 (dk_at dksX3_feed_1 4 rfl rfl)
theorem dX3_feed_27 : decode cX3_feed 27 = .ok (.invokevirtual 197, 3) := dk_182 0 197 (dk_at dksX3_feed_1 5 rfl rfl)
theorem dX3_feed_30 : decode cX3_feed 30 = .ok (.aload_n 0, 1) := dk_42 (dk_at dksX3_feed_1 8 rfl rfl)
theorem dX3_feed_31 : decode cX3_feed 31 = .ok (.iload 4, 2) := dk_21 4 (dk_at dksX3_feed_1 9 rfl rfl)
theorem dX3_feed_33 : decode cX3_feed 33 = .ok (.invokevirtual 197, 3) := dk_182 0 197 (dk_at dksX3_feed_1 11 rfl rfl)
theorem dX3_feed_36 : decode cX3_feed 36 = .ok (.aload_n 0, 1) := dk_42 (dk_at dksX3_feed_1 14 rfl rfl)
theorem dX3_feed_37 : decode cX3_feed 37 = .ok (.iload 5, 2) := dk_21 5 (dk_at dksX3_feed_1 15 rfl rfl)
theorem dX3_feed_39 : decode cX3_feed 39 = .ok (.invokevirtual 197, 3) := dk_182 0 197 (dk_at dksX3_feed_1 17 rfl rfl)
theorem dX3_feed_42 : decode cX3_feed 42 = .ok (.aload_n 0, 1) := dk_42 (dk_at dksX3_feed_1 20 rfl rfl)
theorem dX3_feed_43 : decode cX3_feed 43 = .ok (.getfield 194, 3) := dk_180 0 194 (dk_at dksX3_feed_1 21 rfl rfl)
theorem dX3_feed_46 : decode cX3_feed 46 = .ok (.ireturn, 1) := dk_172 (dk_at dksX3_feed_2 0 rfl rfl)
abbrev cX3_put : ByteArray := prog_21_method_14_code
def yX3_put : MethodName := ⟨RX3, "put", "(I)V"⟩
def dkwX3_put_1 : List UInt8 := [180, 0, 194, 4, 96, 181, 0, 194, 132, 2, 248, 167, 255, 226, 177]
abbrev dktX3_put_1 : List UInt8 := dkwX3_put_1 ++ []
def dkwX3_put_0 : List UInt8 := [16, 24, 61, 28, 155, 0, 32, 42, 180, 0, 92, 42, 180, 0, 194, 27, 28, 122, 145, 84, 42, 89]
abbrev dktX3_put_0 : List UInt8 := dkwX3_put_0 ++ dktX3_put_1
theorem dksX3_put_0 : cX3_put.data.toList.drop 0 = dktX3_put_0 := by decide +kernel
theorem dksX3_put_1 : cX3_put.data.toList.drop 22 = dktX3_put_1 := dk_seg dksX3_put_0 22 rfl rfl
theorem dX3_put_0 : decode cX3_put 0 = .ok (.bipush 24, 2) := dk_16 24 (dk_at dksX3_put_0 0 rfl rfl)
theorem dX3_put_2 : decode cX3_put 2 = .ok (.istore_n 2, 1) := dk_61 (dk_at dksX3_put_0 2 rfl rfl)
theorem dX3_put_3 : decode cX3_put 3 = .ok (.iload_n 2, 1) := dk_28 (dk_at dksX3_put_0 3 rfl rfl)
theorem dX3_put_4 : decode cX3_put 4 = .ok (.ifCond .lt 32, 3) := dk_155 0 32 (dk_at dksX3_put_0 4 rfl rfl)
theorem dX3_put_7 : decode cX3_put 7 = .ok (.aload_n 0, 1) := dk_42 (dk_at dksX3_put_0 7 rfl rfl)
theorem dX3_put_8 : decode cX3_put 8 = .ok (.getfield 92, 3) := dk_180 0 92 (dk_at dksX3_put_0 8 rfl rfl)
theorem dX3_put_11 : decode cX3_put 11 = .ok (.aload_n 0, 1) := dk_42 (dk_at dksX3_put_0 11 rfl rfl)
theorem dX3_put_12 : decode cX3_put 12 = .ok (.getfield 194, 3) := dk_180 0 194 (dk_at dksX3_put_0 12 rfl rfl)
theorem dX3_put_15 : decode cX3_put 15 = .ok (.iload_n 1, 1) := dk_27 (dk_at dksX3_put_0 15 rfl rfl)
theorem dX3_put_16 : decode cX3_put 16 = .ok (.iload_n 2, 1) := dk_28 (dk_at dksX3_put_0 16 rfl rfl)
theorem dX3_put_17 : decode cX3_put 17 = .ok (.ishr, 1) := dk_122 (dk_at dksX3_put_0 17 rfl rfl)
theorem dX3_put_18 : decode cX3_put 18 = .ok (.i2b, 1) := dk_145 (dk_at dksX3_put_0 18 rfl rfl)
theorem dX3_put_19 : decode cX3_put 19 = .ok (.bastore, 1) := dk_84 (dk_at dksX3_put_0 19 rfl rfl)
theorem dX3_put_20 : decode cX3_put 20 = .ok (.aload_n 0, 1) := dk_42 (dk_at dksX3_put_0 20 rfl rfl)
theorem dX3_put_21 : decode cX3_put 21 = .ok (.dup, 1) := dk_89 (dk_at dksX3_put_0 21 rfl rfl)
theorem dX3_put_22 : decode cX3_put 22 = .ok (.getfield 194, 3) := dk_180 0 194 (dk_at dksX3_put_1 0 rfl rfl)
theorem dX3_put_25 : decode cX3_put 25 = .ok (.iconst 1, 1) := dk_4 (dk_at dksX3_put_1 3 rfl rfl)
theorem dX3_put_26 : decode cX3_put 26 = .ok (.iadd, 1) := dk_96 (dk_at dksX3_put_1 4 rfl rfl)
theorem dX3_put_27 : decode cX3_put 27 = .ok (.putfield 194, 3) := dk_181 0 194 (dk_at dksX3_put_1 5 rfl rfl)
theorem dX3_put_30 : decode cX3_put 30 = .ok (.iinc 2 (-8), 3) := dk_132 2 248 (dk_at dksX3_put_1 8 rfl rfl)
theorem dX3_put_33 : decode cX3_put 33 = .ok (.goto (-30), 3) := dk_167 255 226 (dk_at dksX3_put_1 11 rfl rfl)
theorem dX3_put_36 : decode cX3_put 36 = .ok (.return_, 1) := dk_177 (dk_at dksX3_put_1 14 rfl rfl)
abbrev cX3_end : ByteArray := prog_21_method_15_code
def yX3_end : MethodName := ⟨RX3, "end", "(I)I"⟩
def dkwX3_end_0 : List UInt8 := [27, 155, 0, 11, 27, 42, 180, 0, 194, 164, 0, 5, 2, 172, 42, 27, 181, 0, 194, 27, 172]
abbrev dktX3_end_0 : List UInt8 := dkwX3_end_0 ++ []
theorem dksX3_end_0 : cX3_end.data.toList.drop 0 = dktX3_end_0 := by decide +kernel
theorem dX3_end_0 : decode cX3_end 0 = .ok (.iload_n 1, 1) := dk_27 (dk_at dksX3_end_0 0 rfl rfl)
theorem dX3_end_1 : decode cX3_end 1 = .ok (.ifCond .lt 11, 3) := dk_155 0 11 (dk_at dksX3_end_0 1 rfl rfl)
theorem dX3_end_4 : decode cX3_end 4 = .ok (.iload_n 1, 1) := dk_27 (dk_at dksX3_end_0 4 rfl rfl)
theorem dX3_end_5 : decode cX3_end 5 = .ok (.aload_n 0, 1) := dk_42 (dk_at dksX3_end_0 5 rfl rfl)
theorem dX3_end_6 : decode cX3_end 6 = .ok (.getfield 194, 3) := dk_180 0 194 (dk_at dksX3_end_0 6 rfl rfl)
theorem dX3_end_9 : decode cX3_end 9 = .ok (.if_icmp .le 5, 3) := dk_164 0 5 (dk_at dksX3_end_0 9 rfl rfl)
theorem dX3_end_12 : decode cX3_end 12 = .ok (.iconst (-1), 1) := dk_2 (dk_at dksX3_end_0 12 rfl rfl)
theorem dX3_end_13 : decode cX3_end 13 = .ok (.ireturn, 1) := dk_172 (dk_at dksX3_end_0 13 rfl rfl)
theorem dX3_end_14 : decode cX3_end 14 = .ok (.aload_n 0, 1) := dk_42 (dk_at dksX3_end_0 14 rfl rfl)
theorem dX3_end_15 : decode cX3_end 15 = .ok (.iload_n 1, 1) := dk_27 (dk_at dksX3_end_0 15 rfl rfl)
theorem dX3_end_16 : decode cX3_end 16 = .ok (.putfield 194, 3) := dk_181 0 194 (dk_at dksX3_end_0 16 rfl rfl)
theorem dX3_end_19 : decode cX3_end 19 = .ok (.iload_n 1, 1) := dk_27 (dk_at dksX3_end_0 19 rfl rfl)
theorem dX3_end_20 : decode cX3_end 20 = .ok (.ireturn, 1) := dk_172 (dk_at dksX3_end_0 20 rfl rfl)
abbrev cX3_land : ByteArray := prog_21_method_46_code
def yX3_land : MethodName := ⟨RX3, "land", "()I"⟩
def dkwX3_land_13 : List UInt8 := [167, 255, 233, 42, 3, 181, 1, 100, 42, 180, 0, 9, 5, 46, 172]
abbrev dktX3_land_13 : List UInt8 := dkwX3_land_13 ++ []
def dkwX3_land_12 : List UInt8 := [27, 16, 6, 162, 0, 23, 42, 180, 0, 22, 27, 3, 79, 42, 180, 0, 25, 27, 3, 79, 132, 1, 1]
abbrev dktX3_land_12 : List UInt8 := dkwX3_land_12 ++ dktX3_land_13
def dkwX3_land_11 : List UInt8 := [16, 32, 112, 120, 167, 0, 4, 3, 128, 79, 132, 2, 1, 167, 255, 198, 132, 1, 1, 167, 255, 161, 3, 60]
abbrev dktX3_land_11 : List UInt8 := dkwX3_land_11 ++ dktX3_land_12
def dkwX3_land_10 : List UInt8 := [96, 92, 46, 27, 42, 180, 0, 9, 4, 46, 130, 42, 180, 0, 64, 28, 46, 126, 154, 0, 12, 4, 27]
abbrev dktX3_land_10 : List UInt8 := dkwX3_land_10 ++ dktX3_land_11
def dkwX3_land_9 : List UInt8 := [3, 61, 28, 42, 180, 0, 9, 5, 46, 162, 0, 54, 42, 180, 0, 52, 16, 8, 28, 104, 27, 16, 32, 108]
abbrev dktX3_land_9 : List UInt8 := dkwX3_land_9 ++ dktX3_land_10
def dkwX3_land_8 : List UInt8 := [162, 0, 93, 42, 180, 0, 52, 16, 48, 27, 16, 32, 108, 96, 92, 46, 4, 27, 16, 32, 112, 120, 128, 79]
abbrev dktX3_land_8 : List UInt8 := dkwX3_land_8 ++ dktX3_land_9
def dkwX3_land_7 : List UInt8 := [190, 162, 0, 16, 42, 180, 0, 52, 27, 3, 79, 132, 1, 1, 167, 255, 237, 3, 60, 27, 42, 182, 0, 190]
abbrev dktX3_land_7 : List UInt8 := dkwX3_land_7 ++ dktX3_land_8
def dkwX3_land_6 : List UInt8 := [180, 0, 40, 184, 1, 96, 42, 180, 0, 85, 42, 180, 0, 43, 184, 1, 96, 3, 60, 27, 42, 180, 0, 52]
abbrev dktX3_land_6 : List UInt8 := dkwX3_land_6 ++ dktX3_land_7
def dkwX3_land_5 : List UInt8 := [180, 0, 34, 184, 1, 96, 42, 180, 0, 79, 42, 180, 0, 37, 184, 1, 96, 42, 180, 0, 82, 42]
abbrev dktX3_land_5 : List UInt8 := dkwX3_land_5 ++ dktX3_land_6
def dkwX3_land_4 : List UInt8 := [180, 0, 28, 184, 1, 96, 42, 180, 0, 73, 42, 180, 0, 31, 184, 1, 96, 42, 180, 0, 76, 42]
abbrev dktX3_land_4 : List UInt8 := dkwX3_land_4 ++ dktX3_land_5
def dkwX3_land_3 : List UInt8 := [180, 0, 16, 184, 1, 96, 42, 180, 0, 67, 42, 180, 0, 19, 184, 1, 96, 42, 180, 0, 70, 42]
abbrev dktX3_land_3 : List UInt8 := dkwX3_land_3 ++ dktX3_land_4
def dkwX3_land_2 : List UInt8 := [79, 132, 1, 1, 167, 255, 225, 42, 180, 0, 58, 42, 180, 0, 13, 184, 1, 96, 42, 180, 0, 61, 42]
abbrev dktX3_land_2 : List UInt8 := dkwX3_land_2 ++ dktX3_land_3
def dkwX3_land_1 : List UInt8 := [162, 0, 31, 42, 180, 0, 9, 27, 27, 16, 6, 162, 0, 12, 42, 180, 0, 55, 27, 46, 167, 0, 4, 3]
abbrev dktX3_land_1 : List UInt8 := dkwX3_land_1 ++ dktX3_land_2
def dkwX3_land_0 : List UInt8 := [42, 182, 1, 93, 42, 180, 0, 218, 158, 0, 11, 16, 254, 42, 180, 0, 218, 100, 172, 3, 60, 27, 16, 8]
abbrev dktX3_land_0 : List UInt8 := dkwX3_land_0 ++ dktX3_land_1
theorem dksX3_land_0 : cX3_land.data.toList.drop 0 = dktX3_land_0 := by decide +kernel
theorem dksX3_land_1 : cX3_land.data.toList.drop 24 = dktX3_land_1 := dk_seg dksX3_land_0 24 rfl rfl
theorem dksX3_land_2 : cX3_land.data.toList.drop 48 = dktX3_land_2 := dk_seg dksX3_land_1 24 rfl rfl
theorem dksX3_land_3 : cX3_land.data.toList.drop 71 = dktX3_land_3 := dk_seg dksX3_land_2 23 rfl rfl
theorem dksX3_land_4 : cX3_land.data.toList.drop 93 = dktX3_land_4 := dk_seg dksX3_land_3 22 rfl rfl
theorem dksX3_land_5 : cX3_land.data.toList.drop 115 = dktX3_land_5 := dk_seg dksX3_land_4 22 rfl rfl
theorem dksX3_land_6 : cX3_land.data.toList.drop 137 = dktX3_land_6 := dk_seg dksX3_land_5 22 rfl rfl
theorem dksX3_land_7 : cX3_land.data.toList.drop 161 = dktX3_land_7 := dk_seg dksX3_land_6 24 rfl rfl
theorem dksX3_land_8 : cX3_land.data.toList.drop 185 = dktX3_land_8 := dk_seg dksX3_land_7 24 rfl rfl
theorem dksX3_land_9 : cX3_land.data.toList.drop 209 = dktX3_land_9 := dk_seg dksX3_land_8 24 rfl rfl
theorem dksX3_land_10 : cX3_land.data.toList.drop 233 = dktX3_land_10 := dk_seg dksX3_land_9 24 rfl rfl
theorem dksX3_land_11 : cX3_land.data.toList.drop 256 = dktX3_land_11 := dk_seg dksX3_land_10 23 rfl rfl
theorem dksX3_land_12 : cX3_land.data.toList.drop 280 = dktX3_land_12 := dk_seg dksX3_land_11 24 rfl rfl
theorem dksX3_land_13 : cX3_land.data.toList.drop 303 = dktX3_land_13 := dk_seg dksX3_land_12 23 rfl rfl
theorem dX3_land_0 : decode cX3_land 0 = .ok (.aload_n 0, 1) := dk_42 (dk_at dksX3_land_0 0 rfl rfl)
theorem dX3_land_1 : decode cX3_land 1 = .ok (.invokevirtual 349, 3) := dk_182 1 93 (dk_at dksX3_land_0 1 rfl rfl)
theorem dX3_land_4 : decode cX3_land 4 = .ok (.aload_n 0, 1) := dk_42 (dk_at dksX3_land_0 4 rfl rfl)
theorem dX3_land_5 : decode cX3_land 5 = .ok (.getfield 218, 3) := dk_180 0 218 (dk_at dksX3_land_0 5 rfl rfl)
theorem dX3_land_8 : decode cX3_land 8 = .ok (.ifCond .le 11, 3) := dk_158 0 11 (dk_at dksX3_land_0 8 rfl rfl)
theorem dX3_land_11 : decode cX3_land 11 = .ok (.bipush (-2), 2) := dk_16 254 (dk_at dksX3_land_0 11 rfl rfl)
theorem dX3_land_13 : decode cX3_land 13 = .ok (.aload_n 0, 1) := dk_42 (dk_at dksX3_land_0 13 rfl rfl)
theorem dX3_land_14 : decode cX3_land 14 = .ok (.getfield 218, 3) := dk_180 0 218 (dk_at dksX3_land_0 14 rfl rfl)
theorem dX3_land_17 : decode cX3_land 17 = .ok (.isub, 1) := dk_100 (dk_at dksX3_land_0 17 rfl rfl)
theorem dX3_land_18 : decode cX3_land 18 = .ok (.ireturn, 1) := dk_172 (dk_at dksX3_land_0 18 rfl rfl)
theorem dX3_land_19 : decode cX3_land 19 = .ok (.iconst 0, 1) := dk_3 (dk_at dksX3_land_0 19 rfl rfl)
theorem dX3_land_20 : decode cX3_land 20 = .ok (.istore_n 1, 1) := dk_60 (dk_at dksX3_land_0 20 rfl rfl)
theorem dX3_land_21 : decode cX3_land 21 = .ok (.iload_n 1, 1) := dk_27 (dk_at dksX3_land_0 21 rfl rfl)
theorem dX3_land_22 : decode cX3_land 22 = .ok (.bipush 8, 2) := dk_16 8 (dk_at dksX3_land_0 22 rfl rfl)
theorem dX3_land_24 : decode cX3_land 24 = .ok (.if_icmp .ge 31, 3) := dk_162 0 31 (dk_at dksX3_land_1 0 rfl rfl)
theorem dX3_land_27 : decode cX3_land 27 = .ok (.aload_n 0, 1) := dk_42 (dk_at dksX3_land_1 3 rfl rfl)
theorem dX3_land_28 : decode cX3_land 28 = .ok (.getfield 9, 3) := dk_180 0 9 (dk_at dksX3_land_1 4 rfl rfl)
theorem dX3_land_31 : decode cX3_land 31 = .ok (.iload_n 1, 1) := dk_27 (dk_at dksX3_land_1 7 rfl rfl)
theorem dX3_land_32 : decode cX3_land 32 = .ok (.iload_n 1, 1) := dk_27 (dk_at dksX3_land_1 8 rfl rfl)
theorem dX3_land_33 : decode cX3_land 33 = .ok (.bipush 6, 2) := dk_16 6 (dk_at dksX3_land_1 9 rfl rfl)
theorem dX3_land_35 : decode cX3_land 35 = .ok (.if_icmp .ge 12, 3) := dk_162 0 12 (dk_at dksX3_land_1 11 rfl rfl)
theorem dX3_land_38 : decode cX3_land 38 = .ok (.aload_n 0, 1) := dk_42 (dk_at dksX3_land_1 14 rfl rfl)
theorem dX3_land_39 : decode cX3_land 39 = .ok (.getfield 55, 3) := dk_180 0 55 (dk_at dksX3_land_1 15 rfl rfl)
theorem dX3_land_42 : decode cX3_land 42 = .ok (.iload_n 1, 1) := dk_27 (dk_at dksX3_land_1 18 rfl rfl)
theorem dX3_land_43 : decode cX3_land 43 = .ok (.iaload, 1) := dk_46 (dk_at dksX3_land_1 19 rfl rfl)
theorem dX3_land_44 : decode cX3_land 44 = .ok (.goto 4, 3) := dk_167 0 4 (dk_at dksX3_land_1 20 rfl rfl)
theorem dX3_land_47 : decode cX3_land 47 = .ok (.iconst 0, 1) := dk_3 (dk_at dksX3_land_1 23 rfl rfl)
theorem dX3_land_48 : decode cX3_land 48 = .ok (.iastore, 1) := dk_79 (dk_at dksX3_land_2 0 rfl rfl)
theorem dX3_land_49 : decode cX3_land 49 = .ok (.iinc 1 1, 3) := dk_132 1 1 (dk_at dksX3_land_2 1 rfl rfl)
theorem dX3_land_52 : decode cX3_land 52 = .ok (.goto (-31), 3) := dk_167 255 225 (dk_at dksX3_land_2 4 rfl rfl)
theorem dX3_land_55 : decode cX3_land 55 = .ok (.aload_n 0, 1) := dk_42 (dk_at dksX3_land_2 7 rfl rfl)
theorem dX3_land_56 : decode cX3_land 56 = .ok (.getfield 58, 3) := dk_180 0 58 (dk_at dksX3_land_2 8 rfl rfl)
theorem dX3_land_59 : decode cX3_land 59 = .ok (.aload_n 0, 1) := dk_42 (dk_at dksX3_land_2 11 rfl rfl)
theorem dX3_land_60 : decode cX3_land 60 = .ok (.getfield 13, 3) := dk_180 0 13 (dk_at dksX3_land_2 12 rfl rfl)
theorem dX3_land_63 : decode cX3_land 63 = .ok (.invokestatic 352, 3) := dk_184 1 96 (dk_at dksX3_land_2 15 rfl rfl)
theorem dX3_land_66 : decode cX3_land 66 = .ok (.aload_n 0, 1) := dk_42 (dk_at dksX3_land_2 18 rfl rfl)
theorem dX3_land_67 : decode cX3_land 67 = .ok (.getfield 61, 3) := dk_180 0 61 (dk_at dksX3_land_2 19 rfl rfl)
theorem dX3_land_70 : decode cX3_land 70 = .ok (.aload_n 0, 1) := dk_42 (dk_at dksX3_land_2 22 rfl rfl)
theorem dX3_land_71 : decode cX3_land 71 = .ok (.getfield 16, 3) := dk_180 0 16 (dk_at dksX3_land_3 0 rfl rfl)
theorem dX3_land_74 : decode cX3_land 74 = .ok (.invokestatic 352, 3) := dk_184 1 96 (dk_at dksX3_land_3 3 rfl rfl)
theorem dX3_land_77 : decode cX3_land 77 = .ok (.aload_n 0, 1) := dk_42 (dk_at dksX3_land_3 6 rfl rfl)
theorem dX3_land_78 : decode cX3_land 78 = .ok (.getfield 67, 3) := dk_180 0 67 (dk_at dksX3_land_3 7 rfl rfl)
theorem dX3_land_81 : decode cX3_land 81 = .ok (.aload_n 0, 1) := dk_42 (dk_at dksX3_land_3 10 rfl rfl)
theorem dX3_land_82 : decode cX3_land 82 = .ok (.getfield 19, 3) := dk_180 0 19 (dk_at dksX3_land_3 11 rfl rfl)
theorem dX3_land_85 : decode cX3_land 85 = .ok (.invokestatic 352, 3) := dk_184 1 96 (dk_at dksX3_land_3 14 rfl rfl)
theorem dX3_land_88 : decode cX3_land 88 = .ok (.aload_n 0, 1) := dk_42 (dk_at dksX3_land_3 17 rfl rfl)
theorem dX3_land_89 : decode cX3_land 89 = .ok (.getfield 70, 3) := dk_180 0 70 (dk_at dksX3_land_3 18 rfl rfl)
theorem dX3_land_92 : decode cX3_land 92 = .ok (.aload_n 0, 1) := dk_42 (dk_at dksX3_land_3 21 rfl rfl)
theorem dX3_land_93 : decode cX3_land 93 = .ok (.getfield 28, 3) := dk_180 0 28 (dk_at dksX3_land_4 0 rfl rfl)
theorem dX3_land_96 : decode cX3_land 96 = .ok (.invokestatic 352, 3) := dk_184 1 96 (dk_at dksX3_land_4 3 rfl rfl)
theorem dX3_land_99 : decode cX3_land 99 = .ok (.aload_n 0, 1) := dk_42 (dk_at dksX3_land_4 6 rfl rfl)
theorem dX3_land_100 : decode cX3_land 100 = .ok (.getfield 73, 3) := dk_180 0 73 (dk_at dksX3_land_4 7 rfl rfl)
theorem dX3_land_103 : decode cX3_land 103 = .ok (.aload_n 0, 1) := dk_42 (dk_at dksX3_land_4 10 rfl rfl)
theorem dX3_land_104 : decode cX3_land 104 = .ok (.getfield 31, 3) := dk_180 0 31 (dk_at dksX3_land_4 11 rfl rfl)
theorem dX3_land_107 : decode cX3_land 107 = .ok (.invokestatic 352, 3) := dk_184 1 96 (dk_at dksX3_land_4 14 rfl rfl)
theorem dX3_land_110 : decode cX3_land 110 = .ok (.aload_n 0, 1) := dk_42 (dk_at dksX3_land_4 17 rfl rfl)
theorem dX3_land_111 : decode cX3_land 111 = .ok (.getfield 76, 3) := dk_180 0 76 (dk_at dksX3_land_4 18 rfl rfl)
theorem dX3_land_114 : decode cX3_land 114 = .ok (.aload_n 0, 1) := dk_42 (dk_at dksX3_land_4 21 rfl rfl)
theorem dX3_land_115 : decode cX3_land 115 = .ok (.getfield 34, 3) := dk_180 0 34 (dk_at dksX3_land_5 0 rfl rfl)
theorem dX3_land_118 : decode cX3_land 118 = .ok (.invokestatic 352, 3) := dk_184 1 96 (dk_at dksX3_land_5 3 rfl rfl)
theorem dX3_land_121 : decode cX3_land 121 = .ok (.aload_n 0, 1) := dk_42 (dk_at dksX3_land_5 6 rfl rfl)
theorem dX3_land_122 : decode cX3_land 122 = .ok (.getfield 79, 3) := dk_180 0 79 (dk_at dksX3_land_5 7 rfl rfl)
theorem dX3_land_125 : decode cX3_land 125 = .ok (.aload_n 0, 1) := dk_42 (dk_at dksX3_land_5 10 rfl rfl)
theorem dX3_land_126 : decode cX3_land 126 = .ok (.getfield 37, 3) := dk_180 0 37 (dk_at dksX3_land_5 11 rfl rfl)
theorem dX3_land_129 : decode cX3_land 129 = .ok (.invokestatic 352, 3) := dk_184 1 96 (dk_at dksX3_land_5 14 rfl rfl)
theorem dX3_land_132 : decode cX3_land 132 = .ok (.aload_n 0, 1) := dk_42 (dk_at dksX3_land_5 17 rfl rfl)
theorem dX3_land_133 : decode cX3_land 133 = .ok (.getfield 82, 3) := dk_180 0 82 (dk_at dksX3_land_5 18 rfl rfl)
theorem dX3_land_136 : decode cX3_land 136 = .ok (.aload_n 0, 1) := dk_42 (dk_at dksX3_land_5 21 rfl rfl)
theorem dX3_land_137 : decode cX3_land 137 = .ok (.getfield 40, 3) := dk_180 0 40 (dk_at dksX3_land_6 0 rfl rfl)
theorem dX3_land_140 : decode cX3_land 140 = .ok (.invokestatic 352, 3) := dk_184 1 96 (dk_at dksX3_land_6 3 rfl rfl)
theorem dX3_land_143 : decode cX3_land 143 = .ok (.aload_n 0, 1) := dk_42 (dk_at dksX3_land_6 6 rfl rfl)
theorem dX3_land_144 : decode cX3_land 144 = .ok (.getfield 85, 3) := dk_180 0 85 (dk_at dksX3_land_6 7 rfl rfl)
theorem dX3_land_147 : decode cX3_land 147 = .ok (.aload_n 0, 1) := dk_42 (dk_at dksX3_land_6 10 rfl rfl)
theorem dX3_land_148 : decode cX3_land 148 = .ok (.getfield 43, 3) := dk_180 0 43 (dk_at dksX3_land_6 11 rfl rfl)
theorem dX3_land_151 : decode cX3_land 151 = .ok (.invokestatic 352, 3) := dk_184 1 96 (dk_at dksX3_land_6 14 rfl rfl)
theorem dX3_land_154 : decode cX3_land 154 = .ok (.iconst 0, 1) := dk_3 (dk_at dksX3_land_6 17 rfl rfl)
theorem dX3_land_155 : decode cX3_land 155 = .ok (.istore_n 1, 1) := dk_60 (dk_at dksX3_land_6 18 rfl rfl)
theorem dX3_land_156 : decode cX3_land 156 = .ok (.iload_n 1, 1) := dk_27 (dk_at dksX3_land_6 19 rfl rfl)
theorem dX3_land_157 : decode cX3_land 157 = .ok (.aload_n 0, 1) := dk_42 (dk_at dksX3_land_6 20 rfl rfl)
theorem dX3_land_158 : decode cX3_land 158 = .ok (.getfield 52, 3) := dk_180 0 52 (dk_at dksX3_land_6 21 rfl rfl)
theorem dX3_land_161 : decode cX3_land 161 = .ok (.arraylength, 1) := dk_190 (dk_at dksX3_land_7 0 rfl rfl)
theorem dX3_land_162 : decode cX3_land 162 = .ok (.if_icmp .ge 16, 3) := dk_162 0 16 (dk_at dksX3_land_7 1 rfl rfl)
theorem dX3_land_165 : decode cX3_land 165 = .ok (.aload_n 0, 1) := dk_42 (dk_at dksX3_land_7 4 rfl rfl)
theorem dX3_land_166 : decode cX3_land 166 = .ok (.getfield 52, 3) := dk_180 0 52 (dk_at dksX3_land_7 5 rfl rfl)
theorem dX3_land_169 : decode cX3_land 169 = .ok (.iload_n 1, 1) := dk_27 (dk_at dksX3_land_7 8 rfl rfl)
theorem dX3_land_170 : decode cX3_land 170 = .ok (.iconst 0, 1) := dk_3 (dk_at dksX3_land_7 9 rfl rfl)
theorem dX3_land_171 : decode cX3_land 171 = .ok (.iastore, 1) := dk_79 (dk_at dksX3_land_7 10 rfl rfl)
theorem dX3_land_172 : decode cX3_land 172 = .ok (.iinc 1 1, 3) := dk_132 1 1 (dk_at dksX3_land_7 11 rfl rfl)
theorem dX3_land_175 : decode cX3_land 175 = .ok (.goto (-19), 3) := dk_167 255 237 (dk_at dksX3_land_7 14 rfl rfl)
theorem dX3_land_178 : decode cX3_land 178 = .ok (.iconst 0, 1) := dk_3 (dk_at dksX3_land_7 17 rfl rfl)
theorem dX3_land_179 : decode cX3_land 179 = .ok (.istore_n 1, 1) := dk_60 (dk_at dksX3_land_7 18 rfl rfl)
theorem dX3_land_180 : decode cX3_land 180 = .ok (.iload_n 1, 1) := dk_27 (dk_at dksX3_land_7 19 rfl rfl)
theorem dX3_land_181 : decode cX3_land 181 = .ok (.aload_n 0, 1) := dk_42 (dk_at dksX3_land_7 20 rfl rfl)
theorem dX3_land_182 : decode cX3_land 182 = .ok (.invokevirtual 190, 3) := dk_182 0 190 (dk_at dksX3_land_7 21 rfl rfl)
theorem dX3_land_185 : decode cX3_land 185 = .ok (.if_icmp .ge 93, 3) := dk_162 0 93 (dk_at dksX3_land_8 0 rfl rfl)
theorem dX3_land_188 : decode cX3_land 188 = .ok (.aload_n 0, 1) := dk_42 (dk_at dksX3_land_8 3 rfl rfl)
theorem dX3_land_189 : decode cX3_land 189 = .ok (.getfield 52, 3) := dk_180 0 52 (dk_at dksX3_land_8 4 rfl rfl)
theorem dX3_land_192 : decode cX3_land 192 = .ok (.bipush 48, 2) := dk_16 48 (dk_at dksX3_land_8 7 rfl rfl)
theorem dX3_land_194 : decode cX3_land 194 = .ok (.iload_n 1, 1) := dk_27 (dk_at dksX3_land_8 9 rfl rfl)
theorem dX3_land_195 : decode cX3_land 195 = .ok (.bipush 32, 2) := dk_16 32 (dk_at dksX3_land_8 10 rfl rfl)
theorem dX3_land_197 : decode cX3_land 197 = .ok (.idiv, 1) := dk_108 (dk_at dksX3_land_8 12 rfl rfl)
theorem dX3_land_198 : decode cX3_land 198 = .ok (.iadd, 1) := dk_96 (dk_at dksX3_land_8 13 rfl rfl)
theorem dX3_land_199 : decode cX3_land 199 = .ok (.dup2, 1) := dk_92 (dk_at dksX3_land_8 14 rfl rfl)
theorem dX3_land_200 : decode cX3_land 200 = .ok (.iaload, 1) := dk_46 (dk_at dksX3_land_8 15 rfl rfl)
theorem dX3_land_201 : decode cX3_land 201 = .ok (.iconst 1, 1) := dk_4 (dk_at dksX3_land_8 16 rfl rfl)
theorem dX3_land_202 : decode cX3_land 202 = .ok (.iload_n 1, 1) := dk_27 (dk_at dksX3_land_8 17 rfl rfl)
theorem dX3_land_203 : decode cX3_land 203 = .ok (.bipush 32, 2) := dk_16 32 (dk_at dksX3_land_8 18 rfl rfl)
theorem dX3_land_205 : decode cX3_land 205 = .ok (.irem, 1) := dk_112 (dk_at dksX3_land_8 20 rfl rfl)
theorem dX3_land_206 : decode cX3_land 206 = .ok (.ishl, 1) := dk_120 (dk_at dksX3_land_8 21 rfl rfl)
theorem dX3_land_207 : decode cX3_land 207 = .ok (.ior, 1) := dk_128 (dk_at dksX3_land_8 22 rfl rfl)
theorem dX3_land_208 : decode cX3_land 208 = .ok (.iastore, 1) := dk_79 (dk_at dksX3_land_8 23 rfl rfl)
theorem dX3_land_209 : decode cX3_land 209 = .ok (.iconst 0, 1) := dk_3 (dk_at dksX3_land_9 0 rfl rfl)
theorem dX3_land_210 : decode cX3_land 210 = .ok (.istore_n 2, 1) := dk_61 (dk_at dksX3_land_9 1 rfl rfl)
theorem dX3_land_211 : decode cX3_land 211 = .ok (.iload_n 2, 1) := dk_28 (dk_at dksX3_land_9 2 rfl rfl)
theorem dX3_land_212 : decode cX3_land 212 = .ok (.aload_n 0, 1) := dk_42 (dk_at dksX3_land_9 3 rfl rfl)
theorem dX3_land_213 : decode cX3_land 213 = .ok (.getfield 9, 3) := dk_180 0 9 (dk_at dksX3_land_9 4 rfl rfl)
theorem dX3_land_216 : decode cX3_land 216 = .ok (.iconst 2, 1) := dk_5 (dk_at dksX3_land_9 7 rfl rfl)
theorem dX3_land_217 : decode cX3_land 217 = .ok (.iaload, 1) := dk_46 (dk_at dksX3_land_9 8 rfl rfl)
theorem dX3_land_218 : decode cX3_land 218 = .ok (.if_icmp .ge 54, 3) := dk_162 0 54 (dk_at dksX3_land_9 9 rfl rfl)
theorem dX3_land_221 : decode cX3_land 221 = .ok (.aload_n 0, 1) := dk_42 (dk_at dksX3_land_9 12 rfl rfl)
theorem dX3_land_222 : decode cX3_land 222 = .ok (.getfield 52, 3) := dk_180 0 52 (dk_at dksX3_land_9 13 rfl rfl)
theorem dX3_land_225 : decode cX3_land 225 = .ok (.bipush 8, 2) := dk_16 8 (dk_at dksX3_land_9 16 rfl rfl)
theorem dX3_land_227 : decode cX3_land 227 = .ok (.iload_n 2, 1) := dk_28 (dk_at dksX3_land_9 18 rfl rfl)
theorem dX3_land_228 : decode cX3_land 228 = .ok (.imul, 1) := dk_104 (dk_at dksX3_land_9 19 rfl rfl)
theorem dX3_land_229 : decode cX3_land 229 = .ok (.iload_n 1, 1) := dk_27 (dk_at dksX3_land_9 20 rfl rfl)
theorem dX3_land_230 : decode cX3_land 230 = .ok (.bipush 32, 2) := dk_16 32 (dk_at dksX3_land_9 21 rfl rfl)
theorem dX3_land_232 : decode cX3_land 232 = .ok (.idiv, 1) := dk_108 (dk_at dksX3_land_9 23 rfl rfl)
theorem dX3_land_233 : decode cX3_land 233 = .ok (.iadd, 1) := dk_96 (dk_at dksX3_land_10 0 rfl rfl)
theorem dX3_land_234 : decode cX3_land 234 = .ok (.dup2, 1) := dk_92 (dk_at dksX3_land_10 1 rfl rfl)
theorem dX3_land_235 : decode cX3_land 235 = .ok (.iaload, 1) := dk_46 (dk_at dksX3_land_10 2 rfl rfl)
theorem dX3_land_236 : decode cX3_land 236 = .ok (.iload_n 1, 1) := dk_27 (dk_at dksX3_land_10 3 rfl rfl)
theorem dX3_land_237 : decode cX3_land 237 = .ok (.aload_n 0, 1) := dk_42 (dk_at dksX3_land_10 4 rfl rfl)
theorem dX3_land_238 : decode cX3_land 238 = .ok (.getfield 9, 3) := dk_180 0 9 (dk_at dksX3_land_10 5 rfl rfl)
theorem dX3_land_241 : decode cX3_land 241 = .ok (.iconst 1, 1) := dk_4 (dk_at dksX3_land_10 8 rfl rfl)
theorem dX3_land_242 : decode cX3_land 242 = .ok (.iaload, 1) := dk_46 (dk_at dksX3_land_10 9 rfl rfl)
theorem dX3_land_243 : decode cX3_land 243 = .ok (.ixor, 1) := dk_130 (dk_at dksX3_land_10 10 rfl rfl)
theorem dX3_land_244 : decode cX3_land 244 = .ok (.aload_n 0, 1) := dk_42 (dk_at dksX3_land_10 11 rfl rfl)
theorem dX3_land_245 : decode cX3_land 245 = .ok (.getfield 64, 3) := dk_180 0 64 (dk_at dksX3_land_10 12 rfl rfl)
theorem dX3_land_248 : decode cX3_land 248 = .ok (.iload_n 2, 1) := dk_28 (dk_at dksX3_land_10 15 rfl rfl)
theorem dX3_land_249 : decode cX3_land 249 = .ok (.iaload, 1) := dk_46 (dk_at dksX3_land_10 16 rfl rfl)
theorem dX3_land_250 : decode cX3_land 250 = .ok (.iand, 1) := dk_126 (dk_at dksX3_land_10 17 rfl rfl)
theorem dX3_land_251 : decode cX3_land 251 = .ok (.ifCond .ne 12, 3) := dk_154 0 12 (dk_at dksX3_land_10 18 rfl rfl)
theorem dX3_land_254 : decode cX3_land 254 = .ok (.iconst 1, 1) := dk_4 (dk_at dksX3_land_10 21 rfl rfl)
theorem dX3_land_255 : decode cX3_land 255 = .ok (.iload_n 1, 1) := dk_27 (dk_at dksX3_land_10 22 rfl rfl)
theorem dX3_land_256 : decode cX3_land 256 = .ok (.bipush 32, 2) := dk_16 32 (dk_at dksX3_land_11 0 rfl rfl)
theorem dX3_land_258 : decode cX3_land 258 = .ok (.irem, 1) := dk_112 (dk_at dksX3_land_11 2 rfl rfl)
theorem dX3_land_259 : decode cX3_land 259 = .ok (.ishl, 1) := dk_120 (dk_at dksX3_land_11 3 rfl rfl)
theorem dX3_land_260 : decode cX3_land 260 = .ok (.goto 4, 3) := dk_167 0 4 (dk_at dksX3_land_11 4 rfl rfl)
theorem dX3_land_263 : decode cX3_land 263 = .ok (.iconst 0, 1) := dk_3 (dk_at dksX3_land_11 7 rfl rfl)
theorem dX3_land_264 : decode cX3_land 264 = .ok (.ior, 1) := dk_128 (dk_at dksX3_land_11 8 rfl rfl)
theorem dX3_land_265 : decode cX3_land 265 = .ok (.iastore, 1) := dk_79 (dk_at dksX3_land_11 9 rfl rfl)
theorem dX3_land_266 : decode cX3_land 266 = .ok (.iinc 2 1, 3) := dk_132 2 1 (dk_at dksX3_land_11 10 rfl rfl)
theorem dX3_land_269 : decode cX3_land 269 = .ok (.goto (-58), 3) := dk_167 255 198 (dk_at dksX3_land_11 13 rfl rfl)
theorem dX3_land_272 : decode cX3_land 272 = .ok (.iinc 1 1, 3) := dk_132 1 1 (dk_at dksX3_land_11 16 rfl rfl)
theorem dX3_land_275 : decode cX3_land 275 = .ok (.goto (-95), 3) := dk_167 255 161 (dk_at dksX3_land_11 19 rfl rfl)
theorem dX3_land_278 : decode cX3_land 278 = .ok (.iconst 0, 1) := dk_3 (dk_at dksX3_land_11 22 rfl rfl)
theorem dX3_land_279 : decode cX3_land 279 = .ok (.istore_n 1, 1) := dk_60 (dk_at dksX3_land_11 23 rfl rfl)
theorem dX3_land_280 : decode cX3_land 280 = .ok (.iload_n 1, 1) := dk_27 (dk_at dksX3_land_12 0 rfl rfl)
theorem dX3_land_281 : decode cX3_land 281 = .ok (.bipush 6, 2) := dk_16 6 (dk_at dksX3_land_12 1 rfl rfl)
theorem dX3_land_283 : decode cX3_land 283 = .ok (.if_icmp .ge 23, 3) := dk_162 0 23 (dk_at dksX3_land_12 3 rfl rfl)
theorem dX3_land_286 : decode cX3_land 286 = .ok (.aload_n 0, 1) := dk_42 (dk_at dksX3_land_12 6 rfl rfl)
theorem dX3_land_287 : decode cX3_land 287 = .ok (.getfield 22, 3) := dk_180 0 22 (dk_at dksX3_land_12 7 rfl rfl)
theorem dX3_land_290 : decode cX3_land 290 = .ok (.iload_n 1, 1) := dk_27 (dk_at dksX3_land_12 10 rfl rfl)
theorem dX3_land_291 : decode cX3_land 291 = .ok (.iconst 0, 1) := dk_3 (dk_at dksX3_land_12 11 rfl rfl)
theorem dX3_land_292 : decode cX3_land 292 = .ok (.iastore, 1) := dk_79 (dk_at dksX3_land_12 12 rfl rfl)
theorem dX3_land_293 : decode cX3_land 293 = .ok (.aload_n 0, 1) := dk_42 (dk_at dksX3_land_12 13 rfl rfl)
theorem dX3_land_294 : decode cX3_land 294 = .ok (.getfield 25, 3) := dk_180 0 25 (dk_at dksX3_land_12 14 rfl rfl)
theorem dX3_land_297 : decode cX3_land 297 = .ok (.iload_n 1, 1) := dk_27 (dk_at dksX3_land_12 17 rfl rfl)
theorem dX3_land_298 : decode cX3_land 298 = .ok (.iconst 0, 1) := dk_3 (dk_at dksX3_land_12 18 rfl rfl)
theorem dX3_land_299 : decode cX3_land 299 = .ok (.iastore, 1) := dk_79 (dk_at dksX3_land_12 19 rfl rfl)
theorem dX3_land_300 : decode cX3_land 300 = .ok (.iinc 1 1, 3) := dk_132 1 1 (dk_at dksX3_land_12 20 rfl rfl)
theorem dX3_land_303 : decode cX3_land 303 = .ok (.goto (-23), 3) := dk_167 255 233 (dk_at dksX3_land_13 0 rfl rfl)
theorem dX3_land_306 : decode cX3_land 306 = .ok (.aload_n 0, 1) := dk_42 (dk_at dksX3_land_13 3 rfl rfl)
theorem dX3_land_307 : decode cX3_land 307 = .ok (.iconst 0, 1) := dk_3 (dk_at dksX3_land_13 4 rfl rfl)
theorem dX3_land_308 : decode cX3_land 308 = .ok (.putfield 356, 3) := dk_181 1 100 (dk_at dksX3_land_13 5 rfl rfl)
theorem dX3_land_311 : decode cX3_land 311 = .ok (.aload_n 0, 1) := dk_42 (dk_at dksX3_land_13 8 rfl rfl)
theorem dX3_land_312 : decode cX3_land 312 = .ok (.getfield 9, 3) := dk_180 0 9 (dk_at dksX3_land_13 9 rfl rfl)
theorem dX3_land_315 : decode cX3_land 315 = .ok (.iconst 2, 1) := dk_5 (dk_at dksX3_land_13 12 rfl rfl)
theorem dX3_land_316 : decode cX3_land 316 = .ok (.iaload, 1) := dk_46 (dk_at dksX3_land_13 13 rfl rfl)
theorem dX3_land_317 : decode cX3_land 317 = .ok (.ireturn, 1) := dk_172 (dk_at dksX3_land_13 14 rfl rfl)
abbrev cX3_readsAll : ByteArray := prog_21_method_45_code
def yX3_readsAll : MethodName := ⟨RX3, "readsAll", "()V"⟩
def dkwX3_readsAll_2 : List UInt8 := [167, 255, 239, 42, 3, 181, 0, 194, 177]
abbrev dktX3_readsAll_2 : List UInt8 := dkwX3_readsAll_2 ++ []
def dkwX3_readsAll_1 : List UInt8 := [167, 255, 240, 3, 60, 4, 61, 28, 153, 0, 19, 42, 27, 182, 1, 87, 132, 1, 1, 42, 182, 1, 90, 61]
abbrev dktX3_readsAll_1 : List UInt8 := dkwX3_readsAll_1 ++ dktX3_readsAll_2
def dkwX3_readsAll_0 : List UInt8 := [42, 182, 1, 84, 3, 60, 27, 16, 6, 162, 0, 16, 42, 180, 0, 55, 27, 3, 79, 132, 1, 1]
abbrev dktX3_readsAll_0 : List UInt8 := dkwX3_readsAll_0 ++ dktX3_readsAll_1
theorem dksX3_readsAll_0 : cX3_readsAll.data.toList.drop 0 = dktX3_readsAll_0 := by decide +kernel
theorem dksX3_readsAll_1 : cX3_readsAll.data.toList.drop 22 = dktX3_readsAll_1 := dk_seg dksX3_readsAll_0 22 rfl rfl
theorem dksX3_readsAll_2 : cX3_readsAll.data.toList.drop 46 = dktX3_readsAll_2 := dk_seg dksX3_readsAll_1 24 rfl rfl
theorem dX3_readsAll_0 : decode cX3_readsAll 0 = .ok (.aload_n 0, 1) := dk_42 (dk_at dksX3_readsAll_0 0 rfl rfl)
theorem dX3_readsAll_1 : decode cX3_readsAll 1 = .ok (.invokevirtual 340, 3) := dk_182 1 84 (dk_at dksX3_readsAll_0 1 rfl rfl)
theorem dX3_readsAll_4 : decode cX3_readsAll 4 = .ok (.iconst 0, 1) := dk_3 (dk_at dksX3_readsAll_0 4 rfl rfl)
theorem dX3_readsAll_5 : decode cX3_readsAll 5 = .ok (.istore_n 1, 1) := dk_60 (dk_at dksX3_readsAll_0 5 rfl rfl)
theorem dX3_readsAll_6 : decode cX3_readsAll 6 = .ok (.iload_n 1, 1) := dk_27 (dk_at dksX3_readsAll_0 6 rfl rfl)
theorem dX3_readsAll_7 : decode cX3_readsAll 7 = .ok (.bipush 6, 2) := dk_16 6 (dk_at dksX3_readsAll_0 7 rfl rfl)
theorem dX3_readsAll_9 : decode cX3_readsAll 9 = .ok (.if_icmp .ge 16, 3) := dk_162 0 16 (dk_at dksX3_readsAll_0 9 rfl rfl)
theorem dX3_readsAll_12 : decode cX3_readsAll 12 = .ok (.aload_n 0, 1) := dk_42 (dk_at dksX3_readsAll_0 12 rfl rfl)
theorem dX3_readsAll_13 : decode cX3_readsAll 13 = .ok (.getfield 55, 3) := dk_180 0 55 (dk_at dksX3_readsAll_0 13 rfl rfl)
theorem dX3_readsAll_16 : decode cX3_readsAll 16 = .ok (.iload_n 1, 1) := dk_27 (dk_at dksX3_readsAll_0 16 rfl rfl)
theorem dX3_readsAll_17 : decode cX3_readsAll 17 = .ok (.iconst 0, 1) := dk_3 (dk_at dksX3_readsAll_0 17 rfl rfl)
theorem dX3_readsAll_18 : decode cX3_readsAll 18 = .ok (.iastore, 1) := dk_79 (dk_at dksX3_readsAll_0 18 rfl rfl)
theorem dX3_readsAll_19 : decode cX3_readsAll 19 = .ok (.iinc 1 1, 3) := dk_132 1 1 (dk_at dksX3_readsAll_0 19 rfl rfl)
theorem dX3_readsAll_22 : decode cX3_readsAll 22 = .ok (.goto (-16), 3) := dk_167 255 240 (dk_at dksX3_readsAll_1 0 rfl rfl)
theorem dX3_readsAll_25 : decode cX3_readsAll 25 = .ok (.iconst 0, 1) := dk_3 (dk_at dksX3_readsAll_1 3 rfl rfl)
theorem dX3_readsAll_26 : decode cX3_readsAll 26 = .ok (.istore_n 1, 1) := dk_60 (dk_at dksX3_readsAll_1 4 rfl rfl)
theorem dX3_readsAll_27 : decode cX3_readsAll 27 = .ok (.iconst 1, 1) := dk_4 (dk_at dksX3_readsAll_1 5 rfl rfl)
theorem dX3_readsAll_28 : decode cX3_readsAll 28 = .ok (.istore_n 2, 1) := dk_61 (dk_at dksX3_readsAll_1 6 rfl rfl)
theorem dX3_readsAll_29 : decode cX3_readsAll 29 = .ok (.iload_n 2, 1) := dk_28 (dk_at dksX3_readsAll_1 7 rfl rfl)
theorem dX3_readsAll_30 : decode cX3_readsAll 30 = .ok (.ifCond .eq 19, 3) := dk_153 0 19 (dk_at dksX3_readsAll_1 8 rfl rfl)
theorem dX3_readsAll_33 : decode cX3_readsAll 33 = .ok (.aload_n 0, 1) := dk_42 (dk_at dksX3_readsAll_1 11 rfl rfl)
theorem dX3_readsAll_34 : decode cX3_readsAll 34 = .ok (.iload_n 1, 1) := dk_27 (dk_at dksX3_readsAll_1 12 rfl rfl)
theorem dX3_readsAll_35 : decode cX3_readsAll 35 = .ok (.invokevirtual 343, 3) := dk_182 1 87 (dk_at dksX3_readsAll_1 13 rfl rfl)
theorem dX3_readsAll_38 : decode cX3_readsAll 38 = .ok (.iinc 1 1, 3) := dk_132 1 1 (dk_at dksX3_readsAll_1 16 rfl rfl)
theorem dX3_readsAll_41 : decode cX3_readsAll 41 = .ok (.aload_n 0, 1) := dk_42 (dk_at dksX3_readsAll_1 19 rfl rfl)
theorem dX3_readsAll_42 : decode cX3_readsAll 42 = .ok (.invokevirtual 346, 3) := dk_182 1 90 (dk_at dksX3_readsAll_1 20 rfl rfl)
theorem dX3_readsAll_45 : decode cX3_readsAll 45 = .ok (.istore_n 2, 1) := dk_61 (dk_at dksX3_readsAll_1 23 rfl rfl)
theorem dX3_readsAll_46 : decode cX3_readsAll 46 = .ok (.goto (-17), 3) := dk_167 255 239 (dk_at dksX3_readsAll_2 0 rfl rfl)
theorem dX3_readsAll_49 : decode cX3_readsAll 49 = .ok (.aload_n 0, 1) := dk_42 (dk_at dksX3_readsAll_2 3 rfl rfl)
theorem dX3_readsAll_50 : decode cX3_readsAll 50 = .ok (.iconst 0, 1) := dk_3 (dk_at dksX3_readsAll_2 4 rfl rfl)
theorem dX3_readsAll_51 : decode cX3_readsAll 51 = .ok (.putfield 194, 3) := dk_181 0 194 (dk_at dksX3_readsAll_2 5 rfl rfl)
theorem dX3_readsAll_54 : decode cX3_readsAll 54 = .ok (.return_, 1) := dk_177 (dk_at dksX3_readsAll_2 8 rfl rfl)
abbrev cX3_starts : ByteArray := prog_21_method_44_code
def yX3_starts : MethodName := ⟨RX3, "starts", "()V"⟩
def dkwX3_starts_1 : List UInt8 := [181, 0, 253, 177]
abbrev dktX3_starts_1 : List UInt8 := dkwX3_starts_1 ++ []
def dkwX3_starts_0 : List UInt8 := [42, 3, 181, 0, 221, 42, 3, 181, 0, 218, 42, 3, 181, 0, 250, 42, 3, 181, 1, 34, 42, 3]
abbrev dktX3_starts_0 : List UInt8 := dkwX3_starts_0 ++ dktX3_starts_1
theorem dksX3_starts_0 : cX3_starts.data.toList.drop 0 = dktX3_starts_0 := by decide +kernel
theorem dksX3_starts_1 : cX3_starts.data.toList.drop 22 = dktX3_starts_1 := dk_seg dksX3_starts_0 22 rfl rfl
theorem dX3_starts_0 : decode cX3_starts 0 = .ok (.aload_n 0, 1) := dk_42 (dk_at dksX3_starts_0 0 rfl rfl)
theorem dX3_starts_1 : decode cX3_starts 1 = .ok (.iconst 0, 1) := dk_3 (dk_at dksX3_starts_0 1 rfl rfl)
theorem dX3_starts_2 : decode cX3_starts 2 = .ok (.putfield 221, 3) := dk_181 0 221 (dk_at dksX3_starts_0 2 rfl rfl)
theorem dX3_starts_5 : decode cX3_starts 5 = .ok (.aload_n 0, 1) := dk_42 (dk_at dksX3_starts_0 5 rfl rfl)
theorem dX3_starts_6 : decode cX3_starts 6 = .ok (.iconst 0, 1) := dk_3 (dk_at dksX3_starts_0 6 rfl rfl)
theorem dX3_starts_7 : decode cX3_starts 7 = .ok (.putfield 218, 3) := dk_181 0 218 (dk_at dksX3_starts_0 7 rfl rfl)
theorem dX3_starts_10 : decode cX3_starts 10 = .ok (.aload_n 0, 1) := dk_42 (dk_at dksX3_starts_0 10 rfl rfl)
theorem dX3_starts_11 : decode cX3_starts 11 = .ok (.iconst 0, 1) := dk_3 (dk_at dksX3_starts_0 11 rfl rfl)
theorem dX3_starts_12 : decode cX3_starts 12 = .ok (.putfield 250, 3) := dk_181 0 250 (dk_at dksX3_starts_0 12 rfl rfl)
theorem dX3_starts_15 : decode cX3_starts 15 = .ok (.aload_n 0, 1) := dk_42 (dk_at dksX3_starts_0 15 rfl rfl)
theorem dX3_starts_16 : decode cX3_starts 16 = .ok (.iconst 0, 1) := dk_3 (dk_at dksX3_starts_0 16 rfl rfl)
theorem dX3_starts_17 : decode cX3_starts 17 = .ok (.putfield 290, 3) := dk_181 1 34 (dk_at dksX3_starts_0 17 rfl rfl)
theorem dX3_starts_20 : decode cX3_starts 20 = .ok (.aload_n 0, 1) := dk_42 (dk_at dksX3_starts_0 20 rfl rfl)
theorem dX3_starts_21 : decode cX3_starts 21 = .ok (.iconst 0, 1) := dk_3 (dk_at dksX3_starts_0 21 rfl rfl)
theorem dX3_starts_22 : decode cX3_starts 22 = .ok (.putfield 253, 3) := dk_181 0 253 (dk_at dksX3_starts_1 0 rfl rfl)
theorem dX3_starts_25 : decode cX3_starts 25 = .ok (.return_, 1) := dk_177 (dk_at dksX3_starts_1 3 rfl rfl)
abbrev cX3_landClause : ByteArray := prog_21_method_41_code
def yX3_landClause : MethodName := ⟨RX3, "landClause", "(I)V"⟩
def dkwX3_landClause_3 : List UInt8 := [182, 0, 231, 96, 181, 0, 221, 42, 29, 182, 1, 81, 177]
abbrev dktX3_landClause_3 : List UInt8 := dkwX3_landClause_3 ++ []
def dkwX3_landClause_2 : List UInt8 := [182, 1, 77, 153, 0, 10, 42, 7, 28, 182, 1, 0, 177, 42, 89, 180, 0, 221, 29, 184, 1, 74]
abbrev dktX3_landClause_2 : List UInt8 := dkwX3_landClause_2 ++ dktX3_landClause_3
def dkwX3_landClause_1 : List UInt8 := [154, 0, 9, 132, 3, 1, 167, 255, 237, 29, 8, 160, 0, 10, 42, 3, 28, 182, 1, 0, 177, 42, 29, 27]
abbrev dktX3_landClause_1 : List UInt8 := dkwX3_landClause_1 ++ dktX3_landClause_2
def dkwX3_landClause_0 : List UInt8 := [42, 182, 0, 240, 42, 180, 0, 221, 61, 3, 62, 29, 8, 162, 0, 20, 42, 29, 184, 1, 74, 182, 0, 243]
abbrev dktX3_landClause_0 : List UInt8 := dkwX3_landClause_0 ++ dktX3_landClause_1
theorem dksX3_landClause_0 : cX3_landClause.data.toList.drop 0 = dktX3_landClause_0 := by decide +kernel
theorem dksX3_landClause_1 : cX3_landClause.data.toList.drop 24 = dktX3_landClause_1 := dk_seg dksX3_landClause_0 24 rfl rfl
theorem dksX3_landClause_2 : cX3_landClause.data.toList.drop 48 = dktX3_landClause_2 := dk_seg dksX3_landClause_1 24 rfl rfl
theorem dksX3_landClause_3 : cX3_landClause.data.toList.drop 70 = dktX3_landClause_3 := dk_seg dksX3_landClause_2 22 rfl rfl
theorem dX3_landClause_0 : decode cX3_landClause 0 = .ok (.aload_n 0, 1) := dk_42 (dk_at dksX3_landClause_0 0 rfl rfl)
theorem dX3_landClause_1 : decode cX3_landClause 1 = .ok (.invokevirtual 240, 3) := dk_182 0 240 (dk_at dksX3_landClause_0 1 rfl rfl)
theorem dX3_landClause_4 : decode cX3_landClause 4 = .ok (.aload_n 0, 1) := dk_42 (dk_at dksX3_landClause_0 4 rfl rfl)
theorem dX3_landClause_5 : decode cX3_landClause 5 = .ok (.getfield 221, 3) := dk_180 0 221 (dk_at dksX3_landClause_0 5 rfl rfl)
theorem dX3_landClause_8 : decode cX3_landClause 8 = .ok (.istore_n 2, 1) := dk_61 (dk_at dksX3_landClause_0 8 rfl rfl)
theorem dX3_landClause_9 : decode cX3_landClause 9 = .ok (.iconst 0, 1) := dk_3 (dk_at dksX3_landClause_0 9 rfl rfl)
theorem dX3_landClause_10 : decode cX3_landClause 10 = .ok (.istore_n 3, 1) := dk_62 (dk_at dksX3_landClause_0 10 rfl rfl)
theorem dX3_landClause_11 : decode cX3_landClause 11 = .ok (.iload_n 3, 1) := dk_29 (dk_at dksX3_landClause_0 11 rfl rfl)
theorem dX3_landClause_12 : decode cX3_landClause 12 = .ok (.iconst 5, 1) := dk_8 (dk_at dksX3_landClause_0 12 rfl rfl)
theorem dX3_landClause_13 : decode cX3_landClause 13 = .ok (.if_icmp .ge 20, 3) := dk_162 0 20 (dk_at dksX3_landClause_0 13 rfl rfl)
theorem dX3_landClause_16 : decode cX3_landClause 16 = .ok (.aload_n 0, 1) := dk_42 (dk_at dksX3_landClause_0 16 rfl rfl)
theorem dX3_landClause_17 : decode cX3_landClause 17 = .ok (.iload_n 3, 1) := dk_29 (dk_at dksX3_landClause_0 17 rfl rfl)
theorem dX3_landClause_18 : decode cX3_landClause 18 = .ok (.invokestatic 330, 3) := dk_184 1 74 (dk_at dksX3_landClause_0 18 rfl rfl)
theorem dX3_landClause_21 : decode cX3_landClause 21 = .ok (.invokevirtual 243, 3) := dk_182 0 243 (dk_at dksX3_landClause_0 21 rfl rfl)
theorem dX3_landClause_24 : decode cX3_landClause 24 = .ok (.ifCond .ne 9, 3) := dk_154 0 9 (dk_at dksX3_landClause_1 0 rfl rfl)
theorem dX3_landClause_27 : decode cX3_landClause 27 = .ok (.iinc 3 1, 3) := dk_132 3 1 (dk_at dksX3_landClause_1 3 rfl rfl)
theorem dX3_landClause_30 : decode cX3_landClause 30 = .ok (.goto (-19), 3) := dk_167 255 237 (dk_at dksX3_landClause_1 6 rfl rfl)
theorem dX3_landClause_33 : decode cX3_landClause 33 = .ok (.iload_n 3, 1) := dk_29 (dk_at dksX3_landClause_1 9 rfl rfl)
theorem dX3_landClause_34 : decode cX3_landClause 34 = .ok (.iconst 5, 1) := dk_8 (dk_at dksX3_landClause_1 10 rfl rfl)
theorem dX3_landClause_35 : decode cX3_landClause 35 = .ok (.if_icmp .ne 10, 3) := dk_160 0 10 (dk_at dksX3_landClause_1 11 rfl rfl)
theorem dX3_landClause_38 : decode cX3_landClause 38 = .ok (.aload_n 0, 1) := dk_42 (dk_at dksX3_landClause_1 14 rfl rfl)
theorem dX3_landClause_39 : decode cX3_landClause 39 = .ok (.iconst 0, 1) := dk_3 (dk_at dksX3_landClause_1 15 rfl rfl)
theorem dX3_landClause_40 : decode cX3_landClause 40 = .ok (.iload_n 2, 1) := dk_28 (dk_at dksX3_landClause_1 16 rfl rfl)
theorem dX3_landClause_41 : decode cX3_landClause 41 = .ok (.invokevirtual 256, 3) := dk_182 1 0 (dk_at dksX3_landClause_1 17 rfl rfl)
theorem dX3_landClause_44 : decode cX3_landClause 44 = .ok (.return_, 1) := dk_177 (dk_at dksX3_landClause_1 20 rfl rfl)
theorem dX3_landClause_45 : decode cX3_landClause 45 = .ok (.aload_n 0, 1) := dk_42 (dk_at dksX3_landClause_1 21 rfl rfl)
theorem dX3_landClause_46 : decode cX3_landClause 46 = .ok (.iload_n 3, 1) := dk_29 (dk_at dksX3_landClause_1 22 rfl rfl)
theorem dX3_landClause_47 : decode cX3_landClause 47 = .ok (.iload_n 1, 1) := dk_27 (dk_at dksX3_landClause_1 23 rfl rfl)
theorem dX3_landClause_48 : decode cX3_landClause 48 = .ok (.invokevirtual 333, 3) := dk_182 1 77 (dk_at dksX3_landClause_2 0 rfl rfl)
theorem dX3_landClause_51 : decode cX3_landClause 51 = .ok (.ifCond .eq 10, 3) := dk_153 0 10 (dk_at dksX3_landClause_2 3 rfl rfl)
theorem dX3_landClause_54 : decode cX3_landClause 54 = .ok (.aload_n 0, 1) := dk_42 (dk_at dksX3_landClause_2 6 rfl rfl)
theorem dX3_landClause_55 : decode cX3_landClause 55 = .ok (.iconst 4, 1) := dk_7 (dk_at dksX3_landClause_2 7 rfl rfl)
theorem dX3_landClause_56 : decode cX3_landClause 56 = .ok (.iload_n 2, 1) := dk_28 (dk_at dksX3_landClause_2 8 rfl rfl)
theorem dX3_landClause_57 : decode cX3_landClause 57 = .ok (.invokevirtual 256, 3) := dk_182 1 0 (dk_at dksX3_landClause_2 9 rfl rfl)
theorem dX3_landClause_60 : decode cX3_landClause 60 = .ok (.return_, 1) := dk_177 (dk_at dksX3_landClause_2 12 rfl rfl)
theorem dX3_landClause_61 : decode cX3_landClause 61 = .ok (.aload_n 0, 1) := dk_42 (dk_at dksX3_landClause_2 13 rfl rfl)
theorem dX3_landClause_62 : decode cX3_landClause 62 = .ok (.dup, 1) := dk_89 (dk_at dksX3_landClause_2 14 rfl rfl)
theorem dX3_landClause_63 : decode cX3_landClause 63 = .ok (.getfield 221, 3) := dk_180 0 221 (dk_at dksX3_landClause_2 15 rfl rfl)
theorem dX3_landClause_66 : decode cX3_landClause 66 = .ok (.iload_n 3, 1) := dk_29 (dk_at dksX3_landClause_2 18 rfl rfl)
theorem dX3_landClause_67 : decode cX3_landClause 67 = .ok (.invokestatic 330, 3) := dk_184 1 74 (dk_at dksX3_landClause_2 19 rfl rfl)
theorem dX3_landClause_70 : decode cX3_landClause 70 = .ok (.invokevirtual 231, 3) := dk_182 0 231 (dk_at dksX3_landClause_3 0 rfl rfl)
theorem dX3_landClause_73 : decode cX3_landClause 73 = .ok (.iadd, 1) := dk_96 (dk_at dksX3_landClause_3 3 rfl rfl)
theorem dX3_landClause_74 : decode cX3_landClause 74 = .ok (.putfield 221, 3) := dk_181 0 221 (dk_at dksX3_landClause_3 4 rfl rfl)
theorem dX3_landClause_77 : decode cX3_landClause 77 = .ok (.aload_n 0, 1) := dk_42 (dk_at dksX3_landClause_3 7 rfl rfl)
theorem dX3_landClause_78 : decode cX3_landClause 78 = .ok (.iload_n 3, 1) := dk_29 (dk_at dksX3_landClause_3 8 rfl rfl)
theorem dX3_landClause_79 : decode cX3_landClause 79 = .ok (.invokevirtual 337, 3) := dk_182 1 81 (dk_at dksX3_landClause_3 9 rfl rfl)
theorem dX3_landClause_82 : decode cX3_landClause 82 = .ok (.return_, 1) := dk_177 (dk_at dksX3_landClause_3 12 rfl rfl)
abbrev cX3_blanks : ByteArray := prog_21_method_19_code
def yX3_blanks : MethodName := ⟨RX3, "blanks", "()V"⟩
def dkwX3_blanks_0 : List UInt8 := [42, 182, 0, 224, 16, 32, 160, 0, 16, 42, 89, 180, 0, 221, 4, 96, 181, 0, 221, 167, 255, 237, 177]
abbrev dktX3_blanks_0 : List UInt8 := dkwX3_blanks_0 ++ []
theorem dksX3_blanks_0 : cX3_blanks.data.toList.drop 0 = dktX3_blanks_0 := by decide +kernel
theorem dX3_blanks_0 : decode cX3_blanks 0 = .ok (.aload_n 0, 1) := dk_42 (dk_at dksX3_blanks_0 0 rfl rfl)
theorem dX3_blanks_1 : decode cX3_blanks 1 = .ok (.invokevirtual 224, 3) := dk_182 0 224 (dk_at dksX3_blanks_0 1 rfl rfl)
theorem dX3_blanks_4 : decode cX3_blanks 4 = .ok (.bipush 32, 2) := dk_16 32 (dk_at dksX3_blanks_0 4 rfl rfl)
theorem dX3_blanks_6 : decode cX3_blanks 6 = .ok (.if_icmp .ne 16, 3) := dk_160 0 16 (dk_at dksX3_blanks_0 6 rfl rfl)
theorem dX3_blanks_9 : decode cX3_blanks 9 = .ok (.aload_n 0, 1) := dk_42 (dk_at dksX3_blanks_0 9 rfl rfl)
theorem dX3_blanks_10 : decode cX3_blanks 10 = .ok (.dup, 1) := dk_89 (dk_at dksX3_blanks_0 10 rfl rfl)
theorem dX3_blanks_11 : decode cX3_blanks 11 = .ok (.getfield 221, 3) := dk_180 0 221 (dk_at dksX3_blanks_0 11 rfl rfl)
theorem dX3_blanks_14 : decode cX3_blanks 14 = .ok (.iconst 1, 1) := dk_4 (dk_at dksX3_blanks_0 14 rfl rfl)
theorem dX3_blanks_15 : decode cX3_blanks 15 = .ok (.iadd, 1) := dk_96 (dk_at dksX3_blanks_0 15 rfl rfl)
theorem dX3_blanks_16 : decode cX3_blanks 16 = .ok (.putfield 221, 3) := dk_181 0 221 (dk_at dksX3_blanks_0 16 rfl rfl)
theorem dX3_blanks_19 : decode cX3_blanks 19 = .ok (.goto (-19), 3) := dk_167 255 237 (dk_at dksX3_blanks_0 19 rfl rfl)
theorem dX3_blanks_22 : decode cX3_blanks 22 = .ok (.return_, 1) := dk_177 (dk_at dksX3_blanks_0 22 rfl rfl)
abbrev cX3_sign : ByteArray := prog_21_method_18_code
def yX3_sign : MethodName := ⟨RX3, "sign", "()I"⟩
def dkwX3_sign_1 : List UInt8 := [167, 0, 4, 2, 172]
abbrev dktX3_sign_1 : List UInt8 := dkwX3_sign_1 ++ []
def dkwX3_sign_0 : List UInt8 := [42, 180, 0, 221, 42, 180, 0, 194, 162, 0, 19, 42, 180, 0, 92, 42, 180, 0, 221, 51, 17, 0, 255, 126]
abbrev dktX3_sign_0 : List UInt8 := dkwX3_sign_0 ++ dktX3_sign_1
theorem dksX3_sign_0 : cX3_sign.data.toList.drop 0 = dktX3_sign_0 := by decide +kernel
theorem dksX3_sign_1 : cX3_sign.data.toList.drop 24 = dktX3_sign_1 := dk_seg dksX3_sign_0 24 rfl rfl
theorem dX3_sign_0 : decode cX3_sign 0 = .ok (.aload_n 0, 1) := dk_42 (dk_at dksX3_sign_0 0 rfl rfl)
theorem dX3_sign_1 : decode cX3_sign 1 = .ok (.getfield 221, 3) := dk_180 0 221 (dk_at dksX3_sign_0 1 rfl rfl)
theorem dX3_sign_4 : decode cX3_sign 4 = .ok (.aload_n 0, 1) := dk_42 (dk_at dksX3_sign_0 4 rfl rfl)
theorem dX3_sign_5 : decode cX3_sign 5 = .ok (.getfield 194, 3) := dk_180 0 194 (dk_at dksX3_sign_0 5 rfl rfl)
theorem dX3_sign_8 : decode cX3_sign 8 = .ok (.if_icmp .ge 19, 3) := dk_162 0 19 (dk_at dksX3_sign_0 8 rfl rfl)
theorem dX3_sign_11 : decode cX3_sign 11 = .ok (.aload_n 0, 1) := dk_42 (dk_at dksX3_sign_0 11 rfl rfl)
theorem dX3_sign_12 : decode cX3_sign 12 = .ok (.getfield 92, 3) := dk_180 0 92 (dk_at dksX3_sign_0 12 rfl rfl)
theorem dX3_sign_15 : decode cX3_sign 15 = .ok (.aload_n 0, 1) := dk_42 (dk_at dksX3_sign_0 15 rfl rfl)
theorem dX3_sign_16 : decode cX3_sign 16 = .ok (.getfield 221, 3) := dk_180 0 221 (dk_at dksX3_sign_0 16 rfl rfl)
theorem dX3_sign_19 : decode cX3_sign 19 = .ok (.baload, 1) := dk_51 (dk_at dksX3_sign_0 19 rfl rfl)
theorem dX3_sign_20 : decode cX3_sign 20 = .ok (.sipush 255, 3) := dk_17 0 255 (dk_at dksX3_sign_0 20 rfl rfl)
theorem dX3_sign_23 : decode cX3_sign 23 = .ok (.iand, 1) := dk_126 (dk_at dksX3_sign_0 23 rfl rfl)
theorem dX3_sign_24 : decode cX3_sign 24 = .ok (.goto 4, 3) := dk_167 0 4 (dk_at dksX3_sign_1 0 rfl rfl)
theorem dX3_sign_27 : decode cX3_sign 27 = .ok (.iconst (-1), 1) := dk_2 (dk_at dksX3_sign_1 3 rfl rfl)
theorem dX3_sign_28 : decode cX3_sign 28 = .ok (.ireturn, 1) := dk_172 (dk_at dksX3_sign_1 4 rfl rfl)
abbrev cX3_landWord : ByteArray := prog_21_method_36_code
def yX3_landWord : MethodName := ⟨RX3, "landWord", "(I)Ljava/lang/String;"⟩
def dkwX3_landWord_2 : List UInt8 := [19, 1, 57, 176, 18, 201, 176, 19, 1, 59, 176, 19, 1, 61, 176, 19, 1, 63, 176]
abbrev dktX3_landWord_2 : List UInt8 := dkwX3_landWord_2 ++ []
def dkwX3_landWord_1 : List UInt8 := [170, 0, 0, 0, 0, 0, 46, 0, 0, 0, 0, 0, 0, 0, 3, 0, 0, 0, 31, 0, 0, 0, 35, 0, 0, 0, 38, 0, 0, 0, 42]
abbrev dktX3_landWord_1 : List UInt8 := dkwX3_landWord_1 ++ dktX3_landWord_2
def dkwX3_landWord_0 : List UInt8 := [26]
abbrev dktX3_landWord_0 : List UInt8 := dkwX3_landWord_0 ++ dktX3_landWord_1
theorem dksX3_landWord_0 : cX3_landWord.data.toList.drop 0 = dktX3_landWord_0 := by decide +kernel
theorem dksX3_landWord_1 : cX3_landWord.data.toList.drop 1 = dktX3_landWord_1 := dk_seg dksX3_landWord_0 1 rfl rfl
theorem dksX3_landWord_2 : cX3_landWord.data.toList.drop 32 = dktX3_landWord_2 := dk_seg dksX3_landWord_1 31 rfl rfl
theorem dX3_landWord_0 : decode cX3_landWord 0 = .ok (.iload_n 0, 1) := dk_26 (dk_at dksX3_landWord_0 0 rfl rfl)
theorem dX3_landWord_1 : decode cX3_landWord 1 = .ok (.tableswitch 46 0 3 #[31, 35, 38, 42], 31) := by decide +kernel
theorem dX3_landWord_32 : decode cX3_landWord 32 = .ok (.ldc_w 313, 3) := dk_19 1 57 (dk_at dksX3_landWord_2 0 rfl rfl)
theorem dX3_landWord_35 : decode cX3_landWord 35 = .ok (.areturn, 1) := dk_176 (dk_at dksX3_landWord_2 3 rfl rfl)
theorem dX3_landWord_36 : decode cX3_landWord 36 = .ok (.ldc 201, 2) := dk_18 201 (dk_at dksX3_landWord_2 4 rfl rfl)
theorem dX3_landWord_38 : decode cX3_landWord 38 = .ok (.areturn, 1) := dk_176 (dk_at dksX3_landWord_2 6 rfl rfl)
theorem dX3_landWord_39 : decode cX3_landWord 39 = .ok (.ldc_w 315, 3) := dk_19 1 59 (dk_at dksX3_landWord_2 7 rfl rfl)
theorem dX3_landWord_42 : decode cX3_landWord 42 = .ok (.areturn, 1) := dk_176 (dk_at dksX3_landWord_2 10 rfl rfl)
theorem dX3_landWord_43 : decode cX3_landWord 43 = .ok (.ldc_w 317, 3) := dk_19 1 61 (dk_at dksX3_landWord_2 11 rfl rfl)
theorem dX3_landWord_46 : decode cX3_landWord 46 = .ok (.areturn, 1) := dk_176 (dk_at dksX3_landWord_2 14 rfl rfl)
theorem dX3_landWord_47 : decode cX3_landWord 47 = .ok (.ldc_w 319, 3) := dk_19 1 63 (dk_at dksX3_landWord_2 15 rfl rfl)
theorem dX3_landWord_50 : decode cX3_landWord 50 = .ok (.areturn, 1) := dk_176 (dk_at dksX3_landWord_2 18 rfl rfl)
abbrev cX3_stood : ByteArray := prog_21_method_21_code
def yX3_stood : MethodName := ⟨RX3, "stood", "(Ljava/lang/String;)Z"⟩
def dkwX3_stood_4 : List UInt8 := [160, 0, 7, 4, 167, 0, 4, 3, 62, 132, 4, 1, 167, 255, 213, 29, 172]
abbrev dktX3_stood_4 : List UInt8 := dkwX3_stood_4 ++ []
def dkwX3_stood_3 : List UInt8 := [29, 153, 0, 36, 42, 180, 0, 92, 42, 180, 0, 221, 21, 4, 96, 51, 43, 21, 4, 182, 0, 236]
abbrev dktX3_stood_3 : List UInt8 := dkwX3_stood_3 ++ dktX3_stood_4
def dkwX3_stood_2 : List UInt8 := [182, 0, 231, 160, 0, 7, 4, 167, 0, 4, 3, 62, 3, 54, 4, 21, 4, 43, 182, 0, 231, 162, 0, 40]
abbrev dktX3_stood_2 : List UInt8 := dkwX3_stood_2 ++ dktX3_stood_3
def dkwX3_stood_1 : List UInt8 := [42, 180, 0, 92, 28, 51, 16, 122, 163, 0, 9, 132, 2, 1, 167, 255, 223, 28, 42, 180, 0, 221, 100, 43]
abbrev dktX3_stood_1 : List UInt8 := dkwX3_stood_1 ++ dktX3_stood_2
def dkwX3_stood_0 : List UInt8 := [42, 180, 0, 221, 61, 28, 42, 180, 0, 194, 162, 0, 31, 42, 180, 0, 92, 28, 51, 16, 97, 161, 0, 20]
abbrev dktX3_stood_0 : List UInt8 := dkwX3_stood_0 ++ dktX3_stood_1
theorem dksX3_stood_0 : cX3_stood.data.toList.drop 0 = dktX3_stood_0 := by decide +kernel
theorem dksX3_stood_1 : cX3_stood.data.toList.drop 24 = dktX3_stood_1 := dk_seg dksX3_stood_0 24 rfl rfl
theorem dksX3_stood_2 : cX3_stood.data.toList.drop 48 = dktX3_stood_2 := dk_seg dksX3_stood_1 24 rfl rfl
theorem dksX3_stood_3 : cX3_stood.data.toList.drop 72 = dktX3_stood_3 := dk_seg dksX3_stood_2 24 rfl rfl
theorem dksX3_stood_4 : cX3_stood.data.toList.drop 94 = dktX3_stood_4 := dk_seg dksX3_stood_3 22 rfl rfl
theorem dX3_stood_0 : decode cX3_stood 0 = .ok (.aload_n 0, 1) := dk_42 (dk_at dksX3_stood_0 0 rfl rfl)
theorem dX3_stood_1 : decode cX3_stood 1 = .ok (.getfield 221, 3) := dk_180 0 221 (dk_at dksX3_stood_0 1 rfl rfl)
theorem dX3_stood_4 : decode cX3_stood 4 = .ok (.istore_n 2, 1) := dk_61 (dk_at dksX3_stood_0 4 rfl rfl)
theorem dX3_stood_5 : decode cX3_stood 5 = .ok (.iload_n 2, 1) := dk_28 (dk_at dksX3_stood_0 5 rfl rfl)
theorem dX3_stood_6 : decode cX3_stood 6 = .ok (.aload_n 0, 1) := dk_42 (dk_at dksX3_stood_0 6 rfl rfl)
theorem dX3_stood_7 : decode cX3_stood 7 = .ok (.getfield 194, 3) := dk_180 0 194 (dk_at dksX3_stood_0 7 rfl rfl)
theorem dX3_stood_10 : decode cX3_stood 10 = .ok (.if_icmp .ge 31, 3) := dk_162 0 31 (dk_at dksX3_stood_0 10 rfl rfl)
theorem dX3_stood_13 : decode cX3_stood 13 = .ok (.aload_n 0, 1) := dk_42 (dk_at dksX3_stood_0 13 rfl rfl)
theorem dX3_stood_14 : decode cX3_stood 14 = .ok (.getfield 92, 3) := dk_180 0 92 (dk_at dksX3_stood_0 14 rfl rfl)
theorem dX3_stood_17 : decode cX3_stood 17 = .ok (.iload_n 2, 1) := dk_28 (dk_at dksX3_stood_0 17 rfl rfl)
theorem dX3_stood_18 : decode cX3_stood 18 = .ok (.baload, 1) := dk_51 (dk_at dksX3_stood_0 18 rfl rfl)
theorem dX3_stood_19 : decode cX3_stood 19 = .ok (.bipush 97, 2) := dk_16 97 (dk_at dksX3_stood_0 19 rfl rfl)
theorem dX3_stood_21 : decode cX3_stood 21 = .ok (.if_icmp .lt 20, 3) := dk_161 0 20 (dk_at dksX3_stood_0 21 rfl rfl)
theorem dX3_stood_24 : decode cX3_stood 24 = .ok (.aload_n 0, 1) := dk_42 (dk_at dksX3_stood_1 0 rfl rfl)
theorem dX3_stood_25 : decode cX3_stood 25 = .ok (.getfield 92, 3) := dk_180 0 92 (dk_at dksX3_stood_1 1 rfl rfl)
theorem dX3_stood_28 : decode cX3_stood 28 = .ok (.iload_n 2, 1) := dk_28 (dk_at dksX3_stood_1 4 rfl rfl)
theorem dX3_stood_29 : decode cX3_stood 29 = .ok (.baload, 1) := dk_51 (dk_at dksX3_stood_1 5 rfl rfl)
theorem dX3_stood_30 : decode cX3_stood 30 = .ok (.bipush 122, 2) := dk_16 122 (dk_at dksX3_stood_1 6 rfl rfl)
theorem dX3_stood_32 : decode cX3_stood 32 = .ok (.if_icmp .gt 9, 3) := dk_163 0 9 (dk_at dksX3_stood_1 8 rfl rfl)
theorem dX3_stood_35 : decode cX3_stood 35 = .ok (.iinc 2 1, 3) := dk_132 2 1 (dk_at dksX3_stood_1 11 rfl rfl)
theorem dX3_stood_38 : decode cX3_stood 38 = .ok (.goto (-33), 3) := dk_167 255 223 (dk_at dksX3_stood_1 14 rfl rfl)
theorem dX3_stood_41 : decode cX3_stood 41 = .ok (.iload_n 2, 1) := dk_28 (dk_at dksX3_stood_1 17 rfl rfl)
theorem dX3_stood_42 : decode cX3_stood 42 = .ok (.aload_n 0, 1) := dk_42 (dk_at dksX3_stood_1 18 rfl rfl)
theorem dX3_stood_43 : decode cX3_stood 43 = .ok (.getfield 221, 3) := dk_180 0 221 (dk_at dksX3_stood_1 19 rfl rfl)
theorem dX3_stood_46 : decode cX3_stood 46 = .ok (.isub, 1) := dk_100 (dk_at dksX3_stood_1 22 rfl rfl)
theorem dX3_stood_47 : decode cX3_stood 47 = .ok (.aload_n 1, 1) := dk_43 (dk_at dksX3_stood_1 23 rfl rfl)
theorem dX3_stood_48 : decode cX3_stood 48 = .ok (.invokevirtual 231, 3) := dk_182 0 231 (dk_at dksX3_stood_2 0 rfl rfl)
theorem dX3_stood_51 : decode cX3_stood 51 = .ok (.if_icmp .ne 7, 3) := dk_160 0 7 (dk_at dksX3_stood_2 3 rfl rfl)
theorem dX3_stood_54 : decode cX3_stood 54 = .ok (.iconst 1, 1) := dk_4 (dk_at dksX3_stood_2 6 rfl rfl)
theorem dX3_stood_55 : decode cX3_stood 55 = .ok (.goto 4, 3) := dk_167 0 4 (dk_at dksX3_stood_2 7 rfl rfl)
theorem dX3_stood_58 : decode cX3_stood 58 = .ok (.iconst 0, 1) := dk_3 (dk_at dksX3_stood_2 10 rfl rfl)
theorem dX3_stood_59 : decode cX3_stood 59 = .ok (.istore_n 3, 1) := dk_62 (dk_at dksX3_stood_2 11 rfl rfl)
theorem dX3_stood_60 : decode cX3_stood 60 = .ok (.iconst 0, 1) := dk_3 (dk_at dksX3_stood_2 12 rfl rfl)
theorem dX3_stood_61 : decode cX3_stood 61 = .ok (.istore 4, 2) := dk_54 4 (dk_at dksX3_stood_2 13 rfl rfl)
theorem dX3_stood_63 : decode cX3_stood 63 = .ok (.iload 4, 2) := dk_21 4 (dk_at dksX3_stood_2 15 rfl rfl)
theorem dX3_stood_65 : decode cX3_stood 65 = .ok (.aload_n 1, 1) := dk_43 (dk_at dksX3_stood_2 17 rfl rfl)
theorem dX3_stood_66 : decode cX3_stood 66 = .ok (.invokevirtual 231, 3) := dk_182 0 231 (dk_at dksX3_stood_2 18 rfl rfl)
theorem dX3_stood_69 : decode cX3_stood 69 = .ok (.if_icmp .ge 40, 3) := dk_162 0 40 (dk_at dksX3_stood_2 21 rfl rfl)
theorem dX3_stood_72 : decode cX3_stood 72 = .ok (.iload_n 3, 1) := dk_29 (dk_at dksX3_stood_3 0 rfl rfl)
theorem dX3_stood_73 : decode cX3_stood 73 = .ok (.ifCond .eq 36, 3) := dk_153 0 36 (dk_at dksX3_stood_3 1 rfl rfl)
theorem dX3_stood_76 : decode cX3_stood 76 = .ok (.aload_n 0, 1) := dk_42 (dk_at dksX3_stood_3 4 rfl rfl)
theorem dX3_stood_77 : decode cX3_stood 77 = .ok (.getfield 92, 3) := dk_180 0 92 (dk_at dksX3_stood_3 5 rfl rfl)
theorem dX3_stood_80 : decode cX3_stood 80 = .ok (.aload_n 0, 1) := dk_42 (dk_at dksX3_stood_3 8 rfl rfl)
theorem dX3_stood_81 : decode cX3_stood 81 = .ok (.getfield 221, 3) := dk_180 0 221 (dk_at dksX3_stood_3 9 rfl rfl)
theorem dX3_stood_84 : decode cX3_stood 84 = .ok (.iload 4, 2) := dk_21 4 (dk_at dksX3_stood_3 12 rfl rfl)
theorem dX3_stood_86 : decode cX3_stood 86 = .ok (.iadd, 1) := dk_96 (dk_at dksX3_stood_3 14 rfl rfl)
theorem dX3_stood_87 : decode cX3_stood 87 = .ok (.baload, 1) := dk_51 (dk_at dksX3_stood_3 15 rfl rfl)
theorem dX3_stood_88 : decode cX3_stood 88 = .ok (.aload_n 1, 1) := dk_43 (dk_at dksX3_stood_3 16 rfl rfl)
theorem dX3_stood_89 : decode cX3_stood 89 = .ok (.iload 4, 2) := dk_21 4 (dk_at dksX3_stood_3 17 rfl rfl)
theorem dX3_stood_91 : decode cX3_stood 91 = .ok (.invokevirtual 236, 3) := dk_182 0 236 (dk_at dksX3_stood_3 19 rfl rfl)
theorem dX3_stood_94 : decode cX3_stood 94 = .ok (.if_icmp .ne 7, 3) := dk_160 0 7 (dk_at dksX3_stood_4 0 rfl rfl)
theorem dX3_stood_97 : decode cX3_stood 97 = .ok (.iconst 1, 1) := dk_4 (dk_at dksX3_stood_4 3 rfl rfl)
theorem dX3_stood_98 : decode cX3_stood 98 = .ok (.goto 4, 3) := dk_167 0 4 (dk_at dksX3_stood_4 4 rfl rfl)
theorem dX3_stood_101 : decode cX3_stood 101 = .ok (.iconst 0, 1) := dk_3 (dk_at dksX3_stood_4 7 rfl rfl)
theorem dX3_stood_102 : decode cX3_stood 102 = .ok (.istore_n 3, 1) := dk_62 (dk_at dksX3_stood_4 8 rfl rfl)
theorem dX3_stood_103 : decode cX3_stood 103 = .ok (.iinc 4 1, 3) := dk_132 4 1 (dk_at dksX3_stood_4 9 rfl rfl)
theorem dX3_stood_106 : decode cX3_stood 106 = .ok (.goto (-43), 3) := dk_167 255 213 (dk_at dksX3_stood_4 12 rfl rfl)
theorem dX3_stood_109 : decode cX3_stood 109 = .ok (.iload_n 3, 1) := dk_29 (dk_at dksX3_stood_4 15 rfl rfl)
theorem dX3_stood_110 : decode cX3_stood 110 = .ok (.ireturn, 1) := dk_172 (dk_at dksX3_stood_4 16 rfl rfl)
abbrev cX3_fails : ByteArray := prog_21_method_17_code
def yX3_fails : MethodName := ⟨RX3, "fails", "(II)V"⟩
def dkwX3_fails_1 : List UInt8 := [181, 0, 218, 177]
abbrev dktX3_fails_1 : List UInt8 := dkwX3_fails_1 ++ []
def dkwX3_fails_0 : List UInt8 := [42, 42, 180, 0, 218, 154, 0, 14, 4, 16, 8, 28, 104, 96, 27, 96, 167, 0, 7, 42, 180, 0, 218]
abbrev dktX3_fails_0 : List UInt8 := dkwX3_fails_0 ++ dktX3_fails_1
theorem dksX3_fails_0 : cX3_fails.data.toList.drop 0 = dktX3_fails_0 := by decide +kernel
theorem dksX3_fails_1 : cX3_fails.data.toList.drop 23 = dktX3_fails_1 := dk_seg dksX3_fails_0 23 rfl rfl
theorem dX3_fails_0 : decode cX3_fails 0 = .ok (.aload_n 0, 1) := dk_42 (dk_at dksX3_fails_0 0 rfl rfl)
theorem dX3_fails_1 : decode cX3_fails 1 = .ok (.aload_n 0, 1) := dk_42 (dk_at dksX3_fails_0 1 rfl rfl)
theorem dX3_fails_2 : decode cX3_fails 2 = .ok (.getfield 218, 3) := dk_180 0 218 (dk_at dksX3_fails_0 2 rfl rfl)
theorem dX3_fails_5 : decode cX3_fails 5 = .ok (.ifCond .ne 14, 3) := dk_154 0 14 (dk_at dksX3_fails_0 5 rfl rfl)
theorem dX3_fails_8 : decode cX3_fails 8 = .ok (.iconst 1, 1) := dk_4 (dk_at dksX3_fails_0 8 rfl rfl)
theorem dX3_fails_9 : decode cX3_fails 9 = .ok (.bipush 8, 2) := dk_16 8 (dk_at dksX3_fails_0 9 rfl rfl)
theorem dX3_fails_11 : decode cX3_fails 11 = .ok (.iload_n 2, 1) := dk_28 (dk_at dksX3_fails_0 11 rfl rfl)
theorem dX3_fails_12 : decode cX3_fails 12 = .ok (.imul, 1) := dk_104 (dk_at dksX3_fails_0 12 rfl rfl)
theorem dX3_fails_13 : decode cX3_fails 13 = .ok (.iadd, 1) := dk_96 (dk_at dksX3_fails_0 13 rfl rfl)
theorem dX3_fails_14 : decode cX3_fails 14 = .ok (.iload_n 1, 1) := dk_27 (dk_at dksX3_fails_0 14 rfl rfl)
theorem dX3_fails_15 : decode cX3_fails 15 = .ok (.iadd, 1) := dk_96 (dk_at dksX3_fails_0 15 rfl rfl)
theorem dX3_fails_16 : decode cX3_fails 16 = .ok (.goto 7, 3) := dk_167 0 7 (dk_at dksX3_fails_0 16 rfl rfl)
theorem dX3_fails_19 : decode cX3_fails 19 = .ok (.aload_n 0, 1) := dk_42 (dk_at dksX3_fails_0 19 rfl rfl)
theorem dX3_fails_20 : decode cX3_fails 20 = .ok (.getfield 218, 3) := dk_180 0 218 (dk_at dksX3_fails_0 20 rfl rfl)
theorem dX3_fails_23 : decode cX3_fails 23 = .ok (.putfield 218, 3) := dk_181 0 218 (dk_at dksX3_fails_1 0 rfl rfl)
theorem dX3_fails_26 : decode cX3_fails 26 = .ok (.return_, 1) := dk_177 (dk_at dksX3_fails_1 3 rfl rfl)
abbrev cX3_isFull : ByteArray := prog_21_method_40_code
def yX3_isFull : MethodName := ⟨RX3, "isFull", "(II)Z"⟩
def dkwX3_isFull_5 : List UInt8 := [167, 0, 4, 3, 172, 42, 180, 0, 55, 8, 46, 16, 8, 160, 0, 7, 4, 167, 0, 4, 3, 172, 3, 172]
abbrev dktX3_isFull_5 : List UInt8 := dkwX3_isFull_5 ++ []
def dkwX3_isFull_4 : List UInt8 := [16, 6, 160, 0, 7, 4, 167, 0, 4, 3, 172, 42, 180, 0, 55, 7, 46, 16, 10, 160, 0, 7, 4]
abbrev dktX3_isFull_4 : List UInt8 := dkwX3_isFull_4 ++ dktX3_isFull_5
def dkwX3_isFull_3 : List UInt8 := [42, 180, 0, 55, 5, 46, 16, 6, 160, 0, 7, 4, 167, 0, 4, 3, 172, 42, 180, 0, 55, 6, 46]
abbrev dktX3_isFull_3 : List UInt8 := dkwX3_isFull_3 ++ dktX3_isFull_4
def dkwX3_isFull_2 : List UInt8 := [170, 0, 0, 0, 0, 98, 0, 0, 0, 1, 0, 0, 0, 4, 0, 0, 0, 30, 0, 0, 0, 47, 0, 0, 0, 64, 0, 0, 0, 81]
abbrev dktX3_isFull_2 : List UInt8 := dkwX3_isFull_2 ++ dktX3_isFull_3
def dkwX3_isFull_1 : List UInt8 := [159, 0, 5, 4, 172, 27]
abbrev dktX3_isFull_1 : List UInt8 := dkwX3_isFull_1 ++ dktX3_isFull_2
def dkwX3_isFull_0 : List UInt8 := [28, 16, 40, 159, 0, 24, 27, 154, 0, 7, 4, 167, 0, 4, 3, 28, 154, 0, 7, 4, 167, 0, 4, 3]
abbrev dktX3_isFull_0 : List UInt8 := dkwX3_isFull_0 ++ dktX3_isFull_1
theorem dksX3_isFull_0 : cX3_isFull.data.toList.drop 0 = dktX3_isFull_0 := by decide +kernel
theorem dksX3_isFull_1 : cX3_isFull.data.toList.drop 24 = dktX3_isFull_1 := dk_seg dksX3_isFull_0 24 rfl rfl
theorem dksX3_isFull_2 : cX3_isFull.data.toList.drop 30 = dktX3_isFull_2 := dk_seg dksX3_isFull_1 6 rfl rfl
theorem dksX3_isFull_3 : cX3_isFull.data.toList.drop 60 = dktX3_isFull_3 := dk_seg dksX3_isFull_2 30 rfl rfl
theorem dksX3_isFull_4 : cX3_isFull.data.toList.drop 83 = dktX3_isFull_4 := dk_seg dksX3_isFull_3 23 rfl rfl
theorem dksX3_isFull_5 : cX3_isFull.data.toList.drop 106 = dktX3_isFull_5 := dk_seg dksX3_isFull_4 23 rfl rfl
theorem dX3_isFull_0 : decode cX3_isFull 0 = .ok (.iload_n 2, 1) := dk_28 (dk_at dksX3_isFull_0 0 rfl rfl)
theorem dX3_isFull_1 : decode cX3_isFull 1 = .ok (.bipush 40, 2) := dk_16 40 (dk_at dksX3_isFull_0 1 rfl rfl)
theorem dX3_isFull_3 : decode cX3_isFull 3 = .ok (.if_icmp .eq 24, 3) := dk_159 0 24 (dk_at dksX3_isFull_0 3 rfl rfl)
theorem dX3_isFull_6 : decode cX3_isFull 6 = .ok (.iload_n 1, 1) := dk_27 (dk_at dksX3_isFull_0 6 rfl rfl)
theorem dX3_isFull_7 : decode cX3_isFull 7 = .ok (.ifCond .ne 7, 3) := dk_154 0 7 (dk_at dksX3_isFull_0 7 rfl rfl)
theorem dX3_isFull_10 : decode cX3_isFull 10 = .ok (.iconst 1, 1) := dk_4 (dk_at dksX3_isFull_0 10 rfl rfl)
theorem dX3_isFull_11 : decode cX3_isFull 11 = .ok (.goto 4, 3) := dk_167 0 4 (dk_at dksX3_isFull_0 11 rfl rfl)
theorem dX3_isFull_14 : decode cX3_isFull 14 = .ok (.iconst 0, 1) := dk_3 (dk_at dksX3_isFull_0 14 rfl rfl)
theorem dX3_isFull_15 : decode cX3_isFull 15 = .ok (.iload_n 2, 1) := dk_28 (dk_at dksX3_isFull_0 15 rfl rfl)
theorem dX3_isFull_16 : decode cX3_isFull 16 = .ok (.ifCond .ne 7, 3) := dk_154 0 7 (dk_at dksX3_isFull_0 16 rfl rfl)
theorem dX3_isFull_19 : decode cX3_isFull 19 = .ok (.iconst 1, 1) := dk_4 (dk_at dksX3_isFull_0 19 rfl rfl)
theorem dX3_isFull_20 : decode cX3_isFull 20 = .ok (.goto 4, 3) := dk_167 0 4 (dk_at dksX3_isFull_0 20 rfl rfl)
theorem dX3_isFull_23 : decode cX3_isFull 23 = .ok (.iconst 0, 1) := dk_3 (dk_at dksX3_isFull_0 23 rfl rfl)
theorem dX3_isFull_24 : decode cX3_isFull 24 = .ok (.if_icmp .eq 5, 3) := dk_159 0 5 (dk_at dksX3_isFull_1 0 rfl rfl)
theorem dX3_isFull_27 : decode cX3_isFull 27 = .ok (.iconst 1, 1) := dk_4 (dk_at dksX3_isFull_1 3 rfl rfl)
theorem dX3_isFull_28 : decode cX3_isFull 28 = .ok (.ireturn, 1) := dk_172 (dk_at dksX3_isFull_1 4 rfl rfl)
theorem dX3_isFull_29 : decode cX3_isFull 29 = .ok (.iload_n 1, 1) := dk_27 (dk_at dksX3_isFull_1 5 rfl rfl)
theorem dX3_isFull_30 : decode cX3_isFull 30 = .ok (.tableswitch 98 1 4 #[30, 47, 64, 81], 30) := by decide +kernel
theorem dX3_isFull_60 : decode cX3_isFull 60 = .ok (.aload_n 0, 1) := dk_42 (dk_at dksX3_isFull_3 0 rfl rfl)
theorem dX3_isFull_61 : decode cX3_isFull 61 = .ok (.getfield 55, 3) := dk_180 0 55 (dk_at dksX3_isFull_3 1 rfl rfl)
theorem dX3_isFull_64 : decode cX3_isFull 64 = .ok (.iconst 2, 1) := dk_5 (dk_at dksX3_isFull_3 4 rfl rfl)
theorem dX3_isFull_65 : decode cX3_isFull 65 = .ok (.iaload, 1) := dk_46 (dk_at dksX3_isFull_3 5 rfl rfl)
theorem dX3_isFull_66 : decode cX3_isFull 66 = .ok (.bipush 6, 2) := dk_16 6 (dk_at dksX3_isFull_3 6 rfl rfl)
theorem dX3_isFull_68 : decode cX3_isFull 68 = .ok (.if_icmp .ne 7, 3) := dk_160 0 7 (dk_at dksX3_isFull_3 8 rfl rfl)
theorem dX3_isFull_71 : decode cX3_isFull 71 = .ok (.iconst 1, 1) := dk_4 (dk_at dksX3_isFull_3 11 rfl rfl)
theorem dX3_isFull_72 : decode cX3_isFull 72 = .ok (.goto 4, 3) := dk_167 0 4 (dk_at dksX3_isFull_3 12 rfl rfl)
theorem dX3_isFull_75 : decode cX3_isFull 75 = .ok (.iconst 0, 1) := dk_3 (dk_at dksX3_isFull_3 15 rfl rfl)
theorem dX3_isFull_76 : decode cX3_isFull 76 = .ok (.ireturn, 1) := dk_172 (dk_at dksX3_isFull_3 16 rfl rfl)
theorem dX3_isFull_77 : decode cX3_isFull 77 = .ok (.aload_n 0, 1) := dk_42 (dk_at dksX3_isFull_3 17 rfl rfl)
theorem dX3_isFull_78 : decode cX3_isFull 78 = .ok (.getfield 55, 3) := dk_180 0 55 (dk_at dksX3_isFull_3 18 rfl rfl)
theorem dX3_isFull_81 : decode cX3_isFull 81 = .ok (.iconst 3, 1) := dk_6 (dk_at dksX3_isFull_3 21 rfl rfl)
theorem dX3_isFull_82 : decode cX3_isFull 82 = .ok (.iaload, 1) := dk_46 (dk_at dksX3_isFull_3 22 rfl rfl)
theorem dX3_isFull_83 : decode cX3_isFull 83 = .ok (.bipush 6, 2) := dk_16 6 (dk_at dksX3_isFull_4 0 rfl rfl)
theorem dX3_isFull_85 : decode cX3_isFull 85 = .ok (.if_icmp .ne 7, 3) := dk_160 0 7 (dk_at dksX3_isFull_4 2 rfl rfl)
theorem dX3_isFull_88 : decode cX3_isFull 88 = .ok (.iconst 1, 1) := dk_4 (dk_at dksX3_isFull_4 5 rfl rfl)
theorem dX3_isFull_89 : decode cX3_isFull 89 = .ok (.goto 4, 3) := dk_167 0 4 (dk_at dksX3_isFull_4 6 rfl rfl)
theorem dX3_isFull_92 : decode cX3_isFull 92 = .ok (.iconst 0, 1) := dk_3 (dk_at dksX3_isFull_4 9 rfl rfl)
theorem dX3_isFull_93 : decode cX3_isFull 93 = .ok (.ireturn, 1) := dk_172 (dk_at dksX3_isFull_4 10 rfl rfl)
theorem dX3_isFull_94 : decode cX3_isFull 94 = .ok (.aload_n 0, 1) := dk_42 (dk_at dksX3_isFull_4 11 rfl rfl)
theorem dX3_isFull_95 : decode cX3_isFull 95 = .ok (.getfield 55, 3) := dk_180 0 55 (dk_at dksX3_isFull_4 12 rfl rfl)
theorem dX3_isFull_98 : decode cX3_isFull 98 = .ok (.iconst 4, 1) := dk_7 (dk_at dksX3_isFull_4 15 rfl rfl)
theorem dX3_isFull_99 : decode cX3_isFull 99 = .ok (.iaload, 1) := dk_46 (dk_at dksX3_isFull_4 16 rfl rfl)
theorem dX3_isFull_100 : decode cX3_isFull 100 = .ok (.bipush 10, 2) := dk_16 10 (dk_at dksX3_isFull_4 17 rfl rfl)
theorem dX3_isFull_102 : decode cX3_isFull 102 = .ok (.if_icmp .ne 7, 3) := dk_160 0 7 (dk_at dksX3_isFull_4 19 rfl rfl)
theorem dX3_isFull_105 : decode cX3_isFull 105 = .ok (.iconst 1, 1) := dk_4 (dk_at dksX3_isFull_4 22 rfl rfl)
theorem dX3_isFull_106 : decode cX3_isFull 106 = .ok (.goto 4, 3) := dk_167 0 4 (dk_at dksX3_isFull_5 0 rfl rfl)
theorem dX3_isFull_109 : decode cX3_isFull 109 = .ok (.iconst 0, 1) := dk_3 (dk_at dksX3_isFull_5 3 rfl rfl)
theorem dX3_isFull_110 : decode cX3_isFull 110 = .ok (.ireturn, 1) := dk_172 (dk_at dksX3_isFull_5 4 rfl rfl)
theorem dX3_isFull_111 : decode cX3_isFull 111 = .ok (.aload_n 0, 1) := dk_42 (dk_at dksX3_isFull_5 5 rfl rfl)
theorem dX3_isFull_112 : decode cX3_isFull 112 = .ok (.getfield 55, 3) := dk_180 0 55 (dk_at dksX3_isFull_5 6 rfl rfl)
theorem dX3_isFull_115 : decode cX3_isFull 115 = .ok (.iconst 5, 1) := dk_8 (dk_at dksX3_isFull_5 9 rfl rfl)
theorem dX3_isFull_116 : decode cX3_isFull 116 = .ok (.iaload, 1) := dk_46 (dk_at dksX3_isFull_5 10 rfl rfl)
theorem dX3_isFull_117 : decode cX3_isFull 117 = .ok (.bipush 8, 2) := dk_16 8 (dk_at dksX3_isFull_5 11 rfl rfl)
theorem dX3_isFull_119 : decode cX3_isFull 119 = .ok (.if_icmp .ne 7, 3) := dk_160 0 7 (dk_at dksX3_isFull_5 13 rfl rfl)
theorem dX3_isFull_122 : decode cX3_isFull 122 = .ok (.iconst 1, 1) := dk_4 (dk_at dksX3_isFull_5 16 rfl rfl)
theorem dX3_isFull_123 : decode cX3_isFull 123 = .ok (.goto 4, 3) := dk_167 0 4 (dk_at dksX3_isFull_5 17 rfl rfl)
theorem dX3_isFull_126 : decode cX3_isFull 126 = .ok (.iconst 0, 1) := dk_3 (dk_at dksX3_isFull_5 20 rfl rfl)
theorem dX3_isFull_127 : decode cX3_isFull 127 = .ok (.ireturn, 1) := dk_172 (dk_at dksX3_isFull_5 21 rfl rfl)
theorem dX3_isFull_128 : decode cX3_isFull 128 = .ok (.iconst 0, 1) := dk_3 (dk_at dksX3_isFull_5 22 rfl rfl)
theorem dX3_isFull_129 : decode cX3_isFull 129 = .ok (.ireturn, 1) := dk_172 (dk_at dksX3_isFull_5 23 rfl rfl)
abbrev cX3_landPart : ByteArray := prog_21_method_39_code
def yX3_landPart : MethodName := ⟨RX3, "landPart", "(I)V"⟩
def dkwX3_landPart_10 : List UInt8 := [180, 0, 85, 28, 42, 4, 16, 99, 182, 1, 64, 79, 42, 180, 0, 55, 8, 92, 46, 4, 96, 79, 177]
abbrev dktX3_landPart_10 : List UInt8 := dkwX3_landPart_10 ++ []
def dkwX3_landPart_9 : List UInt8 := [46, 61, 42, 180, 0, 82, 28, 42, 3, 42, 180, 0, 55, 3, 46, 4, 100, 182, 1, 64, 79, 42]
abbrev dktX3_landPart_9 : List UInt8 := dkwX3_landPart_9 ++ dktX3_landPart_10
def dkwX3_landPart_8 : List UInt8 := [180, 0, 55, 6, 92, 46, 4, 96, 79, 167, 0, 59, 42, 182, 1, 71, 167, 0, 52, 42, 180, 0, 55, 8]
abbrev dktX3_landPart_8 : List UInt8 := dkwX3_landPart_8 ++ dktX3_landPart_9
def dkwX3_landPart_7 : List UInt8 := [180, 0, 70, 42, 180, 0, 55, 6, 46, 42, 3, 42, 180, 0, 55, 3, 46, 4, 100, 182, 1, 64, 79, 42]
abbrev dktX3_landPart_7 : List UInt8 := dkwX3_landPart_7 ++ dktX3_landPart_8
def dkwX3_landPart_6 : List UInt8 := [42, 3, 16, 99, 182, 1, 64, 79, 42, 180, 0, 55, 5, 92, 46, 4, 96, 79, 167, 0, 96, 42]
abbrev dktX3_landPart_6 : List UInt8 := dkwX3_landPart_6 ++ dktX3_landPart_7
def dkwX3_landPart_5 : List UInt8 := [182, 1, 64, 79, 42, 180, 0, 64, 28, 42, 3, 42, 182, 1, 68, 182, 1, 64, 79, 42, 180, 0, 67, 28]
abbrev dktX3_landPart_5 : List UInt8 := dkwX3_landPart_5 ++ dktX3_landPart_6
def dkwX3_landPart_4 : List UInt8 := [61, 42, 180, 0, 58, 28, 42, 3, 4, 182, 1, 64, 79, 42, 180, 0, 61, 28, 42, 4, 17, 0, 128]
abbrev dktX3_landPart_4 : List UInt8 := dkwX3_landPart_4 ++ dktX3_landPart_5
def dkwX3_landPart_3 : List UInt8 := [154, 0, 10, 42, 182, 1, 68, 167, 0, 4, 3, 182, 1, 64, 79, 167, 0, 170, 42, 180, 0, 55, 5, 46]
abbrev dktX3_landPart_3 : List UInt8 := dkwX3_landPart_3 ++ dktX3_landPart_4
def dkwX3_landPart_2 : List UInt8 := [42, 180, 0, 55, 3, 42, 4, 16, 8, 182, 1, 64, 79, 42, 180, 0, 55, 4, 42, 3, 42, 180, 0, 218]
abbrev dktX3_landPart_2 : List UInt8 := dkwX3_landPart_2 ++ dktX3_landPart_3
def dkwX3_landPart_1 : List UInt8 := [170, 0, 0, 0, 0, 0, 191, 0, 0, 0, 0, 0, 0, 0, 3, 0, 0, 0, 31, 0, 0, 0, 73, 0, 0, 0, 147, 0, 0, 0, 184]
abbrev dktX3_landPart_1 : List UInt8 := dkwX3_landPart_1 ++ dktX3_landPart_2
def dkwX3_landPart_0 : List UInt8 := [27]
abbrev dktX3_landPart_0 : List UInt8 := dkwX3_landPart_0 ++ dktX3_landPart_1
theorem dksX3_landPart_0 : cX3_landPart.data.toList.drop 0 = dktX3_landPart_0 := by decide +kernel
theorem dksX3_landPart_1 : cX3_landPart.data.toList.drop 1 = dktX3_landPart_1 := dk_seg dksX3_landPart_0 1 rfl rfl
theorem dksX3_landPart_2 : cX3_landPart.data.toList.drop 32 = dktX3_landPart_2 := dk_seg dksX3_landPart_1 31 rfl rfl
theorem dksX3_landPart_3 : cX3_landPart.data.toList.drop 56 = dktX3_landPart_3 := dk_seg dksX3_landPart_2 24 rfl rfl
theorem dksX3_landPart_4 : cX3_landPart.data.toList.drop 80 = dktX3_landPart_4 := dk_seg dksX3_landPart_3 24 rfl rfl
theorem dksX3_landPart_5 : cX3_landPart.data.toList.drop 103 = dktX3_landPart_5 := dk_seg dksX3_landPart_4 23 rfl rfl
theorem dksX3_landPart_6 : cX3_landPart.data.toList.drop 127 = dktX3_landPart_6 := dk_seg dksX3_landPart_5 24 rfl rfl
theorem dksX3_landPart_7 : cX3_landPart.data.toList.drop 149 = dktX3_landPart_7 := dk_seg dksX3_landPart_6 22 rfl rfl
theorem dksX3_landPart_8 : cX3_landPart.data.toList.drop 173 = dktX3_landPart_8 := dk_seg dksX3_landPart_7 24 rfl rfl
theorem dksX3_landPart_9 : cX3_landPart.data.toList.drop 197 = dktX3_landPart_9 := dk_seg dksX3_landPart_8 24 rfl rfl
theorem dksX3_landPart_10 : cX3_landPart.data.toList.drop 219 = dktX3_landPart_10 := dk_seg dksX3_landPart_9 22 rfl rfl
theorem dX3_landPart_0 : decode cX3_landPart 0 = .ok (.iload_n 1, 1) := dk_27 (dk_at dksX3_landPart_0 0 rfl rfl)
theorem dX3_landPart_1 : decode cX3_landPart 1 = .ok (.tableswitch 191 0 3 #[31, 73, 147, 184], 31) := by decide +kernel
theorem dX3_landPart_32 : decode cX3_landPart 32 = .ok (.aload_n 0, 1) := dk_42 (dk_at dksX3_landPart_2 0 rfl rfl)
theorem dX3_landPart_33 : decode cX3_landPart 33 = .ok (.getfield 55, 3) := dk_180 0 55 (dk_at dksX3_landPart_2 1 rfl rfl)
theorem dX3_landPart_36 : decode cX3_landPart 36 = .ok (.iconst 0, 1) := dk_3 (dk_at dksX3_landPart_2 4 rfl rfl)
theorem dX3_landPart_37 : decode cX3_landPart 37 = .ok (.aload_n 0, 1) := dk_42 (dk_at dksX3_landPart_2 5 rfl rfl)
theorem dX3_landPart_38 : decode cX3_landPart 38 = .ok (.iconst 1, 1) := dk_4 (dk_at dksX3_landPart_2 6 rfl rfl)
theorem dX3_landPart_39 : decode cX3_landPart 39 = .ok (.bipush 8, 2) := dk_16 8 (dk_at dksX3_landPart_2 7 rfl rfl)
theorem dX3_landPart_41 : decode cX3_landPart 41 = .ok (.invokevirtual 320, 3) := dk_182 1 64 (dk_at dksX3_landPart_2 9 rfl rfl)
theorem dX3_landPart_44 : decode cX3_landPart 44 = .ok (.iastore, 1) := dk_79 (dk_at dksX3_landPart_2 12 rfl rfl)
theorem dX3_landPart_45 : decode cX3_landPart 45 = .ok (.aload_n 0, 1) := dk_42 (dk_at dksX3_landPart_2 13 rfl rfl)
theorem dX3_landPart_46 : decode cX3_landPart 46 = .ok (.getfield 55, 3) := dk_180 0 55 (dk_at dksX3_landPart_2 14 rfl rfl)
theorem dX3_landPart_49 : decode cX3_landPart 49 = .ok (.iconst 1, 1) := dk_4 (dk_at dksX3_landPart_2 17 rfl rfl)
theorem dX3_landPart_50 : decode cX3_landPart 50 = .ok (.aload_n 0, 1) := dk_42 (dk_at dksX3_landPart_2 18 rfl rfl)
theorem dX3_landPart_51 : decode cX3_landPart 51 = .ok (.iconst 0, 1) := dk_3 (dk_at dksX3_landPart_2 19 rfl rfl)
theorem dX3_landPart_52 : decode cX3_landPart 52 = .ok (.aload_n 0, 1) := dk_42 (dk_at dksX3_landPart_2 20 rfl rfl)
theorem dX3_landPart_53 : decode cX3_landPart 53 = .ok (.getfield 218, 3) := dk_180 0 218 (dk_at dksX3_landPart_2 21 rfl rfl)
theorem dX3_landPart_56 : decode cX3_landPart 56 = .ok (.ifCond .ne 10, 3) := dk_154 0 10 (dk_at dksX3_landPart_3 0 rfl rfl)
theorem dX3_landPart_59 : decode cX3_landPart 59 = .ok (.aload_n 0, 1) := dk_42 (dk_at dksX3_landPart_3 3 rfl rfl)
theorem dX3_landPart_60 : decode cX3_landPart 60 = .ok (.invokevirtual 324, 3) := dk_182 1 68 (dk_at dksX3_landPart_3 4 rfl rfl)
theorem dX3_landPart_63 : decode cX3_landPart 63 = .ok (.goto 4, 3) := dk_167 0 4 (dk_at dksX3_landPart_3 7 rfl rfl)
theorem dX3_landPart_66 : decode cX3_landPart 66 = .ok (.iconst 0, 1) := dk_3 (dk_at dksX3_landPart_3 10 rfl rfl)
theorem dX3_landPart_67 : decode cX3_landPart 67 = .ok (.invokevirtual 320, 3) := dk_182 1 64 (dk_at dksX3_landPart_3 11 rfl rfl)
theorem dX3_landPart_70 : decode cX3_landPart 70 = .ok (.iastore, 1) := dk_79 (dk_at dksX3_landPart_3 14 rfl rfl)
theorem dX3_landPart_71 : decode cX3_landPart 71 = .ok (.goto 170, 3) := dk_167 0 170 (dk_at dksX3_landPart_3 15 rfl rfl)
theorem dX3_landPart_74 : decode cX3_landPart 74 = .ok (.aload_n 0, 1) := dk_42 (dk_at dksX3_landPart_3 18 rfl rfl)
theorem dX3_landPart_75 : decode cX3_landPart 75 = .ok (.getfield 55, 3) := dk_180 0 55 (dk_at dksX3_landPart_3 19 rfl rfl)
theorem dX3_landPart_78 : decode cX3_landPart 78 = .ok (.iconst 2, 1) := dk_5 (dk_at dksX3_landPart_3 22 rfl rfl)
theorem dX3_landPart_79 : decode cX3_landPart 79 = .ok (.iaload, 1) := dk_46 (dk_at dksX3_landPart_3 23 rfl rfl)
theorem dX3_landPart_80 : decode cX3_landPart 80 = .ok (.istore_n 2, 1) := dk_61 (dk_at dksX3_landPart_4 0 rfl rfl)
theorem dX3_landPart_81 : decode cX3_landPart 81 = .ok (.aload_n 0, 1) := dk_42 (dk_at dksX3_landPart_4 1 rfl rfl)
theorem dX3_landPart_82 : decode cX3_landPart 82 = .ok (.getfield 58, 3) := dk_180 0 58 (dk_at dksX3_landPart_4 2 rfl rfl)
theorem dX3_landPart_85 : decode cX3_landPart 85 = .ok (.iload_n 2, 1) := dk_28 (dk_at dksX3_landPart_4 5 rfl rfl)
theorem dX3_landPart_86 : decode cX3_landPart 86 = .ok (.aload_n 0, 1) := dk_42 (dk_at dksX3_landPart_4 6 rfl rfl)
theorem dX3_landPart_87 : decode cX3_landPart 87 = .ok (.iconst 0, 1) := dk_3 (dk_at dksX3_landPart_4 7 rfl rfl)
theorem dX3_landPart_88 : decode cX3_landPart 88 = .ok (.iconst 1, 1) := dk_4 (dk_at dksX3_landPart_4 8 rfl rfl)
theorem dX3_landPart_89 : decode cX3_landPart 89 = .ok (.invokevirtual 320, 3) := dk_182 1 64 (dk_at dksX3_landPart_4 9 rfl rfl)
theorem dX3_landPart_92 : decode cX3_landPart 92 = .ok (.iastore, 1) := dk_79 (dk_at dksX3_landPart_4 12 rfl rfl)
theorem dX3_landPart_93 : decode cX3_landPart 93 = .ok (.aload_n 0, 1) := dk_42 (dk_at dksX3_landPart_4 13 rfl rfl)
theorem dX3_landPart_94 : decode cX3_landPart 94 = .ok (.getfield 61, 3) := dk_180 0 61 (dk_at dksX3_landPart_4 14 rfl rfl)
theorem dX3_landPart_97 : decode cX3_landPart 97 = .ok (.iload_n 2, 1) := dk_28 (dk_at dksX3_landPart_4 17 rfl rfl)
theorem dX3_landPart_98 : decode cX3_landPart 98 = .ok (.aload_n 0, 1) := dk_42 (dk_at dksX3_landPart_4 18 rfl rfl)
theorem dX3_landPart_99 : decode cX3_landPart 99 = .ok (.iconst 1, 1) := dk_4 (dk_at dksX3_landPart_4 19 rfl rfl)
theorem dX3_landPart_100 : decode cX3_landPart 100 = .ok (.sipush 128, 3) := dk_17 0 128 (dk_at dksX3_landPart_4 20 rfl rfl)
theorem dX3_landPart_103 : decode cX3_landPart 103 = .ok (.invokevirtual 320, 3) := dk_182 1 64 (dk_at dksX3_landPart_5 0 rfl rfl)
theorem dX3_landPart_106 : decode cX3_landPart 106 = .ok (.iastore, 1) := dk_79 (dk_at dksX3_landPart_5 3 rfl rfl)
theorem dX3_landPart_107 : decode cX3_landPart 107 = .ok (.aload_n 0, 1) := dk_42 (dk_at dksX3_landPart_5 4 rfl rfl)
theorem dX3_landPart_108 : decode cX3_landPart 108 = .ok (.getfield 64, 3) := dk_180 0 64 (dk_at dksX3_landPart_5 5 rfl rfl)
theorem dX3_landPart_111 : decode cX3_landPart 111 = .ok (.iload_n 2, 1) := dk_28 (dk_at dksX3_landPart_5 8 rfl rfl)
theorem dX3_landPart_112 : decode cX3_landPart 112 = .ok (.aload_n 0, 1) := dk_42 (dk_at dksX3_landPart_5 9 rfl rfl)
theorem dX3_landPart_113 : decode cX3_landPart 113 = .ok (.iconst 0, 1) := dk_3 (dk_at dksX3_landPart_5 10 rfl rfl)
theorem dX3_landPart_114 : decode cX3_landPart 114 = .ok (.aload_n 0, 1) := dk_42 (dk_at dksX3_landPart_5 11 rfl rfl)
theorem dX3_landPart_115 : decode cX3_landPart 115 = .ok (.invokevirtual 324, 3) := dk_182 1 68 (dk_at dksX3_landPart_5 12 rfl rfl)
theorem dX3_landPart_118 : decode cX3_landPart 118 = .ok (.invokevirtual 320, 3) := dk_182 1 64 (dk_at dksX3_landPart_5 15 rfl rfl)
theorem dX3_landPart_121 : decode cX3_landPart 121 = .ok (.iastore, 1) := dk_79 (dk_at dksX3_landPart_5 18 rfl rfl)
theorem dX3_landPart_122 : decode cX3_landPart 122 = .ok (.aload_n 0, 1) := dk_42 (dk_at dksX3_landPart_5 19 rfl rfl)
theorem dX3_landPart_123 : decode cX3_landPart 123 = .ok (.getfield 67, 3) := dk_180 0 67 (dk_at dksX3_landPart_5 20 rfl rfl)
theorem dX3_landPart_126 : decode cX3_landPart 126 = .ok (.iload_n 2, 1) := dk_28 (dk_at dksX3_landPart_5 23 rfl rfl)
theorem dX3_landPart_127 : decode cX3_landPart 127 = .ok (.aload_n 0, 1) := dk_42 (dk_at dksX3_landPart_6 0 rfl rfl)
theorem dX3_landPart_128 : decode cX3_landPart 128 = .ok (.iconst 0, 1) := dk_3 (dk_at dksX3_landPart_6 1 rfl rfl)
theorem dX3_landPart_129 : decode cX3_landPart 129 = .ok (.bipush 99, 2) := dk_16 99 (dk_at dksX3_landPart_6 2 rfl rfl)
theorem dX3_landPart_131 : decode cX3_landPart 131 = .ok (.invokevirtual 320, 3) := dk_182 1 64 (dk_at dksX3_landPart_6 4 rfl rfl)
theorem dX3_landPart_134 : decode cX3_landPart 134 = .ok (.iastore, 1) := dk_79 (dk_at dksX3_landPart_6 7 rfl rfl)
theorem dX3_landPart_135 : decode cX3_landPart 135 = .ok (.aload_n 0, 1) := dk_42 (dk_at dksX3_landPart_6 8 rfl rfl)
theorem dX3_landPart_136 : decode cX3_landPart 136 = .ok (.getfield 55, 3) := dk_180 0 55 (dk_at dksX3_landPart_6 9 rfl rfl)
theorem dX3_landPart_139 : decode cX3_landPart 139 = .ok (.iconst 2, 1) := dk_5 (dk_at dksX3_landPart_6 12 rfl rfl)
theorem dX3_landPart_140 : decode cX3_landPart 140 = .ok (.dup2, 1) := dk_92 (dk_at dksX3_landPart_6 13 rfl rfl)
theorem dX3_landPart_141 : decode cX3_landPart 141 = .ok (.iaload, 1) := dk_46 (dk_at dksX3_landPart_6 14 rfl rfl)
theorem dX3_landPart_142 : decode cX3_landPart 142 = .ok (.iconst 1, 1) := dk_4 (dk_at dksX3_landPart_6 15 rfl rfl)
theorem dX3_landPart_143 : decode cX3_landPart 143 = .ok (.iadd, 1) := dk_96 (dk_at dksX3_landPart_6 16 rfl rfl)
theorem dX3_landPart_144 : decode cX3_landPart 144 = .ok (.iastore, 1) := dk_79 (dk_at dksX3_landPart_6 17 rfl rfl)
theorem dX3_landPart_145 : decode cX3_landPart 145 = .ok (.goto 96, 3) := dk_167 0 96 (dk_at dksX3_landPart_6 18 rfl rfl)
theorem dX3_landPart_148 : decode cX3_landPart 148 = .ok (.aload_n 0, 1) := dk_42 (dk_at dksX3_landPart_6 21 rfl rfl)
theorem dX3_landPart_149 : decode cX3_landPart 149 = .ok (.getfield 70, 3) := dk_180 0 70 (dk_at dksX3_landPart_7 0 rfl rfl)
theorem dX3_landPart_152 : decode cX3_landPart 152 = .ok (.aload_n 0, 1) := dk_42 (dk_at dksX3_landPart_7 3 rfl rfl)
theorem dX3_landPart_153 : decode cX3_landPart 153 = .ok (.getfield 55, 3) := dk_180 0 55 (dk_at dksX3_landPart_7 4 rfl rfl)
theorem dX3_landPart_156 : decode cX3_landPart 156 = .ok (.iconst 3, 1) := dk_6 (dk_at dksX3_landPart_7 7 rfl rfl)
theorem dX3_landPart_157 : decode cX3_landPart 157 = .ok (.iaload, 1) := dk_46 (dk_at dksX3_landPart_7 8 rfl rfl)
theorem dX3_landPart_158 : decode cX3_landPart 158 = .ok (.aload_n 0, 1) := dk_42 (dk_at dksX3_landPart_7 9 rfl rfl)
theorem dX3_landPart_159 : decode cX3_landPart 159 = .ok (.iconst 0, 1) := dk_3 (dk_at dksX3_landPart_7 10 rfl rfl)
theorem dX3_landPart_160 : decode cX3_landPart 160 = .ok (.aload_n 0, 1) := dk_42 (dk_at dksX3_landPart_7 11 rfl rfl)
theorem dX3_landPart_161 : decode cX3_landPart 161 = .ok (.getfield 55, 3) := dk_180 0 55 (dk_at dksX3_landPart_7 12 rfl rfl)
theorem dX3_landPart_164 : decode cX3_landPart 164 = .ok (.iconst 0, 1) := dk_3 (dk_at dksX3_landPart_7 15 rfl rfl)
theorem dX3_landPart_165 : decode cX3_landPart 165 = .ok (.iaload, 1) := dk_46 (dk_at dksX3_landPart_7 16 rfl rfl)
theorem dX3_landPart_166 : decode cX3_landPart 166 = .ok (.iconst 1, 1) := dk_4 (dk_at dksX3_landPart_7 17 rfl rfl)
theorem dX3_landPart_167 : decode cX3_landPart 167 = .ok (.isub, 1) := dk_100 (dk_at dksX3_landPart_7 18 rfl rfl)
theorem dX3_landPart_168 : decode cX3_landPart 168 = .ok (.invokevirtual 320, 3) := dk_182 1 64 (dk_at dksX3_landPart_7 19 rfl rfl)
theorem dX3_landPart_171 : decode cX3_landPart 171 = .ok (.iastore, 1) := dk_79 (dk_at dksX3_landPart_7 22 rfl rfl)
theorem dX3_landPart_172 : decode cX3_landPart 172 = .ok (.aload_n 0, 1) := dk_42 (dk_at dksX3_landPart_7 23 rfl rfl)
theorem dX3_landPart_173 : decode cX3_landPart 173 = .ok (.getfield 55, 3) := dk_180 0 55 (dk_at dksX3_landPart_8 0 rfl rfl)
theorem dX3_landPart_176 : decode cX3_landPart 176 = .ok (.iconst 3, 1) := dk_6 (dk_at dksX3_landPart_8 3 rfl rfl)
theorem dX3_landPart_177 : decode cX3_landPart 177 = .ok (.dup2, 1) := dk_92 (dk_at dksX3_landPart_8 4 rfl rfl)
theorem dX3_landPart_178 : decode cX3_landPart 178 = .ok (.iaload, 1) := dk_46 (dk_at dksX3_landPart_8 5 rfl rfl)
theorem dX3_landPart_179 : decode cX3_landPart 179 = .ok (.iconst 1, 1) := dk_4 (dk_at dksX3_landPart_8 6 rfl rfl)
theorem dX3_landPart_180 : decode cX3_landPart 180 = .ok (.iadd, 1) := dk_96 (dk_at dksX3_landPart_8 7 rfl rfl)
theorem dX3_landPart_181 : decode cX3_landPart 181 = .ok (.iastore, 1) := dk_79 (dk_at dksX3_landPart_8 8 rfl rfl)
theorem dX3_landPart_182 : decode cX3_landPart 182 = .ok (.goto 59, 3) := dk_167 0 59 (dk_at dksX3_landPart_8 9 rfl rfl)
theorem dX3_landPart_185 : decode cX3_landPart 185 = .ok (.aload_n 0, 1) := dk_42 (dk_at dksX3_landPart_8 12 rfl rfl)
theorem dX3_landPart_186 : decode cX3_landPart 186 = .ok (.invokevirtual 327, 3) := dk_182 1 71 (dk_at dksX3_landPart_8 13 rfl rfl)
theorem dX3_landPart_189 : decode cX3_landPart 189 = .ok (.goto 52, 3) := dk_167 0 52 (dk_at dksX3_landPart_8 16 rfl rfl)
theorem dX3_landPart_192 : decode cX3_landPart 192 = .ok (.aload_n 0, 1) := dk_42 (dk_at dksX3_landPart_8 19 rfl rfl)
theorem dX3_landPart_193 : decode cX3_landPart 193 = .ok (.getfield 55, 3) := dk_180 0 55 (dk_at dksX3_landPart_8 20 rfl rfl)
theorem dX3_landPart_196 : decode cX3_landPart 196 = .ok (.iconst 5, 1) := dk_8 (dk_at dksX3_landPart_8 23 rfl rfl)
theorem dX3_landPart_197 : decode cX3_landPart 197 = .ok (.iaload, 1) := dk_46 (dk_at dksX3_landPart_9 0 rfl rfl)
theorem dX3_landPart_198 : decode cX3_landPart 198 = .ok (.istore_n 2, 1) := dk_61 (dk_at dksX3_landPart_9 1 rfl rfl)
theorem dX3_landPart_199 : decode cX3_landPart 199 = .ok (.aload_n 0, 1) := dk_42 (dk_at dksX3_landPart_9 2 rfl rfl)
theorem dX3_landPart_200 : decode cX3_landPart 200 = .ok (.getfield 82, 3) := dk_180 0 82 (dk_at dksX3_landPart_9 3 rfl rfl)
theorem dX3_landPart_203 : decode cX3_landPart 203 = .ok (.iload_n 2, 1) := dk_28 (dk_at dksX3_landPart_9 6 rfl rfl)
theorem dX3_landPart_204 : decode cX3_landPart 204 = .ok (.aload_n 0, 1) := dk_42 (dk_at dksX3_landPart_9 7 rfl rfl)
theorem dX3_landPart_205 : decode cX3_landPart 205 = .ok (.iconst 0, 1) := dk_3 (dk_at dksX3_landPart_9 8 rfl rfl)
theorem dX3_landPart_206 : decode cX3_landPart 206 = .ok (.aload_n 0, 1) := dk_42 (dk_at dksX3_landPart_9 9 rfl rfl)
theorem dX3_landPart_207 : decode cX3_landPart 207 = .ok (.getfield 55, 3) := dk_180 0 55 (dk_at dksX3_landPart_9 10 rfl rfl)
theorem dX3_landPart_210 : decode cX3_landPart 210 = .ok (.iconst 0, 1) := dk_3 (dk_at dksX3_landPart_9 13 rfl rfl)
theorem dX3_landPart_211 : decode cX3_landPart 211 = .ok (.iaload, 1) := dk_46 (dk_at dksX3_landPart_9 14 rfl rfl)
theorem dX3_landPart_212 : decode cX3_landPart 212 = .ok (.iconst 1, 1) := dk_4 (dk_at dksX3_landPart_9 15 rfl rfl)
theorem dX3_landPart_213 : decode cX3_landPart 213 = .ok (.isub, 1) := dk_100 (dk_at dksX3_landPart_9 16 rfl rfl)
theorem dX3_landPart_214 : decode cX3_landPart 214 = .ok (.invokevirtual 320, 3) := dk_182 1 64 (dk_at dksX3_landPart_9 17 rfl rfl)
theorem dX3_landPart_217 : decode cX3_landPart 217 = .ok (.iastore, 1) := dk_79 (dk_at dksX3_landPart_9 20 rfl rfl)
theorem dX3_landPart_218 : decode cX3_landPart 218 = .ok (.aload_n 0, 1) := dk_42 (dk_at dksX3_landPart_9 21 rfl rfl)
theorem dX3_landPart_219 : decode cX3_landPart 219 = .ok (.getfield 85, 3) := dk_180 0 85 (dk_at dksX3_landPart_10 0 rfl rfl)
theorem dX3_landPart_222 : decode cX3_landPart 222 = .ok (.iload_n 2, 1) := dk_28 (dk_at dksX3_landPart_10 3 rfl rfl)
theorem dX3_landPart_223 : decode cX3_landPart 223 = .ok (.aload_n 0, 1) := dk_42 (dk_at dksX3_landPart_10 4 rfl rfl)
theorem dX3_landPart_224 : decode cX3_landPart 224 = .ok (.iconst 1, 1) := dk_4 (dk_at dksX3_landPart_10 5 rfl rfl)
theorem dX3_landPart_225 : decode cX3_landPart 225 = .ok (.bipush 99, 2) := dk_16 99 (dk_at dksX3_landPart_10 6 rfl rfl)
theorem dX3_landPart_227 : decode cX3_landPart 227 = .ok (.invokevirtual 320, 3) := dk_182 1 64 (dk_at dksX3_landPart_10 8 rfl rfl)
theorem dX3_landPart_230 : decode cX3_landPart 230 = .ok (.iastore, 1) := dk_79 (dk_at dksX3_landPart_10 11 rfl rfl)
theorem dX3_landPart_231 : decode cX3_landPart 231 = .ok (.aload_n 0, 1) := dk_42 (dk_at dksX3_landPart_10 12 rfl rfl)
theorem dX3_landPart_232 : decode cX3_landPart 232 = .ok (.getfield 55, 3) := dk_180 0 55 (dk_at dksX3_landPart_10 13 rfl rfl)
theorem dX3_landPart_235 : decode cX3_landPart 235 = .ok (.iconst 5, 1) := dk_8 (dk_at dksX3_landPart_10 16 rfl rfl)
theorem dX3_landPart_236 : decode cX3_landPart 236 = .ok (.dup2, 1) := dk_92 (dk_at dksX3_landPart_10 17 rfl rfl)
theorem dX3_landPart_237 : decode cX3_landPart 237 = .ok (.iaload, 1) := dk_46 (dk_at dksX3_landPart_10 18 rfl rfl)
theorem dX3_landPart_238 : decode cX3_landPart 238 = .ok (.iconst 1, 1) := dk_4 (dk_at dksX3_landPart_10 19 rfl rfl)
theorem dX3_landPart_239 : decode cX3_landPart 239 = .ok (.iadd, 1) := dk_96 (dk_at dksX3_landPart_10 20 rfl rfl)
theorem dX3_landPart_240 : decode cX3_landPart 240 = .ok (.iastore, 1) := dk_79 (dk_at dksX3_landPart_10 21 rfl rfl)
theorem dX3_landPart_241 : decode cX3_landPart 241 = .ok (.return_, 1) := dk_177 (dk_at dksX3_landPart_10 22 rfl rfl)
abbrev cX3_amount : ByteArray := prog_21_method_35_code
def yX3_amount : MethodName := ⟨RX3, "amount", "(II)I"⟩
def dkwX3_amount_2 : List UInt8 := [154, 0, 9, 42, 4, 29, 182, 1, 0, 21, 4, 172]
abbrev dktX3_amount_2 : List UInt8 := dkwX3_amount_2 ++ []
def dkwX3_amount_1 : List UInt8 := [167, 0, 4, 3, 54, 4, 42, 180, 0, 218, 154, 0, 22, 21, 4, 133, 27, 133, 28, 133, 184, 0, 179]
abbrev dktX3_amount_1 : List UInt8 := dkwX3_amount_1 ++ dktX3_amount_2
def dkwX3_amount_0 : List UInt8 := [42, 182, 0, 240, 42, 180, 0, 221, 62, 42, 180, 0, 218, 154, 0, 13, 42, 19, 1, 7, 182, 1, 8]
abbrev dktX3_amount_0 : List UInt8 := dkwX3_amount_0 ++ dktX3_amount_1
theorem dksX3_amount_0 : cX3_amount.data.toList.drop 0 = dktX3_amount_0 := by decide +kernel
theorem dksX3_amount_1 : cX3_amount.data.toList.drop 23 = dktX3_amount_1 := dk_seg dksX3_amount_0 23 rfl rfl
theorem dksX3_amount_2 : cX3_amount.data.toList.drop 46 = dktX3_amount_2 := dk_seg dksX3_amount_1 23 rfl rfl
theorem dX3_amount_0 : decode cX3_amount 0 = .ok (.aload_n 0, 1) := dk_42 (dk_at dksX3_amount_0 0 rfl rfl)
theorem dX3_amount_1 : decode cX3_amount 1 = .ok (.invokevirtual 240, 3) := dk_182 0 240 (dk_at dksX3_amount_0 1 rfl rfl)
theorem dX3_amount_4 : decode cX3_amount 4 = .ok (.aload_n 0, 1) := dk_42 (dk_at dksX3_amount_0 4 rfl rfl)
theorem dX3_amount_5 : decode cX3_amount 5 = .ok (.getfield 221, 3) := dk_180 0 221 (dk_at dksX3_amount_0 5 rfl rfl)
theorem dX3_amount_8 : decode cX3_amount 8 = .ok (.istore_n 3, 1) := dk_62 (dk_at dksX3_amount_0 8 rfl rfl)
theorem dX3_amount_9 : decode cX3_amount 9 = .ok (.aload_n 0, 1) := dk_42 (dk_at dksX3_amount_0 9 rfl rfl)
theorem dX3_amount_10 : decode cX3_amount 10 = .ok (.getfield 218, 3) := dk_180 0 218 (dk_at dksX3_amount_0 10 rfl rfl)
theorem dX3_amount_13 : decode cX3_amount 13 = .ok (.ifCond .ne 13, 3) := dk_154 0 13 (dk_at dksX3_amount_0 13 rfl rfl)
theorem dX3_amount_16 : decode cX3_amount 16 = .ok (.aload_n 0, 1) := dk_42 (dk_at dksX3_amount_0 16 rfl rfl)
theorem dX3_amount_17 : decode cX3_amount 17 = .ok (.ldc_w 263, 3) := dk_19 1 7 (dk_at dksX3_amount_0 17 rfl rfl)
theorem dX3_amount_20 : decode cX3_amount 20 = .ok (.invokevirtual 264, 3) := dk_182 1 8 (dk_at dksX3_amount_0 20 rfl rfl)
theorem dX3_amount_23 : decode cX3_amount 23 = .ok (.goto 4, 3) := dk_167 0 4 (dk_at dksX3_amount_1 0 rfl rfl)
theorem dX3_amount_26 : decode cX3_amount 26 = .ok (.iconst 0, 1) := dk_3 (dk_at dksX3_amount_1 3 rfl rfl)
theorem dX3_amount_27 : decode cX3_amount 27 = .ok (.istore 4, 2) := dk_54 4 (dk_at dksX3_amount_1 4 rfl rfl)
theorem dX3_amount_29 : decode cX3_amount 29 = .ok (.aload_n 0, 1) := dk_42 (dk_at dksX3_amount_1 6 rfl rfl)
theorem dX3_amount_30 : decode cX3_amount 30 = .ok (.getfield 218, 3) := dk_180 0 218 (dk_at dksX3_amount_1 7 rfl rfl)
theorem dX3_amount_33 : decode cX3_amount 33 = .ok (.ifCond .ne 22, 3) := dk_154 0 22 (dk_at dksX3_amount_1 10 rfl rfl)
theorem dX3_amount_36 : decode cX3_amount 36 = .ok (.iload 4, 2) := dk_21 4 (dk_at dksX3_amount_1 13 rfl rfl)
theorem dX3_amount_38 : decode cX3_amount 38 = .ok (.i2l, 1) := dk_133 (dk_at dksX3_amount_1 15 rfl rfl)
theorem dX3_amount_39 : decode cX3_amount 39 = .ok (.iload_n 1, 1) := dk_27 (dk_at dksX3_amount_1 16 rfl rfl)
theorem dX3_amount_40 : decode cX3_amount 40 = .ok (.i2l, 1) := dk_133 (dk_at dksX3_amount_1 17 rfl rfl)
theorem dX3_amount_41 : decode cX3_amount 41 = .ok (.iload_n 2, 1) := dk_28 (dk_at dksX3_amount_1 18 rfl rfl)
theorem dX3_amount_42 : decode cX3_amount 42 = .ok (.i2l, 1) := dk_133 (dk_at dksX3_amount_1 19 rfl rfl)
theorem dX3_amount_43 : decode cX3_amount 43 = .ok (.invokestatic 179, 3) := dk_184 0 179 (dk_at dksX3_amount_1 20 rfl rfl)
theorem dX3_amount_46 : decode cX3_amount 46 = .ok (.ifCond .ne 9, 3) := dk_154 0 9 (dk_at dksX3_amount_2 0 rfl rfl)
theorem dX3_amount_49 : decode cX3_amount 49 = .ok (.aload_n 0, 1) := dk_42 (dk_at dksX3_amount_2 3 rfl rfl)
theorem dX3_amount_50 : decode cX3_amount 50 = .ok (.iconst 1, 1) := dk_4 (dk_at dksX3_amount_2 4 rfl rfl)
theorem dX3_amount_51 : decode cX3_amount 51 = .ok (.iload_n 3, 1) := dk_29 (dk_at dksX3_amount_2 5 rfl rfl)
theorem dX3_amount_52 : decode cX3_amount 52 = .ok (.invokevirtual 256, 3) := dk_182 1 0 (dk_at dksX3_amount_2 6 rfl rfl)
theorem dX3_amount_55 : decode cX3_amount 55 = .ok (.iload 4, 2) := dk_21 4 (dk_at dksX3_amount_2 9 rfl rfl)
theorem dX3_amount_57 : decode cX3_amount 57 = .ok (.ireturn, 1) := dk_172 (dk_at dksX3_amount_2 11 rfl rfl)
abbrev cX3_digits : ByteArray := prog_21_method_25_code
def yX3_digits : MethodName := ⟨RX3, "digits", "(I)I"⟩
def dkwX3_digits_4 : List UInt8 := [29, 172]
abbrev dktX3_digits_4 : List UInt8 := dkwX3_digits_4 ++ []
def dkwX3_digits_3 : List UInt8 := [167, 255, 212, 42, 180, 0, 221, 28, 100, 8, 163, 0, 8, 29, 27, 164, 0, 9, 42, 4, 28, 182, 1, 0]
abbrev dktX3_digits_3 : List UInt8 := dkwX3_digits_3 ++ dktX3_digits_4
def dkwX3_digits_2 : List UInt8 := [182, 0, 224, 96, 16, 48, 100, 167, 0, 4, 29, 62, 42, 89, 180, 0, 221, 4, 96, 181, 0, 221]
abbrev dktX3_digits_2 : List UInt8 := dkwX3_digits_2 ++ dktX3_digits_3
def dkwX3_digits_1 : List UInt8 := [62, 42, 182, 1, 4, 153, 0, 43, 42, 180, 0, 221, 28, 100, 8, 162, 0, 18, 16, 10, 29, 104, 42]
abbrev dktX3_digits_1 : List UInt8 := dkwX3_digits_1 ++ dktX3_digits_2
def dkwX3_digits_0 : List UInt8 := [42, 182, 1, 4, 154, 0, 14, 42, 3, 42, 180, 0, 221, 182, 1, 0, 3, 172, 42, 180, 0, 221, 61, 3]
abbrev dktX3_digits_0 : List UInt8 := dkwX3_digits_0 ++ dktX3_digits_1
theorem dksX3_digits_0 : cX3_digits.data.toList.drop 0 = dktX3_digits_0 := by decide +kernel
theorem dksX3_digits_1 : cX3_digits.data.toList.drop 24 = dktX3_digits_1 := dk_seg dksX3_digits_0 24 rfl rfl
theorem dksX3_digits_2 : cX3_digits.data.toList.drop 47 = dktX3_digits_2 := dk_seg dksX3_digits_1 23 rfl rfl
theorem dksX3_digits_3 : cX3_digits.data.toList.drop 69 = dktX3_digits_3 := dk_seg dksX3_digits_2 22 rfl rfl
theorem dksX3_digits_4 : cX3_digits.data.toList.drop 93 = dktX3_digits_4 := dk_seg dksX3_digits_3 24 rfl rfl
theorem dX3_digits_0 : decode cX3_digits 0 = .ok (.aload_n 0, 1) := dk_42 (dk_at dksX3_digits_0 0 rfl rfl)
theorem dX3_digits_1 : decode cX3_digits 1 = .ok (.invokevirtual 260, 3) := dk_182 1 4 (dk_at dksX3_digits_0 1 rfl rfl)
theorem dX3_digits_4 : decode cX3_digits 4 = .ok (.ifCond .ne 14, 3) := dk_154 0 14 (dk_at dksX3_digits_0 4 rfl rfl)
theorem dX3_digits_7 : decode cX3_digits 7 = .ok (.aload_n 0, 1) := dk_42 (dk_at dksX3_digits_0 7 rfl rfl)
theorem dX3_digits_8 : decode cX3_digits 8 = .ok (.iconst 0, 1) := dk_3 (dk_at dksX3_digits_0 8 rfl rfl)
theorem dX3_digits_9 : decode cX3_digits 9 = .ok (.aload_n 0, 1) := dk_42 (dk_at dksX3_digits_0 9 rfl rfl)
theorem dX3_digits_10 : decode cX3_digits 10 = .ok (.getfield 221, 3) := dk_180 0 221 (dk_at dksX3_digits_0 10 rfl rfl)
theorem dX3_digits_13 : decode cX3_digits 13 = .ok (.invokevirtual 256, 3) := dk_182 1 0 (dk_at dksX3_digits_0 13 rfl rfl)
theorem dX3_digits_16 : decode cX3_digits 16 = .ok (.iconst 0, 1) := dk_3 (dk_at dksX3_digits_0 16 rfl rfl)
theorem dX3_digits_17 : decode cX3_digits 17 = .ok (.ireturn, 1) := dk_172 (dk_at dksX3_digits_0 17 rfl rfl)
theorem dX3_digits_18 : decode cX3_digits 18 = .ok (.aload_n 0, 1) := dk_42 (dk_at dksX3_digits_0 18 rfl rfl)
theorem dX3_digits_19 : decode cX3_digits 19 = .ok (.getfield 221, 3) := dk_180 0 221 (dk_at dksX3_digits_0 19 rfl rfl)
theorem dX3_digits_22 : decode cX3_digits 22 = .ok (.istore_n 2, 1) := dk_61 (dk_at dksX3_digits_0 22 rfl rfl)
theorem dX3_digits_23 : decode cX3_digits 23 = .ok (.iconst 0, 1) := dk_3 (dk_at dksX3_digits_0 23 rfl rfl)
theorem dX3_digits_24 : decode cX3_digits 24 = .ok (.istore_n 3, 1) := dk_62 (dk_at dksX3_digits_1 0 rfl rfl)
theorem dX3_digits_25 : decode cX3_digits 25 = .ok (.aload_n 0, 1) := dk_42 (dk_at dksX3_digits_1 1 rfl rfl)
theorem dX3_digits_26 : decode cX3_digits 26 = .ok (.invokevirtual 260, 3) := dk_182 1 4 (dk_at dksX3_digits_1 2 rfl rfl)
theorem dX3_digits_29 : decode cX3_digits 29 = .ok (.ifCond .eq 43, 3) := dk_153 0 43 (dk_at dksX3_digits_1 5 rfl rfl)
theorem dX3_digits_32 : decode cX3_digits 32 = .ok (.aload_n 0, 1) := dk_42 (dk_at dksX3_digits_1 8 rfl rfl)
theorem dX3_digits_33 : decode cX3_digits 33 = .ok (.getfield 221, 3) := dk_180 0 221 (dk_at dksX3_digits_1 9 rfl rfl)
theorem dX3_digits_36 : decode cX3_digits 36 = .ok (.iload_n 2, 1) := dk_28 (dk_at dksX3_digits_1 12 rfl rfl)
theorem dX3_digits_37 : decode cX3_digits 37 = .ok (.isub, 1) := dk_100 (dk_at dksX3_digits_1 13 rfl rfl)
theorem dX3_digits_38 : decode cX3_digits 38 = .ok (.iconst 5, 1) := dk_8 (dk_at dksX3_digits_1 14 rfl rfl)
theorem dX3_digits_39 : decode cX3_digits 39 = .ok (.if_icmp .ge 18, 3) := dk_162 0 18 (dk_at dksX3_digits_1 15 rfl rfl)
theorem dX3_digits_42 : decode cX3_digits 42 = .ok (.bipush 10, 2) := dk_16 10 (dk_at dksX3_digits_1 18 rfl rfl)
theorem dX3_digits_44 : decode cX3_digits 44 = .ok (.iload_n 3, 1) := dk_29 (dk_at dksX3_digits_1 20 rfl rfl)
theorem dX3_digits_45 : decode cX3_digits 45 = .ok (.imul, 1) := dk_104 (dk_at dksX3_digits_1 21 rfl rfl)
theorem dX3_digits_46 : decode cX3_digits 46 = .ok (.aload_n 0, 1) := dk_42 (dk_at dksX3_digits_1 22 rfl rfl)
theorem dX3_digits_47 : decode cX3_digits 47 = .ok (.invokevirtual 224, 3) := dk_182 0 224 (dk_at dksX3_digits_2 0 rfl rfl)
theorem dX3_digits_50 : decode cX3_digits 50 = .ok (.iadd, 1) := dk_96 (dk_at dksX3_digits_2 3 rfl rfl)
theorem dX3_digits_51 : decode cX3_digits 51 = .ok (.bipush 48, 2) := dk_16 48 (dk_at dksX3_digits_2 4 rfl rfl)
theorem dX3_digits_53 : decode cX3_digits 53 = .ok (.isub, 1) := dk_100 (dk_at dksX3_digits_2 6 rfl rfl)
theorem dX3_digits_54 : decode cX3_digits 54 = .ok (.goto 4, 3) := dk_167 0 4 (dk_at dksX3_digits_2 7 rfl rfl)
theorem dX3_digits_57 : decode cX3_digits 57 = .ok (.iload_n 3, 1) := dk_29 (dk_at dksX3_digits_2 10 rfl rfl)
theorem dX3_digits_58 : decode cX3_digits 58 = .ok (.istore_n 3, 1) := dk_62 (dk_at dksX3_digits_2 11 rfl rfl)
theorem dX3_digits_59 : decode cX3_digits 59 = .ok (.aload_n 0, 1) := dk_42 (dk_at dksX3_digits_2 12 rfl rfl)
theorem dX3_digits_60 : decode cX3_digits 60 = .ok (.dup, 1) := dk_89 (dk_at dksX3_digits_2 13 rfl rfl)
theorem dX3_digits_61 : decode cX3_digits 61 = .ok (.getfield 221, 3) := dk_180 0 221 (dk_at dksX3_digits_2 14 rfl rfl)
theorem dX3_digits_64 : decode cX3_digits 64 = .ok (.iconst 1, 1) := dk_4 (dk_at dksX3_digits_2 17 rfl rfl)
theorem dX3_digits_65 : decode cX3_digits 65 = .ok (.iadd, 1) := dk_96 (dk_at dksX3_digits_2 18 rfl rfl)
theorem dX3_digits_66 : decode cX3_digits 66 = .ok (.putfield 221, 3) := dk_181 0 221 (dk_at dksX3_digits_2 19 rfl rfl)
theorem dX3_digits_69 : decode cX3_digits 69 = .ok (.goto (-44), 3) := dk_167 255 212 (dk_at dksX3_digits_3 0 rfl rfl)
theorem dX3_digits_72 : decode cX3_digits 72 = .ok (.aload_n 0, 1) := dk_42 (dk_at dksX3_digits_3 3 rfl rfl)
theorem dX3_digits_73 : decode cX3_digits 73 = .ok (.getfield 221, 3) := dk_180 0 221 (dk_at dksX3_digits_3 4 rfl rfl)
theorem dX3_digits_76 : decode cX3_digits 76 = .ok (.iload_n 2, 1) := dk_28 (dk_at dksX3_digits_3 7 rfl rfl)
theorem dX3_digits_77 : decode cX3_digits 77 = .ok (.isub, 1) := dk_100 (dk_at dksX3_digits_3 8 rfl rfl)
theorem dX3_digits_78 : decode cX3_digits 78 = .ok (.iconst 5, 1) := dk_8 (dk_at dksX3_digits_3 9 rfl rfl)
theorem dX3_digits_79 : decode cX3_digits 79 = .ok (.if_icmp .gt 8, 3) := dk_163 0 8 (dk_at dksX3_digits_3 10 rfl rfl)
theorem dX3_digits_82 : decode cX3_digits 82 = .ok (.iload_n 3, 1) := dk_29 (dk_at dksX3_digits_3 13 rfl rfl)
theorem dX3_digits_83 : decode cX3_digits 83 = .ok (.iload_n 1, 1) := dk_27 (dk_at dksX3_digits_3 14 rfl rfl)
theorem dX3_digits_84 : decode cX3_digits 84 = .ok (.if_icmp .le 9, 3) := dk_164 0 9 (dk_at dksX3_digits_3 15 rfl rfl)
theorem dX3_digits_87 : decode cX3_digits 87 = .ok (.aload_n 0, 1) := dk_42 (dk_at dksX3_digits_3 18 rfl rfl)
theorem dX3_digits_88 : decode cX3_digits 88 = .ok (.iconst 1, 1) := dk_4 (dk_at dksX3_digits_3 19 rfl rfl)
theorem dX3_digits_89 : decode cX3_digits 89 = .ok (.iload_n 2, 1) := dk_28 (dk_at dksX3_digits_3 20 rfl rfl)
theorem dX3_digits_90 : decode cX3_digits 90 = .ok (.invokevirtual 256, 3) := dk_182 1 0 (dk_at dksX3_digits_3 21 rfl rfl)
theorem dX3_digits_93 : decode cX3_digits 93 = .ok (.iload_n 3, 1) := dk_29 (dk_at dksX3_digits_4 0 rfl rfl)
theorem dX3_digits_94 : decode cX3_digits 94 = .ok (.ireturn, 1) := dk_172 (dk_at dksX3_digits_4 1 rfl rfl)
abbrev cX3_isDigit : ByteArray := prog_21_method_20_code
def yX3_isDigit : MethodName := ⟨RX3, "isDigit", "()Z"⟩
def dkwX3_isDigit_0 : List UInt8 := [42, 182, 0, 224, 133, 20, 0, 227, 20, 0, 229, 184, 0, 179, 172]
abbrev dktX3_isDigit_0 : List UInt8 := dkwX3_isDigit_0 ++ []
theorem dksX3_isDigit_0 : cX3_isDigit.data.toList.drop 0 = dktX3_isDigit_0 := by decide +kernel
theorem dX3_isDigit_0 : decode cX3_isDigit 0 = .ok (.aload_n 0, 1) := dk_42 (dk_at dksX3_isDigit_0 0 rfl rfl)
theorem dX3_isDigit_1 : decode cX3_isDigit 1 = .ok (.invokevirtual 224, 3) := dk_182 0 224 (dk_at dksX3_isDigit_0 1 rfl rfl)
theorem dX3_isDigit_4 : decode cX3_isDigit 4 = .ok (.i2l, 1) := dk_133 (dk_at dksX3_isDigit_0 4 rfl rfl)
theorem dX3_isDigit_5 : decode cX3_isDigit 5 = .ok (.ldc2_w 227, 3) := dk_20 0 227 (dk_at dksX3_isDigit_0 5 rfl rfl)
theorem dX3_isDigit_8 : decode cX3_isDigit 8 = .ok (.ldc2_w 229, 3) := dk_20 0 229 (dk_at dksX3_isDigit_0 8 rfl rfl)
theorem dX3_isDigit_11 : decode cX3_isDigit 11 = .ok (.invokestatic 179, 3) := dk_184 0 179 (dk_at dksX3_isDigit_0 11 rfl rfl)
theorem dX3_isDigit_14 : decode cX3_isDigit 14 = .ok (.ireturn, 1) := dk_172 (dk_at dksX3_isDigit_0 14 rfl rfl)
abbrev cX3_in : ByteArray := prog_21_method_3_code
def yX3_in : MethodName := ⟨RX3, "in", "(JJJ)Z"⟩
def dkwX3_in_0 : List UInt8 := [30, 32, 148, 155, 0, 14, 30, 22, 4, 148, 157, 0, 7, 4, 167, 0, 4, 3, 172]
abbrev dktX3_in_0 : List UInt8 := dkwX3_in_0 ++ []
theorem dksX3_in_0 : cX3_in.data.toList.drop 0 = dktX3_in_0 := by decide +kernel
theorem dX3_in_0 : decode cX3_in 0 = .ok (.lload_n 0, 1) := dk_30 (dk_at dksX3_in_0 0 rfl rfl)
theorem dX3_in_1 : decode cX3_in 1 = .ok (.lload_n 2, 1) := dk_32 (dk_at dksX3_in_0 1 rfl rfl)
theorem dX3_in_2 : decode cX3_in 2 = .ok (.lcmp, 1) := dk_148 (dk_at dksX3_in_0 2 rfl rfl)
theorem dX3_in_3 : decode cX3_in 3 = .ok (.ifCond .lt 14, 3) := dk_155 0 14 (dk_at dksX3_in_0 3 rfl rfl)
theorem dX3_in_6 : decode cX3_in 6 = .ok (.lload_n 0, 1) := dk_30 (dk_at dksX3_in_0 6 rfl rfl)
theorem dX3_in_7 : decode cX3_in 7 = .ok (.lload 4, 2) := dk_22 4 (dk_at dksX3_in_0 7 rfl rfl)
theorem dX3_in_9 : decode cX3_in 9 = .ok (.lcmp, 1) := dk_148 (dk_at dksX3_in_0 9 rfl rfl)
theorem dX3_in_10 : decode cX3_in 10 = .ok (.ifCond .gt 7, 3) := dk_157 0 7 (dk_at dksX3_in_0 10 rfl rfl)
theorem dX3_in_13 : decode cX3_in 13 = .ok (.iconst 1, 1) := dk_4 (dk_at dksX3_in_0 13 rfl rfl)
theorem dX3_in_14 : decode cX3_in 14 = .ok (.goto 4, 3) := dk_167 0 4 (dk_at dksX3_in_0 14 rfl rfl)
theorem dX3_in_17 : decode cX3_in 17 = .ok (.iconst 0, 1) := dk_3 (dk_at dksX3_in_0 17 rfl rfl)
theorem dX3_in_18 : decode cX3_in 18 = .ok (.ireturn, 1) := dk_172 (dk_at dksX3_in_0 18 rfl rfl)
abbrev cX3_allRead : ByteArray := prog_21_method_37_code
def yX3_allRead : MethodName := ⟨RX3, "allRead", "()I"⟩
def dkwX3_allRead_0 : List UInt8 := [4, 42, 180, 0, 55, 3, 46, 120, 4, 100, 172]
abbrev dktX3_allRead_0 : List UInt8 := dkwX3_allRead_0 ++ []
theorem dksX3_allRead_0 : cX3_allRead.data.toList.drop 0 = dktX3_allRead_0 := by decide +kernel
theorem dX3_allRead_0 : decode cX3_allRead 0 = .ok (.iconst 1, 1) := dk_4 (dk_at dksX3_allRead_0 0 rfl rfl)
theorem dX3_allRead_1 : decode cX3_allRead 1 = .ok (.aload_n 0, 1) := dk_42 (dk_at dksX3_allRead_0 1 rfl rfl)
theorem dX3_allRead_2 : decode cX3_allRead 2 = .ok (.getfield 55, 3) := dk_180 0 55 (dk_at dksX3_allRead_0 2 rfl rfl)
theorem dX3_allRead_5 : decode cX3_allRead 5 = .ok (.iconst 0, 1) := dk_3 (dk_at dksX3_allRead_0 5 rfl rfl)
theorem dX3_allRead_6 : decode cX3_allRead 6 = .ok (.iaload, 1) := dk_46 (dk_at dksX3_allRead_0 6 rfl rfl)
theorem dX3_allRead_7 : decode cX3_allRead 7 = .ok (.ishl, 1) := dk_120 (dk_at dksX3_allRead_0 7 rfl rfl)
theorem dX3_allRead_8 : decode cX3_allRead 8 = .ok (.iconst 1, 1) := dk_4 (dk_at dksX3_allRead_0 8 rfl rfl)
theorem dX3_allRead_9 : decode cX3_allRead 9 = .ok (.isub, 1) := dk_100 (dk_at dksX3_allRead_0 9 rfl rfl)
theorem dX3_allRead_10 : decode cX3_allRead 10 = .ok (.ireturn, 1) := dk_172 (dk_at dksX3_allRead_0 10 rfl rfl)
abbrev cX3_readsPath : ByteArray := prog_21_method_38_code
def yX3_readsPath : MethodName := ⟨RX3, "readsPath", "()V"⟩
def dkwX3_readsPath_4 : List UInt8 := [182, 1, 64, 79, 42, 180, 0, 55, 7, 92, 46, 4, 96, 79, 177]
abbrev dktX3_readsPath_4 : List UInt8 := dkwX3_readsPath_4 ++ []
def dkwX3_readsPath_3 : List UInt8 := [180, 0, 73, 27, 46, 160, 0, 9, 42, 4, 28, 182, 1, 0, 42, 180, 0, 79, 27, 42, 4, 16, 9]
abbrev dktX3_readsPath_3 : List UInt8 := dkwX3_readsPath_3 ++ dktX3_readsPath_4
def dkwX3_readsPath_2 : List UInt8 := [6, 46, 4, 100, 182, 1, 64, 79, 42, 180, 0, 218, 154, 0, 24, 42, 180, 0, 76, 27, 46, 42]
abbrev dktX3_readsPath_2 : List UInt8 := dkwX3_readsPath_2 ++ dktX3_readsPath_3
def dkwX3_readsPath_1 : List UInt8 := [182, 1, 64, 79, 42, 182, 0, 240, 42, 180, 0, 221, 61, 42, 180, 0, 76, 27, 42, 3, 42, 180, 0, 55]
abbrev dktX3_readsPath_1 : List UInt8 := dkwX3_readsPath_1 ++ dktX3_readsPath_2
def dkwX3_readsPath_0 : List UInt8 := [42, 180, 0, 55, 7, 46, 60, 42, 180, 0, 73, 27, 42, 3, 42, 180, 0, 55, 6, 46, 4, 100]
abbrev dktX3_readsPath_0 : List UInt8 := dkwX3_readsPath_0 ++ dktX3_readsPath_1
theorem dksX3_readsPath_0 : cX3_readsPath.data.toList.drop 0 = dktX3_readsPath_0 := by decide +kernel
theorem dksX3_readsPath_1 : cX3_readsPath.data.toList.drop 22 = dktX3_readsPath_1 := dk_seg dksX3_readsPath_0 22 rfl rfl
theorem dksX3_readsPath_2 : cX3_readsPath.data.toList.drop 46 = dktX3_readsPath_2 := dk_seg dksX3_readsPath_1 24 rfl rfl
theorem dksX3_readsPath_3 : cX3_readsPath.data.toList.drop 68 = dktX3_readsPath_3 := dk_seg dksX3_readsPath_2 22 rfl rfl
theorem dksX3_readsPath_4 : cX3_readsPath.data.toList.drop 91 = dktX3_readsPath_4 := dk_seg dksX3_readsPath_3 23 rfl rfl
theorem dX3_readsPath_0 : decode cX3_readsPath 0 = .ok (.aload_n 0, 1) := dk_42 (dk_at dksX3_readsPath_0 0 rfl rfl)
theorem dX3_readsPath_1 : decode cX3_readsPath 1 = .ok (.getfield 55, 3) := dk_180 0 55 (dk_at dksX3_readsPath_0 1 rfl rfl)
theorem dX3_readsPath_4 : decode cX3_readsPath 4 = .ok (.iconst 4, 1) := dk_7 (dk_at dksX3_readsPath_0 4 rfl rfl)
theorem dX3_readsPath_5 : decode cX3_readsPath 5 = .ok (.iaload, 1) := dk_46 (dk_at dksX3_readsPath_0 5 rfl rfl)
theorem dX3_readsPath_6 : decode cX3_readsPath 6 = .ok (.istore_n 1, 1) := dk_60 (dk_at dksX3_readsPath_0 6 rfl rfl)
theorem dX3_readsPath_7 : decode cX3_readsPath 7 = .ok (.aload_n 0, 1) := dk_42 (dk_at dksX3_readsPath_0 7 rfl rfl)
theorem dX3_readsPath_8 : decode cX3_readsPath 8 = .ok (.getfield 73, 3) := dk_180 0 73 (dk_at dksX3_readsPath_0 8 rfl rfl)
theorem dX3_readsPath_11 : decode cX3_readsPath 11 = .ok (.iload_n 1, 1) := dk_27 (dk_at dksX3_readsPath_0 11 rfl rfl)
theorem dX3_readsPath_12 : decode cX3_readsPath 12 = .ok (.aload_n 0, 1) := dk_42 (dk_at dksX3_readsPath_0 12 rfl rfl)
theorem dX3_readsPath_13 : decode cX3_readsPath 13 = .ok (.iconst 0, 1) := dk_3 (dk_at dksX3_readsPath_0 13 rfl rfl)
theorem dX3_readsPath_14 : decode cX3_readsPath 14 = .ok (.aload_n 0, 1) := dk_42 (dk_at dksX3_readsPath_0 14 rfl rfl)
theorem dX3_readsPath_15 : decode cX3_readsPath 15 = .ok (.getfield 55, 3) := dk_180 0 55 (dk_at dksX3_readsPath_0 15 rfl rfl)
theorem dX3_readsPath_18 : decode cX3_readsPath 18 = .ok (.iconst 3, 1) := dk_6 (dk_at dksX3_readsPath_0 18 rfl rfl)
theorem dX3_readsPath_19 : decode cX3_readsPath 19 = .ok (.iaload, 1) := dk_46 (dk_at dksX3_readsPath_0 19 rfl rfl)
theorem dX3_readsPath_20 : decode cX3_readsPath 20 = .ok (.iconst 1, 1) := dk_4 (dk_at dksX3_readsPath_0 20 rfl rfl)
theorem dX3_readsPath_21 : decode cX3_readsPath 21 = .ok (.isub, 1) := dk_100 (dk_at dksX3_readsPath_0 21 rfl rfl)
theorem dX3_readsPath_22 : decode cX3_readsPath 22 = .ok (.invokevirtual 320, 3) := dk_182 1 64 (dk_at dksX3_readsPath_1 0 rfl rfl)
theorem dX3_readsPath_25 : decode cX3_readsPath 25 = .ok (.iastore, 1) := dk_79 (dk_at dksX3_readsPath_1 3 rfl rfl)
theorem dX3_readsPath_26 : decode cX3_readsPath 26 = .ok (.aload_n 0, 1) := dk_42 (dk_at dksX3_readsPath_1 4 rfl rfl)
theorem dX3_readsPath_27 : decode cX3_readsPath 27 = .ok (.invokevirtual 240, 3) := dk_182 0 240 (dk_at dksX3_readsPath_1 5 rfl rfl)
theorem dX3_readsPath_30 : decode cX3_readsPath 30 = .ok (.aload_n 0, 1) := dk_42 (dk_at dksX3_readsPath_1 8 rfl rfl)
theorem dX3_readsPath_31 : decode cX3_readsPath 31 = .ok (.getfield 221, 3) := dk_180 0 221 (dk_at dksX3_readsPath_1 9 rfl rfl)
theorem dX3_readsPath_34 : decode cX3_readsPath 34 = .ok (.istore_n 2, 1) := dk_61 (dk_at dksX3_readsPath_1 12 rfl rfl)
theorem dX3_readsPath_35 : decode cX3_readsPath 35 = .ok (.aload_n 0, 1) := dk_42 (dk_at dksX3_readsPath_1 13 rfl rfl)
theorem dX3_readsPath_36 : decode cX3_readsPath 36 = .ok (.getfield 76, 3) := dk_180 0 76 (dk_at dksX3_readsPath_1 14 rfl rfl)
theorem dX3_readsPath_39 : decode cX3_readsPath 39 = .ok (.iload_n 1, 1) := dk_27 (dk_at dksX3_readsPath_1 17 rfl rfl)
theorem dX3_readsPath_40 : decode cX3_readsPath 40 = .ok (.aload_n 0, 1) := dk_42 (dk_at dksX3_readsPath_1 18 rfl rfl)
theorem dX3_readsPath_41 : decode cX3_readsPath 41 = .ok (.iconst 0, 1) := dk_3 (dk_at dksX3_readsPath_1 19 rfl rfl)
theorem dX3_readsPath_42 : decode cX3_readsPath 42 = .ok (.aload_n 0, 1) := dk_42 (dk_at dksX3_readsPath_1 20 rfl rfl)
theorem dX3_readsPath_43 : decode cX3_readsPath 43 = .ok (.getfield 55, 3) := dk_180 0 55 (dk_at dksX3_readsPath_1 21 rfl rfl)
theorem dX3_readsPath_46 : decode cX3_readsPath 46 = .ok (.iconst 3, 1) := dk_6 (dk_at dksX3_readsPath_2 0 rfl rfl)
theorem dX3_readsPath_47 : decode cX3_readsPath 47 = .ok (.iaload, 1) := dk_46 (dk_at dksX3_readsPath_2 1 rfl rfl)
theorem dX3_readsPath_48 : decode cX3_readsPath 48 = .ok (.iconst 1, 1) := dk_4 (dk_at dksX3_readsPath_2 2 rfl rfl)
theorem dX3_readsPath_49 : decode cX3_readsPath 49 = .ok (.isub, 1) := dk_100 (dk_at dksX3_readsPath_2 3 rfl rfl)
theorem dX3_readsPath_50 : decode cX3_readsPath 50 = .ok (.invokevirtual 320, 3) := dk_182 1 64 (dk_at dksX3_readsPath_2 4 rfl rfl)
theorem dX3_readsPath_53 : decode cX3_readsPath 53 = .ok (.iastore, 1) := dk_79 (dk_at dksX3_readsPath_2 7 rfl rfl)
theorem dX3_readsPath_54 : decode cX3_readsPath 54 = .ok (.aload_n 0, 1) := dk_42 (dk_at dksX3_readsPath_2 8 rfl rfl)
theorem dX3_readsPath_55 : decode cX3_readsPath 55 = .ok (.getfield 218, 3) := dk_180 0 218 (dk_at dksX3_readsPath_2 9 rfl rfl)
theorem dX3_readsPath_58 : decode cX3_readsPath 58 = .ok (.ifCond .ne 24, 3) := dk_154 0 24 (dk_at dksX3_readsPath_2 12 rfl rfl)
theorem dX3_readsPath_61 : decode cX3_readsPath 61 = .ok (.aload_n 0, 1) := dk_42 (dk_at dksX3_readsPath_2 15 rfl rfl)
theorem dX3_readsPath_62 : decode cX3_readsPath 62 = .ok (.getfield 76, 3) := dk_180 0 76 (dk_at dksX3_readsPath_2 16 rfl rfl)
theorem dX3_readsPath_65 : decode cX3_readsPath 65 = .ok (.iload_n 1, 1) := dk_27 (dk_at dksX3_readsPath_2 19 rfl rfl)
theorem dX3_readsPath_66 : decode cX3_readsPath 66 = .ok (.iaload, 1) := dk_46 (dk_at dksX3_readsPath_2 20 rfl rfl)
theorem dX3_readsPath_67 : decode cX3_readsPath 67 = .ok (.aload_n 0, 1) := dk_42 (dk_at dksX3_readsPath_2 21 rfl rfl)
theorem dX3_readsPath_68 : decode cX3_readsPath 68 = .ok (.getfield 73, 3) := dk_180 0 73 (dk_at dksX3_readsPath_3 0 rfl rfl)
theorem dX3_readsPath_71 : decode cX3_readsPath 71 = .ok (.iload_n 1, 1) := dk_27 (dk_at dksX3_readsPath_3 3 rfl rfl)
theorem dX3_readsPath_72 : decode cX3_readsPath 72 = .ok (.iaload, 1) := dk_46 (dk_at dksX3_readsPath_3 4 rfl rfl)
theorem dX3_readsPath_73 : decode cX3_readsPath 73 = .ok (.if_icmp .ne 9, 3) := dk_160 0 9 (dk_at dksX3_readsPath_3 5 rfl rfl)
theorem dX3_readsPath_76 : decode cX3_readsPath 76 = .ok (.aload_n 0, 1) := dk_42 (dk_at dksX3_readsPath_3 8 rfl rfl)
theorem dX3_readsPath_77 : decode cX3_readsPath 77 = .ok (.iconst 1, 1) := dk_4 (dk_at dksX3_readsPath_3 9 rfl rfl)
theorem dX3_readsPath_78 : decode cX3_readsPath 78 = .ok (.iload_n 2, 1) := dk_28 (dk_at dksX3_readsPath_3 10 rfl rfl)
theorem dX3_readsPath_79 : decode cX3_readsPath 79 = .ok (.invokevirtual 256, 3) := dk_182 1 0 (dk_at dksX3_readsPath_3 11 rfl rfl)
theorem dX3_readsPath_82 : decode cX3_readsPath 82 = .ok (.aload_n 0, 1) := dk_42 (dk_at dksX3_readsPath_3 14 rfl rfl)
theorem dX3_readsPath_83 : decode cX3_readsPath 83 = .ok (.getfield 79, 3) := dk_180 0 79 (dk_at dksX3_readsPath_3 15 rfl rfl)
theorem dX3_readsPath_86 : decode cX3_readsPath 86 = .ok (.iload_n 1, 1) := dk_27 (dk_at dksX3_readsPath_3 18 rfl rfl)
theorem dX3_readsPath_87 : decode cX3_readsPath 87 = .ok (.aload_n 0, 1) := dk_42 (dk_at dksX3_readsPath_3 19 rfl rfl)
theorem dX3_readsPath_88 : decode cX3_readsPath 88 = .ok (.iconst 1, 1) := dk_4 (dk_at dksX3_readsPath_3 20 rfl rfl)
theorem dX3_readsPath_89 : decode cX3_readsPath 89 = .ok (.bipush 9, 2) := dk_16 9 (dk_at dksX3_readsPath_3 21 rfl rfl)
theorem dX3_readsPath_91 : decode cX3_readsPath 91 = .ok (.invokevirtual 320, 3) := dk_182 1 64 (dk_at dksX3_readsPath_4 0 rfl rfl)
theorem dX3_readsPath_94 : decode cX3_readsPath 94 = .ok (.iastore, 1) := dk_79 (dk_at dksX3_readsPath_4 3 rfl rfl)
theorem dX3_readsPath_95 : decode cX3_readsPath 95 = .ok (.aload_n 0, 1) := dk_42 (dk_at dksX3_readsPath_4 4 rfl rfl)
theorem dX3_readsPath_96 : decode cX3_readsPath 96 = .ok (.getfield 55, 3) := dk_180 0 55 (dk_at dksX3_readsPath_4 5 rfl rfl)
theorem dX3_readsPath_99 : decode cX3_readsPath 99 = .ok (.iconst 4, 1) := dk_7 (dk_at dksX3_readsPath_4 8 rfl rfl)
theorem dX3_readsPath_100 : decode cX3_readsPath 100 = .ok (.dup2, 1) := dk_92 (dk_at dksX3_readsPath_4 9 rfl rfl)
theorem dX3_readsPath_101 : decode cX3_readsPath 101 = .ok (.iaload, 1) := dk_46 (dk_at dksX3_readsPath_4 10 rfl rfl)
theorem dX3_readsPath_102 : decode cX3_readsPath 102 = .ok (.iconst 1, 1) := dk_4 (dk_at dksX3_readsPath_4 11 rfl rfl)
theorem dX3_readsPath_103 : decode cX3_readsPath 103 = .ok (.iadd, 1) := dk_96 (dk_at dksX3_readsPath_4 12 rfl rfl)
theorem dX3_readsPath_104 : decode cX3_readsPath 104 = .ok (.iastore, 1) := dk_79 (dk_at dksX3_readsPath_4 13 rfl rfl)
theorem dX3_readsPath_105 : decode cX3_readsPath 105 = .ok (.return_, 1) := dk_177 (dk_at dksX3_readsPath_4 14 rfl rfl)
abbrev cX3_goesOn : ByteArray := prog_21_method_43_code
def yX3_goesOn : MethodName := ⟨RX3, "goesOn", "()Z"⟩
def dkwX3_goesOn_3 : List UInt8 := [181, 0, 221, 27, 172]
abbrev dktX3_goesOn_3 : List UInt8 := dkwX3_goesOn_3 ++ []
def dkwX3_goesOn_2 : List UInt8 := [42, 180, 0, 221, 42, 180, 0, 194, 162, 0, 7, 4, 167, 0, 4, 3, 60, 42, 89, 180, 0, 221, 4, 96]
abbrev dktX3_goesOn_2 : List UInt8 := dkwX3_goesOn_2 ++ dktX3_goesOn_3
def dkwX3_goesOn_1 : List UInt8 := [182, 0, 224, 16, 59, 159, 0, 12, 42, 3, 42, 180, 0, 221, 182, 1, 0, 42, 180, 0, 218, 154, 0, 18]
abbrev dktX3_goesOn_1 : List UInt8 := dkwX3_goesOn_1 ++ dktX3_goesOn_2
def dkwX3_goesOn_0 : List UInt8 := [42, 182, 0, 240, 42, 180, 0, 218, 154, 0, 32, 42, 180, 0, 221, 42, 180, 0, 194, 162, 0, 21, 42]
abbrev dktX3_goesOn_0 : List UInt8 := dkwX3_goesOn_0 ++ dktX3_goesOn_1
theorem dksX3_goesOn_0 : cX3_goesOn.data.toList.drop 0 = dktX3_goesOn_0 := by decide +kernel
theorem dksX3_goesOn_1 : cX3_goesOn.data.toList.drop 23 = dktX3_goesOn_1 := dk_seg dksX3_goesOn_0 23 rfl rfl
theorem dksX3_goesOn_2 : cX3_goesOn.data.toList.drop 47 = dktX3_goesOn_2 := dk_seg dksX3_goesOn_1 24 rfl rfl
theorem dksX3_goesOn_3 : cX3_goesOn.data.toList.drop 71 = dktX3_goesOn_3 := dk_seg dksX3_goesOn_2 24 rfl rfl
theorem dX3_goesOn_0 : decode cX3_goesOn 0 = .ok (.aload_n 0, 1) := dk_42 (dk_at dksX3_goesOn_0 0 rfl rfl)
theorem dX3_goesOn_1 : decode cX3_goesOn 1 = .ok (.invokevirtual 240, 3) := dk_182 0 240 (dk_at dksX3_goesOn_0 1 rfl rfl)
theorem dX3_goesOn_4 : decode cX3_goesOn 4 = .ok (.aload_n 0, 1) := dk_42 (dk_at dksX3_goesOn_0 4 rfl rfl)
theorem dX3_goesOn_5 : decode cX3_goesOn 5 = .ok (.getfield 218, 3) := dk_180 0 218 (dk_at dksX3_goesOn_0 5 rfl rfl)
theorem dX3_goesOn_8 : decode cX3_goesOn 8 = .ok (.ifCond .ne 32, 3) := dk_154 0 32 (dk_at dksX3_goesOn_0 8 rfl rfl)
theorem dX3_goesOn_11 : decode cX3_goesOn 11 = .ok (.aload_n 0, 1) := dk_42 (dk_at dksX3_goesOn_0 11 rfl rfl)
theorem dX3_goesOn_12 : decode cX3_goesOn 12 = .ok (.getfield 221, 3) := dk_180 0 221 (dk_at dksX3_goesOn_0 12 rfl rfl)
theorem dX3_goesOn_15 : decode cX3_goesOn 15 = .ok (.aload_n 0, 1) := dk_42 (dk_at dksX3_goesOn_0 15 rfl rfl)
theorem dX3_goesOn_16 : decode cX3_goesOn 16 = .ok (.getfield 194, 3) := dk_180 0 194 (dk_at dksX3_goesOn_0 16 rfl rfl)
theorem dX3_goesOn_19 : decode cX3_goesOn 19 = .ok (.if_icmp .ge 21, 3) := dk_162 0 21 (dk_at dksX3_goesOn_0 19 rfl rfl)
theorem dX3_goesOn_22 : decode cX3_goesOn 22 = .ok (.aload_n 0, 1) := dk_42 (dk_at dksX3_goesOn_0 22 rfl rfl)
theorem dX3_goesOn_23 : decode cX3_goesOn 23 = .ok (.invokevirtual 224, 3) := dk_182 0 224 (dk_at dksX3_goesOn_1 0 rfl rfl)
theorem dX3_goesOn_26 : decode cX3_goesOn 26 = .ok (.bipush 59, 2) := dk_16 59 (dk_at dksX3_goesOn_1 3 rfl rfl)
theorem dX3_goesOn_28 : decode cX3_goesOn 28 = .ok (.if_icmp .eq 12, 3) := dk_159 0 12 (dk_at dksX3_goesOn_1 5 rfl rfl)
theorem dX3_goesOn_31 : decode cX3_goesOn 31 = .ok (.aload_n 0, 1) := dk_42 (dk_at dksX3_goesOn_1 8 rfl rfl)
theorem dX3_goesOn_32 : decode cX3_goesOn 32 = .ok (.iconst 0, 1) := dk_3 (dk_at dksX3_goesOn_1 9 rfl rfl)
theorem dX3_goesOn_33 : decode cX3_goesOn 33 = .ok (.aload_n 0, 1) := dk_42 (dk_at dksX3_goesOn_1 10 rfl rfl)
theorem dX3_goesOn_34 : decode cX3_goesOn 34 = .ok (.getfield 221, 3) := dk_180 0 221 (dk_at dksX3_goesOn_1 11 rfl rfl)
theorem dX3_goesOn_37 : decode cX3_goesOn 37 = .ok (.invokevirtual 256, 3) := dk_182 1 0 (dk_at dksX3_goesOn_1 14 rfl rfl)
theorem dX3_goesOn_40 : decode cX3_goesOn 40 = .ok (.aload_n 0, 1) := dk_42 (dk_at dksX3_goesOn_1 17 rfl rfl)
theorem dX3_goesOn_41 : decode cX3_goesOn 41 = .ok (.getfield 218, 3) := dk_180 0 218 (dk_at dksX3_goesOn_1 18 rfl rfl)
theorem dX3_goesOn_44 : decode cX3_goesOn 44 = .ok (.ifCond .ne 18, 3) := dk_154 0 18 (dk_at dksX3_goesOn_1 21 rfl rfl)
theorem dX3_goesOn_47 : decode cX3_goesOn 47 = .ok (.aload_n 0, 1) := dk_42 (dk_at dksX3_goesOn_2 0 rfl rfl)
theorem dX3_goesOn_48 : decode cX3_goesOn 48 = .ok (.getfield 221, 3) := dk_180 0 221 (dk_at dksX3_goesOn_2 1 rfl rfl)
theorem dX3_goesOn_51 : decode cX3_goesOn 51 = .ok (.aload_n 0, 1) := dk_42 (dk_at dksX3_goesOn_2 4 rfl rfl)
theorem dX3_goesOn_52 : decode cX3_goesOn 52 = .ok (.getfield 194, 3) := dk_180 0 194 (dk_at dksX3_goesOn_2 5 rfl rfl)
theorem dX3_goesOn_55 : decode cX3_goesOn 55 = .ok (.if_icmp .ge 7, 3) := dk_162 0 7 (dk_at dksX3_goesOn_2 8 rfl rfl)
theorem dX3_goesOn_58 : decode cX3_goesOn 58 = .ok (.iconst 1, 1) := dk_4 (dk_at dksX3_goesOn_2 11 rfl rfl)
theorem dX3_goesOn_59 : decode cX3_goesOn 59 = .ok (.goto 4, 3) := dk_167 0 4 (dk_at dksX3_goesOn_2 12 rfl rfl)
theorem dX3_goesOn_62 : decode cX3_goesOn 62 = .ok (.iconst 0, 1) := dk_3 (dk_at dksX3_goesOn_2 15 rfl rfl)
theorem dX3_goesOn_63 : decode cX3_goesOn 63 = .ok (.istore_n 1, 1) := dk_60 (dk_at dksX3_goesOn_2 16 rfl rfl)
theorem dX3_goesOn_64 : decode cX3_goesOn 64 = .ok (.aload_n 0, 1) := dk_42 (dk_at dksX3_goesOn_2 17 rfl rfl)
theorem dX3_goesOn_65 : decode cX3_goesOn 65 = .ok (.dup, 1) := dk_89 (dk_at dksX3_goesOn_2 18 rfl rfl)
theorem dX3_goesOn_66 : decode cX3_goesOn 66 = .ok (.getfield 221, 3) := dk_180 0 221 (dk_at dksX3_goesOn_2 19 rfl rfl)
theorem dX3_goesOn_69 : decode cX3_goesOn 69 = .ok (.iconst 1, 1) := dk_4 (dk_at dksX3_goesOn_2 22 rfl rfl)
theorem dX3_goesOn_70 : decode cX3_goesOn 70 = .ok (.iadd, 1) := dk_96 (dk_at dksX3_goesOn_2 23 rfl rfl)
theorem dX3_goesOn_71 : decode cX3_goesOn 71 = .ok (.putfield 221, 3) := dk_181 0 221 (dk_at dksX3_goesOn_3 0 rfl rfl)
theorem dX3_goesOn_74 : decode cX3_goesOn 74 = .ok (.iload_n 1, 1) := dk_27 (dk_at dksX3_goesOn_3 3 rfl rfl)
theorem dX3_goesOn_75 : decode cX3_goesOn 75 = .ok (.ireturn, 1) := dk_172 (dk_at dksX3_goesOn_3 4 rfl rfl)
abbrev cX3_copies : ByteArray := prog_21_method_42_code
def yX3_copies : MethodName := ⟨RX3, "copies", "([I[I)V"⟩
def dkwX3_copies_0 : List UInt8 := [3, 61, 28, 42, 190, 162, 0, 15, 43, 28, 42, 28, 46, 79, 132, 2, 1, 167, 255, 241, 177]
abbrev dktX3_copies_0 : List UInt8 := dkwX3_copies_0 ++ []
theorem dksX3_copies_0 : cX3_copies.data.toList.drop 0 = dktX3_copies_0 := by decide +kernel
theorem dX3_copies_0 : decode cX3_copies 0 = .ok (.iconst 0, 1) := dk_3 (dk_at dksX3_copies_0 0 rfl rfl)
theorem dX3_copies_1 : decode cX3_copies 1 = .ok (.istore_n 2, 1) := dk_61 (dk_at dksX3_copies_0 1 rfl rfl)
theorem dX3_copies_2 : decode cX3_copies 2 = .ok (.iload_n 2, 1) := dk_28 (dk_at dksX3_copies_0 2 rfl rfl)
theorem dX3_copies_3 : decode cX3_copies 3 = .ok (.aload_n 0, 1) := dk_42 (dk_at dksX3_copies_0 3 rfl rfl)
theorem dX3_copies_4 : decode cX3_copies 4 = .ok (.arraylength, 1) := dk_190 (dk_at dksX3_copies_0 4 rfl rfl)
theorem dX3_copies_5 : decode cX3_copies 5 = .ok (.if_icmp .ge 15, 3) := dk_162 0 15 (dk_at dksX3_copies_0 5 rfl rfl)
theorem dX3_copies_8 : decode cX3_copies 8 = .ok (.aload_n 1, 1) := dk_43 (dk_at dksX3_copies_0 8 rfl rfl)
theorem dX3_copies_9 : decode cX3_copies 9 = .ok (.iload_n 2, 1) := dk_28 (dk_at dksX3_copies_0 9 rfl rfl)
theorem dX3_copies_10 : decode cX3_copies 10 = .ok (.aload_n 0, 1) := dk_42 (dk_at dksX3_copies_0 10 rfl rfl)
theorem dX3_copies_11 : decode cX3_copies 11 = .ok (.iload_n 2, 1) := dk_28 (dk_at dksX3_copies_0 11 rfl rfl)
theorem dX3_copies_12 : decode cX3_copies 12 = .ok (.iaload, 1) := dk_46 (dk_at dksX3_copies_0 12 rfl rfl)
theorem dX3_copies_13 : decode cX3_copies 13 = .ok (.iastore, 1) := dk_79 (dk_at dksX3_copies_0 13 rfl rfl)
theorem dX3_copies_14 : decode cX3_copies 14 = .ok (.iinc 2 1, 3) := dk_132 2 1 (dk_at dksX3_copies_0 14 rfl rfl)
theorem dX3_copies_17 : decode cX3_copies 17 = .ok (.goto (-15), 3) := dk_167 255 241 (dk_at dksX3_copies_0 17 rfl rfl)
theorem dX3_copies_20 : decode cX3_copies 20 = .ok (.return_, 1) := dk_177 (dk_at dksX3_copies_0 20 rfl rfl)
abbrev cX3_worlds : ByteArray := prog_21_method_11_code
def yX3_worlds : MethodName := ⟨RX3, "worlds", "()I"⟩
def dkwX3_worlds_0 : List UInt8 := [4, 42, 180, 0, 9, 3, 46, 120, 172]
abbrev dktX3_worlds_0 : List UInt8 := dkwX3_worlds_0 ++ []
theorem dksX3_worlds_0 : cX3_worlds.data.toList.drop 0 = dktX3_worlds_0 := by decide +kernel
theorem dX3_worlds_0 : decode cX3_worlds 0 = .ok (.iconst 1, 1) := dk_4 (dk_at dksX3_worlds_0 0 rfl rfl)
theorem dX3_worlds_1 : decode cX3_worlds 1 = .ok (.aload_n 0, 1) := dk_42 (dk_at dksX3_worlds_0 1 rfl rfl)
theorem dX3_worlds_2 : decode cX3_worlds 2 = .ok (.getfield 9, 3) := dk_180 0 9 (dk_at dksX3_worlds_0 2 rfl rfl)
theorem dX3_worlds_5 : decode cX3_worlds 5 = .ok (.iconst 0, 1) := dk_3 (dk_at dksX3_worlds_0 5 rfl rfl)
theorem dX3_worlds_6 : decode cX3_worlds 6 = .ok (.iaload, 1) := dk_46 (dk_at dksX3_worlds_0 6 rfl rfl)
theorem dX3_worlds_7 : decode cX3_worlds 7 = .ok (.ishl, 1) := dk_120 (dk_at dksX3_worlds_0 7 rfl rfl)
theorem dX3_worlds_8 : decode cX3_worlds 8 = .ok (.ireturn, 1) := dk_172 (dk_at dksX3_worlds_0 8 rfl rfl)
abbrev cX3_saying : ByteArray := prog_21_method_57_code
def yX3_saying : MethodName := ⟨RX3, "saying", "()I"⟩
def dkwX3_saying_7 : List UInt8 := [180, 0, 183, 4, 96, 181, 0, 183, 42, 180, 0, 183, 4, 100, 172]
abbrev dktX3_saying_7 : List UInt8 := dkwX3_saying_7 ++ []
def dkwX3_saying_6 : List UInt8 := [16, 8, 42, 180, 0, 183, 104, 28, 96, 42, 180, 0, 120, 28, 46, 79, 132, 2, 1, 167, 255, 227, 42, 89]
abbrev dktX3_saying_6 : List UInt8 := dkwX3_saying_6 ++ dktX3_saying_7
def dkwX3_saying_5 : List UInt8 := [16, 254, 42, 180, 0, 218, 100, 172, 42, 182, 1, 149, 3, 61, 28, 16, 8, 162, 0, 29, 42, 180, 0, 117]
abbrev dktX3_saying_5 : List UInt8 := dkwX3_saying_5 ++ dktX3_saying_6
def dkwX3_saying_4 : List UInt8 := [182, 1, 158, 60, 42, 182, 0, 240, 167, 255, 198, 42, 3, 181, 0, 194, 42, 180, 0, 218, 158, 0, 11]
abbrev dktX3_saying_4 : List UInt8 := dkwX3_saying_4 ++ dktX3_saying_5
def dkwX3_saying_3 : List UInt8 := [162, 0, 35, 27, 153, 0, 19, 42, 182, 1, 155, 154, 0, 7, 4, 167, 0, 4, 3, 60, 167, 0, 8, 42]
abbrev dktX3_saying_3 : List UInt8 := dkwX3_saying_3 ++ dktX3_saying_4
def dkwX3_saying_2 : List UInt8 := [154, 0, 57, 27, 154, 0, 21, 42, 180, 1, 106, 157, 0, 14, 42, 180, 0, 221, 42, 180, 0, 194]
abbrev dktX3_saying_2 : List UInt8 := dkwX3_saying_2 ++ dktX3_saying_3
def dkwX3_saying_1 : List UInt8 := [181, 1, 103, 42, 3, 181, 1, 140, 42, 182, 1, 109, 4, 60, 42, 182, 0, 240, 42, 180, 0, 218]
abbrev dktX3_saying_1 : List UInt8 := dkwX3_saying_1 ++ dktX3_saying_2
def dkwX3_saying_0 : List UInt8 := [42, 180, 0, 183, 16, 24, 160, 0, 5, 2, 172, 42, 182, 1, 84, 42, 3, 181, 1, 106, 42, 3]
abbrev dktX3_saying_0 : List UInt8 := dkwX3_saying_0 ++ dktX3_saying_1
theorem dksX3_saying_0 : cX3_saying.data.toList.drop 0 = dktX3_saying_0 := by decide +kernel
theorem dksX3_saying_1 : cX3_saying.data.toList.drop 22 = dktX3_saying_1 := dk_seg dksX3_saying_0 22 rfl rfl
theorem dksX3_saying_2 : cX3_saying.data.toList.drop 44 = dktX3_saying_2 := dk_seg dksX3_saying_1 22 rfl rfl
theorem dksX3_saying_3 : cX3_saying.data.toList.drop 66 = dktX3_saying_3 := dk_seg dksX3_saying_2 22 rfl rfl
theorem dksX3_saying_4 : cX3_saying.data.toList.drop 90 = dktX3_saying_4 := dk_seg dksX3_saying_3 24 rfl rfl
theorem dksX3_saying_5 : cX3_saying.data.toList.drop 113 = dktX3_saying_5 := dk_seg dksX3_saying_4 23 rfl rfl
theorem dksX3_saying_6 : cX3_saying.data.toList.drop 137 = dktX3_saying_6 := dk_seg dksX3_saying_5 24 rfl rfl
theorem dksX3_saying_7 : cX3_saying.data.toList.drop 161 = dktX3_saying_7 := dk_seg dksX3_saying_6 24 rfl rfl
theorem dX3_saying_0 : decode cX3_saying 0 = .ok (.aload_n 0, 1) := dk_42 (dk_at dksX3_saying_0 0 rfl rfl)
theorem dX3_saying_1 : decode cX3_saying 1 = .ok (.getfield 183, 3) := dk_180 0 183 (dk_at dksX3_saying_0 1 rfl rfl)
theorem dX3_saying_4 : decode cX3_saying 4 = .ok (.bipush 24, 2) := dk_16 24 (dk_at dksX3_saying_0 4 rfl rfl)
theorem dX3_saying_6 : decode cX3_saying 6 = .ok (.if_icmp .ne 5, 3) := dk_160 0 5 (dk_at dksX3_saying_0 6 rfl rfl)
theorem dX3_saying_9 : decode cX3_saying 9 = .ok (.iconst (-1), 1) := dk_2 (dk_at dksX3_saying_0 9 rfl rfl)
theorem dX3_saying_10 : decode cX3_saying 10 = .ok (.ireturn, 1) := dk_172 (dk_at dksX3_saying_0 10 rfl rfl)
theorem dX3_saying_11 : decode cX3_saying 11 = .ok (.aload_n 0, 1) := dk_42 (dk_at dksX3_saying_0 11 rfl rfl)
theorem dX3_saying_12 : decode cX3_saying 12 = .ok (.invokevirtual 340, 3) := dk_182 1 84 (dk_at dksX3_saying_0 12 rfl rfl)
theorem dX3_saying_15 : decode cX3_saying 15 = .ok (.aload_n 0, 1) := dk_42 (dk_at dksX3_saying_0 15 rfl rfl)
theorem dX3_saying_16 : decode cX3_saying 16 = .ok (.iconst 0, 1) := dk_3 (dk_at dksX3_saying_0 16 rfl rfl)
theorem dX3_saying_17 : decode cX3_saying 17 = .ok (.putfield 362, 3) := dk_181 1 106 (dk_at dksX3_saying_0 17 rfl rfl)
theorem dX3_saying_20 : decode cX3_saying 20 = .ok (.aload_n 0, 1) := dk_42 (dk_at dksX3_saying_0 20 rfl rfl)
theorem dX3_saying_21 : decode cX3_saying 21 = .ok (.iconst 0, 1) := dk_3 (dk_at dksX3_saying_0 21 rfl rfl)
theorem dX3_saying_22 : decode cX3_saying 22 = .ok (.putfield 359, 3) := dk_181 1 103 (dk_at dksX3_saying_1 0 rfl rfl)
theorem dX3_saying_25 : decode cX3_saying 25 = .ok (.aload_n 0, 1) := dk_42 (dk_at dksX3_saying_1 3 rfl rfl)
theorem dX3_saying_26 : decode cX3_saying 26 = .ok (.iconst 0, 1) := dk_3 (dk_at dksX3_saying_1 4 rfl rfl)
theorem dX3_saying_27 : decode cX3_saying 27 = .ok (.putfield 396, 3) := dk_181 1 140 (dk_at dksX3_saying_1 5 rfl rfl)
theorem dX3_saying_30 : decode cX3_saying 30 = .ok (.aload_n 0, 1) := dk_42 (dk_at dksX3_saying_1 8 rfl rfl)
theorem dX3_saying_31 : decode cX3_saying 31 = .ok (.invokevirtual 365, 3) := dk_182 1 109 (dk_at dksX3_saying_1 9 rfl rfl)
theorem dX3_saying_34 : decode cX3_saying 34 = .ok (.iconst 1, 1) := dk_4 (dk_at dksX3_saying_1 12 rfl rfl)
theorem dX3_saying_35 : decode cX3_saying 35 = .ok (.istore_n 1, 1) := dk_60 (dk_at dksX3_saying_1 13 rfl rfl)
theorem dX3_saying_36 : decode cX3_saying 36 = .ok (.aload_n 0, 1) := dk_42 (dk_at dksX3_saying_1 14 rfl rfl)
theorem dX3_saying_37 : decode cX3_saying 37 = .ok (.invokevirtual 240, 3) := dk_182 0 240 (dk_at dksX3_saying_1 15 rfl rfl)
theorem dX3_saying_40 : decode cX3_saying 40 = .ok (.aload_n 0, 1) := dk_42 (dk_at dksX3_saying_1 18 rfl rfl)
theorem dX3_saying_41 : decode cX3_saying 41 = .ok (.getfield 218, 3) := dk_180 0 218 (dk_at dksX3_saying_1 19 rfl rfl)
theorem dX3_saying_44 : decode cX3_saying 44 = .ok (.ifCond .ne 57, 3) := dk_154 0 57 (dk_at dksX3_saying_2 0 rfl rfl)
theorem dX3_saying_47 : decode cX3_saying 47 = .ok (.iload_n 1, 1) := dk_27 (dk_at dksX3_saying_2 3 rfl rfl)
theorem dX3_saying_48 : decode cX3_saying 48 = .ok (.ifCond .ne 21, 3) := dk_154 0 21 (dk_at dksX3_saying_2 4 rfl rfl)
theorem dX3_saying_51 : decode cX3_saying 51 = .ok (.aload_n 0, 1) := dk_42 (dk_at dksX3_saying_2 7 rfl rfl)
theorem dX3_saying_52 : decode cX3_saying 52 = .ok (.getfield 362, 3) := dk_180 1 106 (dk_at dksX3_saying_2 8 rfl rfl)
theorem dX3_saying_55 : decode cX3_saying 55 = .ok (.ifCond .gt 14, 3) := dk_157 0 14 (dk_at dksX3_saying_2 11 rfl rfl)
theorem dX3_saying_58 : decode cX3_saying 58 = .ok (.aload_n 0, 1) := dk_42 (dk_at dksX3_saying_2 14 rfl rfl)
theorem dX3_saying_59 : decode cX3_saying 59 = .ok (.getfield 221, 3) := dk_180 0 221 (dk_at dksX3_saying_2 15 rfl rfl)
theorem dX3_saying_62 : decode cX3_saying 62 = .ok (.aload_n 0, 1) := dk_42 (dk_at dksX3_saying_2 18 rfl rfl)
theorem dX3_saying_63 : decode cX3_saying 63 = .ok (.getfield 194, 3) := dk_180 0 194 (dk_at dksX3_saying_2 19 rfl rfl)
theorem dX3_saying_66 : decode cX3_saying 66 = .ok (.if_icmp .ge 35, 3) := dk_162 0 35 (dk_at dksX3_saying_3 0 rfl rfl)
theorem dX3_saying_69 : decode cX3_saying 69 = .ok (.iload_n 1, 1) := dk_27 (dk_at dksX3_saying_3 3 rfl rfl)
theorem dX3_saying_70 : decode cX3_saying 70 = .ok (.ifCond .eq 19, 3) := dk_153 0 19 (dk_at dksX3_saying_3 4 rfl rfl)
theorem dX3_saying_73 : decode cX3_saying 73 = .ok (.aload_n 0, 1) := dk_42 (dk_at dksX3_saying_3 7 rfl rfl)
theorem dX3_saying_74 : decode cX3_saying 74 = .ok (.invokevirtual 411, 3) := dk_182 1 155 (dk_at dksX3_saying_3 8 rfl rfl)
theorem dX3_saying_77 : decode cX3_saying 77 = .ok (.ifCond .ne 7, 3) := dk_154 0 7 (dk_at dksX3_saying_3 11 rfl rfl)
theorem dX3_saying_80 : decode cX3_saying 80 = .ok (.iconst 1, 1) := dk_4 (dk_at dksX3_saying_3 14 rfl rfl)
theorem dX3_saying_81 : decode cX3_saying 81 = .ok (.goto 4, 3) := dk_167 0 4 (dk_at dksX3_saying_3 15 rfl rfl)
theorem dX3_saying_84 : decode cX3_saying 84 = .ok (.iconst 0, 1) := dk_3 (dk_at dksX3_saying_3 18 rfl rfl)
theorem dX3_saying_85 : decode cX3_saying 85 = .ok (.istore_n 1, 1) := dk_60 (dk_at dksX3_saying_3 19 rfl rfl)
theorem dX3_saying_86 : decode cX3_saying 86 = .ok (.goto 8, 3) := dk_167 0 8 (dk_at dksX3_saying_3 20 rfl rfl)
theorem dX3_saying_89 : decode cX3_saying 89 = .ok (.aload_n 0, 1) := dk_42 (dk_at dksX3_saying_3 23 rfl rfl)
theorem dX3_saying_90 : decode cX3_saying 90 = .ok (.invokevirtual 414, 3) := dk_182 1 158 (dk_at dksX3_saying_4 0 rfl rfl)
theorem dX3_saying_93 : decode cX3_saying 93 = .ok (.istore_n 1, 1) := dk_60 (dk_at dksX3_saying_4 3 rfl rfl)
theorem dX3_saying_94 : decode cX3_saying 94 = .ok (.aload_n 0, 1) := dk_42 (dk_at dksX3_saying_4 4 rfl rfl)
theorem dX3_saying_95 : decode cX3_saying 95 = .ok (.invokevirtual 240, 3) := dk_182 0 240 (dk_at dksX3_saying_4 5 rfl rfl)
theorem dX3_saying_98 : decode cX3_saying 98 = .ok (.goto (-58), 3) := dk_167 255 198 (dk_at dksX3_saying_4 8 rfl rfl)
theorem dX3_saying_101 : decode cX3_saying 101 = .ok (.aload_n 0, 1) := dk_42 (dk_at dksX3_saying_4 11 rfl rfl)
theorem dX3_saying_102 : decode cX3_saying 102 = .ok (.iconst 0, 1) := dk_3 (dk_at dksX3_saying_4 12 rfl rfl)
theorem dX3_saying_103 : decode cX3_saying 103 = .ok (.putfield 194, 3) := dk_181 0 194 (dk_at dksX3_saying_4 13 rfl rfl)
theorem dX3_saying_106 : decode cX3_saying 106 = .ok (.aload_n 0, 1) := dk_42 (dk_at dksX3_saying_4 16 rfl rfl)
theorem dX3_saying_107 : decode cX3_saying 107 = .ok (.getfield 218, 3) := dk_180 0 218 (dk_at dksX3_saying_4 17 rfl rfl)
theorem dX3_saying_110 : decode cX3_saying 110 = .ok (.ifCond .le 11, 3) := dk_158 0 11 (dk_at dksX3_saying_4 20 rfl rfl)
theorem dX3_saying_113 : decode cX3_saying 113 = .ok (.bipush (-2), 2) := dk_16 254 (dk_at dksX3_saying_5 0 rfl rfl)
theorem dX3_saying_115 : decode cX3_saying 115 = .ok (.aload_n 0, 1) := dk_42 (dk_at dksX3_saying_5 2 rfl rfl)
theorem dX3_saying_116 : decode cX3_saying 116 = .ok (.getfield 218, 3) := dk_180 0 218 (dk_at dksX3_saying_5 3 rfl rfl)
theorem dX3_saying_119 : decode cX3_saying 119 = .ok (.isub, 1) := dk_100 (dk_at dksX3_saying_5 6 rfl rfl)
theorem dX3_saying_120 : decode cX3_saying 120 = .ok (.ireturn, 1) := dk_172 (dk_at dksX3_saying_5 7 rfl rfl)
theorem dX3_saying_121 : decode cX3_saying 121 = .ok (.aload_n 0, 1) := dk_42 (dk_at dksX3_saying_5 8 rfl rfl)
theorem dX3_saying_122 : decode cX3_saying 122 = .ok (.invokevirtual 405, 3) := dk_182 1 149 (dk_at dksX3_saying_5 9 rfl rfl)
theorem dX3_saying_125 : decode cX3_saying 125 = .ok (.iconst 0, 1) := dk_3 (dk_at dksX3_saying_5 12 rfl rfl)
theorem dX3_saying_126 : decode cX3_saying 126 = .ok (.istore_n 2, 1) := dk_61 (dk_at dksX3_saying_5 13 rfl rfl)
theorem dX3_saying_127 : decode cX3_saying 127 = .ok (.iload_n 2, 1) := dk_28 (dk_at dksX3_saying_5 14 rfl rfl)
theorem dX3_saying_128 : decode cX3_saying 128 = .ok (.bipush 8, 2) := dk_16 8 (dk_at dksX3_saying_5 15 rfl rfl)
theorem dX3_saying_130 : decode cX3_saying 130 = .ok (.if_icmp .ge 29, 3) := dk_162 0 29 (dk_at dksX3_saying_5 17 rfl rfl)
theorem dX3_saying_133 : decode cX3_saying 133 = .ok (.aload_n 0, 1) := dk_42 (dk_at dksX3_saying_5 20 rfl rfl)
theorem dX3_saying_134 : decode cX3_saying 134 = .ok (.getfield 117, 3) := dk_180 0 117 (dk_at dksX3_saying_5 21 rfl rfl)
theorem dX3_saying_137 : decode cX3_saying 137 = .ok (.bipush 8, 2) := dk_16 8 (dk_at dksX3_saying_6 0 rfl rfl)
theorem dX3_saying_139 : decode cX3_saying 139 = .ok (.aload_n 0, 1) := dk_42 (dk_at dksX3_saying_6 2 rfl rfl)
theorem dX3_saying_140 : decode cX3_saying 140 = .ok (.getfield 183, 3) := dk_180 0 183 (dk_at dksX3_saying_6 3 rfl rfl)
theorem dX3_saying_143 : decode cX3_saying 143 = .ok (.imul, 1) := dk_104 (dk_at dksX3_saying_6 6 rfl rfl)
theorem dX3_saying_144 : decode cX3_saying 144 = .ok (.iload_n 2, 1) := dk_28 (dk_at dksX3_saying_6 7 rfl rfl)
theorem dX3_saying_145 : decode cX3_saying 145 = .ok (.iadd, 1) := dk_96 (dk_at dksX3_saying_6 8 rfl rfl)
theorem dX3_saying_146 : decode cX3_saying 146 = .ok (.aload_n 0, 1) := dk_42 (dk_at dksX3_saying_6 9 rfl rfl)
theorem dX3_saying_147 : decode cX3_saying 147 = .ok (.getfield 120, 3) := dk_180 0 120 (dk_at dksX3_saying_6 10 rfl rfl)
theorem dX3_saying_150 : decode cX3_saying 150 = .ok (.iload_n 2, 1) := dk_28 (dk_at dksX3_saying_6 13 rfl rfl)
theorem dX3_saying_151 : decode cX3_saying 151 = .ok (.iaload, 1) := dk_46 (dk_at dksX3_saying_6 14 rfl rfl)
theorem dX3_saying_152 : decode cX3_saying 152 = .ok (.iastore, 1) := dk_79 (dk_at dksX3_saying_6 15 rfl rfl)
theorem dX3_saying_153 : decode cX3_saying 153 = .ok (.iinc 2 1, 3) := dk_132 2 1 (dk_at dksX3_saying_6 16 rfl rfl)
theorem dX3_saying_156 : decode cX3_saying 156 = .ok (.goto (-29), 3) := dk_167 255 227 (dk_at dksX3_saying_6 19 rfl rfl)
theorem dX3_saying_159 : decode cX3_saying 159 = .ok (.aload_n 0, 1) := dk_42 (dk_at dksX3_saying_6 22 rfl rfl)
theorem dX3_saying_160 : decode cX3_saying 160 = .ok (.dup, 1) := dk_89 (dk_at dksX3_saying_6 23 rfl rfl)
theorem dX3_saying_161 : decode cX3_saying 161 = .ok (.getfield 183, 3) := dk_180 0 183 (dk_at dksX3_saying_7 0 rfl rfl)
theorem dX3_saying_164 : decode cX3_saying 164 = .ok (.iconst 1, 1) := dk_4 (dk_at dksX3_saying_7 3 rfl rfl)
theorem dX3_saying_165 : decode cX3_saying 165 = .ok (.iadd, 1) := dk_96 (dk_at dksX3_saying_7 4 rfl rfl)
theorem dX3_saying_166 : decode cX3_saying 166 = .ok (.putfield 183, 3) := dk_181 0 183 (dk_at dksX3_saying_7 5 rfl rfl)
theorem dX3_saying_169 : decode cX3_saying 169 = .ok (.aload_n 0, 1) := dk_42 (dk_at dksX3_saying_7 8 rfl rfl)
theorem dX3_saying_170 : decode cX3_saying 170 = .ok (.getfield 183, 3) := dk_180 0 183 (dk_at dksX3_saying_7 9 rfl rfl)
theorem dX3_saying_173 : decode cX3_saying 173 = .ok (.iconst 1, 1) := dk_4 (dk_at dksX3_saying_7 12 rfl rfl)
theorem dX3_saying_174 : decode cX3_saying 174 = .ok (.isub, 1) := dk_100 (dk_at dksX3_saying_7 13 rfl rfl)
theorem dX3_saying_175 : decode cX3_saying 175 = .ok (.ireturn, 1) := dk_172 (dk_at dksX3_saying_7 14 rfl rfl)
abbrev cX3_beginsLevel : ByteArray := prog_21_method_47_code
def yX3_beginsLevel : MethodName := ⟨RX3, "beginsLevel", "()V"⟩
def dkwX3_beginsLevel_1 : List UInt8 := [180, 0, 123, 16, 8, 42, 180, 1, 103, 104, 27, 96, 2, 79, 132, 1, 1, 167, 255, 217, 177]
abbrev dktX3_beginsLevel_1 : List UInt8 := dkwX3_beginsLevel_1 ++ []
def dkwX3_beginsLevel_0 : List UInt8 := [3, 60, 27, 16, 8, 162, 0, 39, 42, 180, 0, 120, 16, 8, 42, 180, 1, 103, 104, 27, 96, 3, 79, 42]
abbrev dktX3_beginsLevel_0 : List UInt8 := dkwX3_beginsLevel_0 ++ dktX3_beginsLevel_1
theorem dksX3_beginsLevel_0 : cX3_beginsLevel.data.toList.drop 0 = dktX3_beginsLevel_0 := by decide +kernel
theorem dksX3_beginsLevel_1 : cX3_beginsLevel.data.toList.drop 24 = dktX3_beginsLevel_1 := dk_seg dksX3_beginsLevel_0 24 rfl rfl
theorem dX3_beginsLevel_0 : decode cX3_beginsLevel 0 = .ok (.iconst 0, 1) := dk_3 (dk_at dksX3_beginsLevel_0 0 rfl rfl)
theorem dX3_beginsLevel_1 : decode cX3_beginsLevel 1 = .ok (.istore_n 1, 1) := dk_60 (dk_at dksX3_beginsLevel_0 1 rfl rfl)
theorem dX3_beginsLevel_2 : decode cX3_beginsLevel 2 = .ok (.iload_n 1, 1) := dk_27 (dk_at dksX3_beginsLevel_0 2 rfl rfl)
theorem dX3_beginsLevel_3 : decode cX3_beginsLevel 3 = .ok (.bipush 8, 2) := dk_16 8 (dk_at dksX3_beginsLevel_0 3 rfl rfl)
theorem dX3_beginsLevel_5 : decode cX3_beginsLevel 5 = .ok (.if_icmp .ge 39, 3) := dk_162 0 39 (dk_at dksX3_beginsLevel_0 5 rfl rfl)
theorem dX3_beginsLevel_8 : decode cX3_beginsLevel 8 = .ok (.aload_n 0, 1) := dk_42 (dk_at dksX3_beginsLevel_0 8 rfl rfl)
theorem dX3_beginsLevel_9 : decode cX3_beginsLevel 9 = .ok (.getfield 120, 3) := dk_180 0 120 (dk_at dksX3_beginsLevel_0 9 rfl rfl)
theorem dX3_beginsLevel_12 : decode cX3_beginsLevel 12 = .ok (.bipush 8, 2) := dk_16 8 (dk_at dksX3_beginsLevel_0 12 rfl rfl)
theorem dX3_beginsLevel_14 : decode cX3_beginsLevel 14 = .ok (.aload_n 0, 1) := dk_42 (dk_at dksX3_beginsLevel_0 14 rfl rfl)
theorem dX3_beginsLevel_15 : decode cX3_beginsLevel 15 = .ok (.getfield 359, 3) := dk_180 1 103 (dk_at dksX3_beginsLevel_0 15 rfl rfl)
theorem dX3_beginsLevel_18 : decode cX3_beginsLevel 18 = .ok (.imul, 1) := dk_104 (dk_at dksX3_beginsLevel_0 18 rfl rfl)
theorem dX3_beginsLevel_19 : decode cX3_beginsLevel 19 = .ok (.iload_n 1, 1) := dk_27 (dk_at dksX3_beginsLevel_0 19 rfl rfl)
theorem dX3_beginsLevel_20 : decode cX3_beginsLevel 20 = .ok (.iadd, 1) := dk_96 (dk_at dksX3_beginsLevel_0 20 rfl rfl)
theorem dX3_beginsLevel_21 : decode cX3_beginsLevel 21 = .ok (.iconst 0, 1) := dk_3 (dk_at dksX3_beginsLevel_0 21 rfl rfl)
theorem dX3_beginsLevel_22 : decode cX3_beginsLevel 22 = .ok (.iastore, 1) := dk_79 (dk_at dksX3_beginsLevel_0 22 rfl rfl)
theorem dX3_beginsLevel_23 : decode cX3_beginsLevel 23 = .ok (.aload_n 0, 1) := dk_42 (dk_at dksX3_beginsLevel_0 23 rfl rfl)
theorem dX3_beginsLevel_24 : decode cX3_beginsLevel 24 = .ok (.getfield 123, 3) := dk_180 0 123 (dk_at dksX3_beginsLevel_1 0 rfl rfl)
theorem dX3_beginsLevel_27 : decode cX3_beginsLevel 27 = .ok (.bipush 8, 2) := dk_16 8 (dk_at dksX3_beginsLevel_1 3 rfl rfl)
theorem dX3_beginsLevel_29 : decode cX3_beginsLevel 29 = .ok (.aload_n 0, 1) := dk_42 (dk_at dksX3_beginsLevel_1 5 rfl rfl)
theorem dX3_beginsLevel_30 : decode cX3_beginsLevel 30 = .ok (.getfield 359, 3) := dk_180 1 103 (dk_at dksX3_beginsLevel_1 6 rfl rfl)
theorem dX3_beginsLevel_33 : decode cX3_beginsLevel 33 = .ok (.imul, 1) := dk_104 (dk_at dksX3_beginsLevel_1 9 rfl rfl)
theorem dX3_beginsLevel_34 : decode cX3_beginsLevel 34 = .ok (.iload_n 1, 1) := dk_27 (dk_at dksX3_beginsLevel_1 10 rfl rfl)
theorem dX3_beginsLevel_35 : decode cX3_beginsLevel 35 = .ok (.iadd, 1) := dk_96 (dk_at dksX3_beginsLevel_1 11 rfl rfl)
theorem dX3_beginsLevel_36 : decode cX3_beginsLevel 36 = .ok (.iconst (-1), 1) := dk_2 (dk_at dksX3_beginsLevel_1 12 rfl rfl)
theorem dX3_beginsLevel_37 : decode cX3_beginsLevel 37 = .ok (.iastore, 1) := dk_79 (dk_at dksX3_beginsLevel_1 13 rfl rfl)
theorem dX3_beginsLevel_38 : decode cX3_beginsLevel 38 = .ok (.iinc 1 1, 3) := dk_132 1 1 (dk_at dksX3_beginsLevel_1 14 rfl rfl)
theorem dX3_beginsLevel_41 : decode cX3_beginsLevel 41 = .ok (.goto (-39), 3) := dk_167 255 217 (dk_at dksX3_beginsLevel_1 17 rfl rfl)
theorem dX3_beginsLevel_44 : decode cX3_beginsLevel 44 = .ok (.return_, 1) := dk_177 (dk_at dksX3_beginsLevel_1 20 rfl rfl)
abbrev cX3_readsOperand : ByteArray := prog_21_method_54_code
def yX3_readsOperand : MethodName := ⟨RX3, "readsOperand", "()Z"⟩
def dkwX3_readsOperand_4 : List UInt8 := [42, 89, 180, 0, 221, 4, 96, 181, 0, 221, 42, 27, 182, 1, 143, 42, 182, 1, 146, 4, 172]
abbrev dktX3_readsOperand_4 : List UInt8 := dkwX3_readsOperand_4 ++ []
def dkwX3_readsOperand_3 : List UInt8 := [3, 167, 0, 4, 6, 42, 180, 0, 221, 182, 1, 0, 3, 172, 42, 89, 180, 1, 140, 4, 96, 181, 1, 140]
abbrev dktX3_readsOperand_3 : List UInt8 := dkwX3_readsOperand_3 ++ dktX3_readsOperand_4
def dkwX3_readsOperand_2 : List UInt8 := [182, 1, 137, 60, 27, 2, 159, 0, 12, 42, 180, 1, 140, 16, 24, 160, 0, 23, 42, 27, 2, 160, 0, 7]
abbrev dktX3_readsOperand_2 : List UInt8 := dkwX3_readsOperand_2 ++ dktX3_readsOperand_3
def dkwX3_readsOperand_1 : List UInt8 := [182, 1, 134, 3, 172, 42, 19, 1, 40, 182, 0, 243, 153, 0, 11, 42, 4, 6, 182, 1, 134, 3, 172, 42]
abbrev dktX3_readsOperand_1 : List UInt8 := dkwX3_readsOperand_1 ++ dktX3_readsOperand_2
def dkwX3_readsOperand_0 : List UInt8 := [42, 180, 0, 221, 42, 180, 0, 194, 162, 0, 20, 42, 182, 0, 224, 16, 91, 160, 0, 11, 42, 3, 4]
abbrev dktX3_readsOperand_0 : List UInt8 := dkwX3_readsOperand_0 ++ dktX3_readsOperand_1
theorem dksX3_readsOperand_0 : cX3_readsOperand.data.toList.drop 0 = dktX3_readsOperand_0 := by decide +kernel
theorem dksX3_readsOperand_1 : cX3_readsOperand.data.toList.drop 23 = dktX3_readsOperand_1 := dk_seg dksX3_readsOperand_0 23 rfl rfl
theorem dksX3_readsOperand_2 : cX3_readsOperand.data.toList.drop 47 = dktX3_readsOperand_2 := dk_seg dksX3_readsOperand_1 24 rfl rfl
theorem dksX3_readsOperand_3 : cX3_readsOperand.data.toList.drop 71 = dktX3_readsOperand_3 := dk_seg dksX3_readsOperand_2 24 rfl rfl
theorem dksX3_readsOperand_4 : cX3_readsOperand.data.toList.drop 95 = dktX3_readsOperand_4 := dk_seg dksX3_readsOperand_3 24 rfl rfl
theorem dX3_readsOperand_0 : decode cX3_readsOperand 0 = .ok (.aload_n 0, 1) := dk_42 (dk_at dksX3_readsOperand_0 0 rfl rfl)
theorem dX3_readsOperand_1 : decode cX3_readsOperand 1 = .ok (.getfield 221, 3) := dk_180 0 221 (dk_at dksX3_readsOperand_0 1 rfl rfl)
theorem dX3_readsOperand_4 : decode cX3_readsOperand 4 = .ok (.aload_n 0, 1) := dk_42 (dk_at dksX3_readsOperand_0 4 rfl rfl)
theorem dX3_readsOperand_5 : decode cX3_readsOperand 5 = .ok (.getfield 194, 3) := dk_180 0 194 (dk_at dksX3_readsOperand_0 5 rfl rfl)
theorem dX3_readsOperand_8 : decode cX3_readsOperand 8 = .ok (.if_icmp .ge 20, 3) := dk_162 0 20 (dk_at dksX3_readsOperand_0 8 rfl rfl)
theorem dX3_readsOperand_11 : decode cX3_readsOperand 11 = .ok (.aload_n 0, 1) := dk_42 (dk_at dksX3_readsOperand_0 11 rfl rfl)
theorem dX3_readsOperand_12 : decode cX3_readsOperand 12 = .ok (.invokevirtual 224, 3) := dk_182 0 224 (dk_at dksX3_readsOperand_0 12 rfl rfl)
theorem dX3_readsOperand_15 : decode cX3_readsOperand 15 = .ok (.bipush 91, 2) := dk_16 91 (dk_at dksX3_readsOperand_0 15 rfl rfl)
theorem dX3_readsOperand_17 : decode cX3_readsOperand 17 = .ok (.if_icmp .ne 11, 3) := dk_160 0 11 (dk_at dksX3_readsOperand_0 17 rfl rfl)
theorem dX3_readsOperand_20 : decode cX3_readsOperand 20 = .ok (.aload_n 0, 1) := dk_42 (dk_at dksX3_readsOperand_0 20 rfl rfl)
theorem dX3_readsOperand_21 : decode cX3_readsOperand 21 = .ok (.iconst 0, 1) := dk_3 (dk_at dksX3_readsOperand_0 21 rfl rfl)
theorem dX3_readsOperand_22 : decode cX3_readsOperand 22 = .ok (.iconst 1, 1) := dk_4 (dk_at dksX3_readsOperand_0 22 rfl rfl)
theorem dX3_readsOperand_23 : decode cX3_readsOperand 23 = .ok (.invokevirtual 390, 3) := dk_182 1 134 (dk_at dksX3_readsOperand_1 0 rfl rfl)
theorem dX3_readsOperand_26 : decode cX3_readsOperand 26 = .ok (.iconst 0, 1) := dk_3 (dk_at dksX3_readsOperand_1 3 rfl rfl)
theorem dX3_readsOperand_27 : decode cX3_readsOperand 27 = .ok (.ireturn, 1) := dk_172 (dk_at dksX3_readsOperand_1 4 rfl rfl)
theorem dX3_readsOperand_28 : decode cX3_readsOperand 28 = .ok (.aload_n 0, 1) := dk_42 (dk_at dksX3_readsOperand_1 5 rfl rfl)
theorem dX3_readsOperand_29 : decode cX3_readsOperand 29 = .ok (.ldc_w 296, 3) := dk_19 1 40 (dk_at dksX3_readsOperand_1 6 rfl rfl)
theorem dX3_readsOperand_32 : decode cX3_readsOperand 32 = .ok (.invokevirtual 243, 3) := dk_182 0 243 (dk_at dksX3_readsOperand_1 9 rfl rfl)
theorem dX3_readsOperand_35 : decode cX3_readsOperand 35 = .ok (.ifCond .eq 11, 3) := dk_153 0 11 (dk_at dksX3_readsOperand_1 12 rfl rfl)
theorem dX3_readsOperand_38 : decode cX3_readsOperand 38 = .ok (.aload_n 0, 1) := dk_42 (dk_at dksX3_readsOperand_1 15 rfl rfl)
theorem dX3_readsOperand_39 : decode cX3_readsOperand 39 = .ok (.iconst 1, 1) := dk_4 (dk_at dksX3_readsOperand_1 16 rfl rfl)
theorem dX3_readsOperand_40 : decode cX3_readsOperand 40 = .ok (.iconst 3, 1) := dk_6 (dk_at dksX3_readsOperand_1 17 rfl rfl)
theorem dX3_readsOperand_41 : decode cX3_readsOperand 41 = .ok (.invokevirtual 390, 3) := dk_182 1 134 (dk_at dksX3_readsOperand_1 18 rfl rfl)
theorem dX3_readsOperand_44 : decode cX3_readsOperand 44 = .ok (.iconst 0, 1) := dk_3 (dk_at dksX3_readsOperand_1 21 rfl rfl)
theorem dX3_readsOperand_45 : decode cX3_readsOperand 45 = .ok (.ireturn, 1) := dk_172 (dk_at dksX3_readsOperand_1 22 rfl rfl)
theorem dX3_readsOperand_46 : decode cX3_readsOperand 46 = .ok (.aload_n 0, 1) := dk_42 (dk_at dksX3_readsOperand_1 23 rfl rfl)
theorem dX3_readsOperand_47 : decode cX3_readsOperand 47 = .ok (.invokevirtual 393, 3) := dk_182 1 137 (dk_at dksX3_readsOperand_2 0 rfl rfl)
theorem dX3_readsOperand_50 : decode cX3_readsOperand 50 = .ok (.istore_n 1, 1) := dk_60 (dk_at dksX3_readsOperand_2 3 rfl rfl)
theorem dX3_readsOperand_51 : decode cX3_readsOperand 51 = .ok (.iload_n 1, 1) := dk_27 (dk_at dksX3_readsOperand_2 4 rfl rfl)
theorem dX3_readsOperand_52 : decode cX3_readsOperand 52 = .ok (.iconst (-1), 1) := dk_2 (dk_at dksX3_readsOperand_2 5 rfl rfl)
theorem dX3_readsOperand_53 : decode cX3_readsOperand 53 = .ok (.if_icmp .eq 12, 3) := dk_159 0 12 (dk_at dksX3_readsOperand_2 6 rfl rfl)
theorem dX3_readsOperand_56 : decode cX3_readsOperand 56 = .ok (.aload_n 0, 1) := dk_42 (dk_at dksX3_readsOperand_2 9 rfl rfl)
theorem dX3_readsOperand_57 : decode cX3_readsOperand 57 = .ok (.getfield 396, 3) := dk_180 1 140 (dk_at dksX3_readsOperand_2 10 rfl rfl)
theorem dX3_readsOperand_60 : decode cX3_readsOperand 60 = .ok (.bipush 24, 2) := dk_16 24 (dk_at dksX3_readsOperand_2 13 rfl rfl)
theorem dX3_readsOperand_62 : decode cX3_readsOperand 62 = .ok (.if_icmp .ne 23, 3) := dk_160 0 23 (dk_at dksX3_readsOperand_2 15 rfl rfl)
theorem dX3_readsOperand_65 : decode cX3_readsOperand 65 = .ok (.aload_n 0, 1) := dk_42 (dk_at dksX3_readsOperand_2 18 rfl rfl)
theorem dX3_readsOperand_66 : decode cX3_readsOperand 66 = .ok (.iload_n 1, 1) := dk_27 (dk_at dksX3_readsOperand_2 19 rfl rfl)
theorem dX3_readsOperand_67 : decode cX3_readsOperand 67 = .ok (.iconst (-1), 1) := dk_2 (dk_at dksX3_readsOperand_2 20 rfl rfl)
theorem dX3_readsOperand_68 : decode cX3_readsOperand 68 = .ok (.if_icmp .ne 7, 3) := dk_160 0 7 (dk_at dksX3_readsOperand_2 21 rfl rfl)
theorem dX3_readsOperand_71 : decode cX3_readsOperand 71 = .ok (.iconst 0, 1) := dk_3 (dk_at dksX3_readsOperand_3 0 rfl rfl)
theorem dX3_readsOperand_72 : decode cX3_readsOperand 72 = .ok (.goto 4, 3) := dk_167 0 4 (dk_at dksX3_readsOperand_3 1 rfl rfl)
theorem dX3_readsOperand_75 : decode cX3_readsOperand 75 = .ok (.iconst 3, 1) := dk_6 (dk_at dksX3_readsOperand_3 4 rfl rfl)
theorem dX3_readsOperand_76 : decode cX3_readsOperand 76 = .ok (.aload_n 0, 1) := dk_42 (dk_at dksX3_readsOperand_3 5 rfl rfl)
theorem dX3_readsOperand_77 : decode cX3_readsOperand 77 = .ok (.getfield 221, 3) := dk_180 0 221 (dk_at dksX3_readsOperand_3 6 rfl rfl)
theorem dX3_readsOperand_80 : decode cX3_readsOperand 80 = .ok (.invokevirtual 256, 3) := dk_182 1 0 (dk_at dksX3_readsOperand_3 9 rfl rfl)
theorem dX3_readsOperand_83 : decode cX3_readsOperand 83 = .ok (.iconst 0, 1) := dk_3 (dk_at dksX3_readsOperand_3 12 rfl rfl)
theorem dX3_readsOperand_84 : decode cX3_readsOperand 84 = .ok (.ireturn, 1) := dk_172 (dk_at dksX3_readsOperand_3 13 rfl rfl)
theorem dX3_readsOperand_85 : decode cX3_readsOperand 85 = .ok (.aload_n 0, 1) := dk_42 (dk_at dksX3_readsOperand_3 14 rfl rfl)
theorem dX3_readsOperand_86 : decode cX3_readsOperand 86 = .ok (.dup, 1) := dk_89 (dk_at dksX3_readsOperand_3 15 rfl rfl)
theorem dX3_readsOperand_87 : decode cX3_readsOperand 87 = .ok (.getfield 396, 3) := dk_180 1 140 (dk_at dksX3_readsOperand_3 16 rfl rfl)
theorem dX3_readsOperand_90 : decode cX3_readsOperand 90 = .ok (.iconst 1, 1) := dk_4 (dk_at dksX3_readsOperand_3 19 rfl rfl)
theorem dX3_readsOperand_91 : decode cX3_readsOperand 91 = .ok (.iadd, 1) := dk_96 (dk_at dksX3_readsOperand_3 20 rfl rfl)
theorem dX3_readsOperand_92 : decode cX3_readsOperand 92 = .ok (.putfield 396, 3) := dk_181 1 140 (dk_at dksX3_readsOperand_3 21 rfl rfl)
theorem dX3_readsOperand_95 : decode cX3_readsOperand 95 = .ok (.aload_n 0, 1) := dk_42 (dk_at dksX3_readsOperand_4 0 rfl rfl)
theorem dX3_readsOperand_96 : decode cX3_readsOperand 96 = .ok (.dup, 1) := dk_89 (dk_at dksX3_readsOperand_4 1 rfl rfl)
theorem dX3_readsOperand_97 : decode cX3_readsOperand 97 = .ok (.getfield 221, 3) := dk_180 0 221 (dk_at dksX3_readsOperand_4 2 rfl rfl)
theorem dX3_readsOperand_100 : decode cX3_readsOperand 100 = .ok (.iconst 1, 1) := dk_4 (dk_at dksX3_readsOperand_4 5 rfl rfl)
theorem dX3_readsOperand_101 : decode cX3_readsOperand 101 = .ok (.iadd, 1) := dk_96 (dk_at dksX3_readsOperand_4 6 rfl rfl)
theorem dX3_readsOperand_102 : decode cX3_readsOperand 102 = .ok (.putfield 221, 3) := dk_181 0 221 (dk_at dksX3_readsOperand_4 7 rfl rfl)
theorem dX3_readsOperand_105 : decode cX3_readsOperand 105 = .ok (.aload_n 0, 1) := dk_42 (dk_at dksX3_readsOperand_4 10 rfl rfl)
theorem dX3_readsOperand_106 : decode cX3_readsOperand 106 = .ok (.iload_n 1, 1) := dk_27 (dk_at dksX3_readsOperand_4 11 rfl rfl)
theorem dX3_readsOperand_107 : decode cX3_readsOperand 107 = .ok (.invokevirtual 399, 3) := dk_182 1 143 (dk_at dksX3_readsOperand_4 12 rfl rfl)
theorem dX3_readsOperand_110 : decode cX3_readsOperand 110 = .ok (.aload_n 0, 1) := dk_42 (dk_at dksX3_readsOperand_4 15 rfl rfl)
theorem dX3_readsOperand_111 : decode cX3_readsOperand 111 = .ok (.invokevirtual 402, 3) := dk_182 1 146 (dk_at dksX3_readsOperand_4 16 rfl rfl)
theorem dX3_readsOperand_114 : decode cX3_readsOperand 114 = .ok (.iconst 1, 1) := dk_4 (dk_at dksX3_readsOperand_4 19 rfl rfl)
theorem dX3_readsOperand_115 : decode cX3_readsOperand 115 = .ok (.ireturn, 1) := dk_172 (dk_at dksX3_readsOperand_4 20 rfl rfl)
abbrev cX3_opensOne : ByteArray := prog_21_method_50_code
def yX3_opensOne : MethodName := ⟨RX3, "opensOne", "(II)V"⟩
def dkwX3_opensOne_2 : List UInt8 := [181, 0, 221, 27, 154, 0, 17, 42, 89, 180, 1, 103, 4, 96, 181, 1, 103, 42, 182, 1, 109, 177]
abbrev dktX3_opensOne_2 : List UInt8 := dkwX3_opensOne_2 ++ []
def dkwX3_opensOne_1 : List UInt8 := [180, 1, 106, 27, 79, 42, 89, 180, 1, 106, 4, 96, 181, 1, 106, 42, 89, 180, 0, 221, 28, 96]
abbrev dktX3_opensOne_1 : List UInt8 := dkwX3_opensOne_1 ++ dktX3_opensOne_2
def dkwX3_opensOne_0 : List UInt8 := [42, 180, 1, 106, 16, 10, 160, 0, 13, 42, 5, 42, 180, 0, 221, 182, 1, 0, 177, 42, 180, 0, 129, 42]
abbrev dktX3_opensOne_0 : List UInt8 := dkwX3_opensOne_0 ++ dktX3_opensOne_1
theorem dksX3_opensOne_0 : cX3_opensOne.data.toList.drop 0 = dktX3_opensOne_0 := by decide +kernel
theorem dksX3_opensOne_1 : cX3_opensOne.data.toList.drop 24 = dktX3_opensOne_1 := dk_seg dksX3_opensOne_0 24 rfl rfl
theorem dksX3_opensOne_2 : cX3_opensOne.data.toList.drop 46 = dktX3_opensOne_2 := dk_seg dksX3_opensOne_1 22 rfl rfl
theorem dX3_opensOne_0 : decode cX3_opensOne 0 = .ok (.aload_n 0, 1) := dk_42 (dk_at dksX3_opensOne_0 0 rfl rfl)
theorem dX3_opensOne_1 : decode cX3_opensOne 1 = .ok (.getfield 362, 3) := dk_180 1 106 (dk_at dksX3_opensOne_0 1 rfl rfl)
theorem dX3_opensOne_4 : decode cX3_opensOne 4 = .ok (.bipush 10, 2) := dk_16 10 (dk_at dksX3_opensOne_0 4 rfl rfl)
theorem dX3_opensOne_6 : decode cX3_opensOne 6 = .ok (.if_icmp .ne 13, 3) := dk_160 0 13 (dk_at dksX3_opensOne_0 6 rfl rfl)
theorem dX3_opensOne_9 : decode cX3_opensOne 9 = .ok (.aload_n 0, 1) := dk_42 (dk_at dksX3_opensOne_0 9 rfl rfl)
theorem dX3_opensOne_10 : decode cX3_opensOne 10 = .ok (.iconst 2, 1) := dk_5 (dk_at dksX3_opensOne_0 10 rfl rfl)
theorem dX3_opensOne_11 : decode cX3_opensOne 11 = .ok (.aload_n 0, 1) := dk_42 (dk_at dksX3_opensOne_0 11 rfl rfl)
theorem dX3_opensOne_12 : decode cX3_opensOne 12 = .ok (.getfield 221, 3) := dk_180 0 221 (dk_at dksX3_opensOne_0 12 rfl rfl)
theorem dX3_opensOne_15 : decode cX3_opensOne 15 = .ok (.invokevirtual 256, 3) := dk_182 1 0 (dk_at dksX3_opensOne_0 15 rfl rfl)
theorem dX3_opensOne_18 : decode cX3_opensOne 18 = .ok (.return_, 1) := dk_177 (dk_at dksX3_opensOne_0 18 rfl rfl)
theorem dX3_opensOne_19 : decode cX3_opensOne 19 = .ok (.aload_n 0, 1) := dk_42 (dk_at dksX3_opensOne_0 19 rfl rfl)
theorem dX3_opensOne_20 : decode cX3_opensOne 20 = .ok (.getfield 129, 3) := dk_180 0 129 (dk_at dksX3_opensOne_0 20 rfl rfl)
theorem dX3_opensOne_23 : decode cX3_opensOne 23 = .ok (.aload_n 0, 1) := dk_42 (dk_at dksX3_opensOne_0 23 rfl rfl)
theorem dX3_opensOne_24 : decode cX3_opensOne 24 = .ok (.getfield 362, 3) := dk_180 1 106 (dk_at dksX3_opensOne_1 0 rfl rfl)
theorem dX3_opensOne_27 : decode cX3_opensOne 27 = .ok (.iload_n 1, 1) := dk_27 (dk_at dksX3_opensOne_1 3 rfl rfl)
theorem dX3_opensOne_28 : decode cX3_opensOne 28 = .ok (.iastore, 1) := dk_79 (dk_at dksX3_opensOne_1 4 rfl rfl)
theorem dX3_opensOne_29 : decode cX3_opensOne 29 = .ok (.aload_n 0, 1) := dk_42 (dk_at dksX3_opensOne_1 5 rfl rfl)
theorem dX3_opensOne_30 : decode cX3_opensOne 30 = .ok (.dup, 1) := dk_89 (dk_at dksX3_opensOne_1 6 rfl rfl)
theorem dX3_opensOne_31 : decode cX3_opensOne 31 = .ok (.getfield 362, 3) := dk_180 1 106 (dk_at dksX3_opensOne_1 7 rfl rfl)
theorem dX3_opensOne_34 : decode cX3_opensOne 34 = .ok (.iconst 1, 1) := dk_4 (dk_at dksX3_opensOne_1 10 rfl rfl)
theorem dX3_opensOne_35 : decode cX3_opensOne 35 = .ok (.iadd, 1) := dk_96 (dk_at dksX3_opensOne_1 11 rfl rfl)
theorem dX3_opensOne_36 : decode cX3_opensOne 36 = .ok (.putfield 362, 3) := dk_181 1 106 (dk_at dksX3_opensOne_1 12 rfl rfl)
theorem dX3_opensOne_39 : decode cX3_opensOne 39 = .ok (.aload_n 0, 1) := dk_42 (dk_at dksX3_opensOne_1 15 rfl rfl)
theorem dX3_opensOne_40 : decode cX3_opensOne 40 = .ok (.dup, 1) := dk_89 (dk_at dksX3_opensOne_1 16 rfl rfl)
theorem dX3_opensOne_41 : decode cX3_opensOne 41 = .ok (.getfield 221, 3) := dk_180 0 221 (dk_at dksX3_opensOne_1 17 rfl rfl)
theorem dX3_opensOne_44 : decode cX3_opensOne 44 = .ok (.iload_n 2, 1) := dk_28 (dk_at dksX3_opensOne_1 20 rfl rfl)
theorem dX3_opensOne_45 : decode cX3_opensOne 45 = .ok (.iadd, 1) := dk_96 (dk_at dksX3_opensOne_1 21 rfl rfl)
theorem dX3_opensOne_46 : decode cX3_opensOne 46 = .ok (.putfield 221, 3) := dk_181 0 221 (dk_at dksX3_opensOne_2 0 rfl rfl)
theorem dX3_opensOne_49 : decode cX3_opensOne 49 = .ok (.iload_n 1, 1) := dk_27 (dk_at dksX3_opensOne_2 3 rfl rfl)
theorem dX3_opensOne_50 : decode cX3_opensOne 50 = .ok (.ifCond .ne 17, 3) := dk_154 0 17 (dk_at dksX3_opensOne_2 4 rfl rfl)
theorem dX3_opensOne_53 : decode cX3_opensOne 53 = .ok (.aload_n 0, 1) := dk_42 (dk_at dksX3_opensOne_2 7 rfl rfl)
theorem dX3_opensOne_54 : decode cX3_opensOne 54 = .ok (.dup, 1) := dk_89 (dk_at dksX3_opensOne_2 8 rfl rfl)
theorem dX3_opensOne_55 : decode cX3_opensOne 55 = .ok (.getfield 359, 3) := dk_180 1 103 (dk_at dksX3_opensOne_2 9 rfl rfl)
theorem dX3_opensOne_58 : decode cX3_opensOne 58 = .ok (.iconst 1, 1) := dk_4 (dk_at dksX3_opensOne_2 12 rfl rfl)
theorem dX3_opensOne_59 : decode cX3_opensOne 59 = .ok (.iadd, 1) := dk_96 (dk_at dksX3_opensOne_2 13 rfl rfl)
theorem dX3_opensOne_60 : decode cX3_opensOne 60 = .ok (.putfield 359, 3) := dk_181 1 103 (dk_at dksX3_opensOne_2 14 rfl rfl)
theorem dX3_opensOne_63 : decode cX3_opensOne 63 = .ok (.aload_n 0, 1) := dk_42 (dk_at dksX3_opensOne_2 17 rfl rfl)
theorem dX3_opensOne_64 : decode cX3_opensOne 64 = .ok (.invokevirtual 365, 3) := dk_182 1 109 (dk_at dksX3_opensOne_2 18 rfl rfl)
theorem dX3_opensOne_67 : decode cX3_opensOne 67 = .ok (.return_, 1) := dk_177 (dk_at dksX3_opensOne_2 21 rfl rfl)
abbrev cX3_letterHere : ByteArray := prog_21_method_52_code
def yX3_letterHere : MethodName := ⟨RX3, "letterHere", "()I"⟩
def dkwX3_letterHere_1 : List UInt8 := [167, 255, 234, 2, 172]
abbrev dktX3_letterHere_1 : List UInt8 := dkwX3_letterHere_1 ++ []
def dkwX3_letterHere_0 : List UInt8 := [3, 60, 27, 16, 8, 162, 0, 22, 42, 27, 184, 1, 115, 182, 0, 243, 153, 0, 5, 27, 172, 132, 1, 1]
abbrev dktX3_letterHere_0 : List UInt8 := dkwX3_letterHere_0 ++ dktX3_letterHere_1
theorem dksX3_letterHere_0 : cX3_letterHere.data.toList.drop 0 = dktX3_letterHere_0 := by decide +kernel
theorem dksX3_letterHere_1 : cX3_letterHere.data.toList.drop 24 = dktX3_letterHere_1 := dk_seg dksX3_letterHere_0 24 rfl rfl
theorem dX3_letterHere_0 : decode cX3_letterHere 0 = .ok (.iconst 0, 1) := dk_3 (dk_at dksX3_letterHere_0 0 rfl rfl)
theorem dX3_letterHere_1 : decode cX3_letterHere 1 = .ok (.istore_n 1, 1) := dk_60 (dk_at dksX3_letterHere_0 1 rfl rfl)
theorem dX3_letterHere_2 : decode cX3_letterHere 2 = .ok (.iload_n 1, 1) := dk_27 (dk_at dksX3_letterHere_0 2 rfl rfl)
theorem dX3_letterHere_3 : decode cX3_letterHere 3 = .ok (.bipush 8, 2) := dk_16 8 (dk_at dksX3_letterHere_0 3 rfl rfl)
theorem dX3_letterHere_5 : decode cX3_letterHere 5 = .ok (.if_icmp .ge 22, 3) := dk_162 0 22 (dk_at dksX3_letterHere_0 5 rfl rfl)
theorem dX3_letterHere_8 : decode cX3_letterHere 8 = .ok (.aload_n 0, 1) := dk_42 (dk_at dksX3_letterHere_0 8 rfl rfl)
theorem dX3_letterHere_9 : decode cX3_letterHere 9 = .ok (.iload_n 1, 1) := dk_27 (dk_at dksX3_letterHere_0 9 rfl rfl)
theorem dX3_letterHere_10 : decode cX3_letterHere 10 = .ok (.invokestatic 371, 3) := dk_184 1 115 (dk_at dksX3_letterHere_0 10 rfl rfl)
theorem dX3_letterHere_13 : decode cX3_letterHere 13 = .ok (.invokevirtual 243, 3) := dk_182 0 243 (dk_at dksX3_letterHere_0 13 rfl rfl)
theorem dX3_letterHere_16 : decode cX3_letterHere 16 = .ok (.ifCond .eq 5, 3) := dk_153 0 5 (dk_at dksX3_letterHere_0 16 rfl rfl)
theorem dX3_letterHere_19 : decode cX3_letterHere 19 = .ok (.iload_n 1, 1) := dk_27 (dk_at dksX3_letterHere_0 19 rfl rfl)
theorem dX3_letterHere_20 : decode cX3_letterHere 20 = .ok (.ireturn, 1) := dk_172 (dk_at dksX3_letterHere_0 20 rfl rfl)
theorem dX3_letterHere_21 : decode cX3_letterHere 21 = .ok (.iinc 1 1, 3) := dk_132 1 1 (dk_at dksX3_letterHere_0 21 rfl rfl)
theorem dX3_letterHere_24 : decode cX3_letterHere 24 = .ok (.goto (-22), 3) := dk_167 255 234 (dk_at dksX3_letterHere_1 0 rfl rfl)
theorem dX3_letterHere_27 : decode cX3_letterHere 27 = .ok (.iconst (-1), 1) := dk_2 (dk_at dksX3_letterHere_1 3 rfl rfl)
theorem dX3_letterHere_28 : decode cX3_letterHere 28 = .ok (.ireturn, 1) := dk_172 (dk_at dksX3_letterHere_1 4 rfl rfl)
abbrev cX3_letterOf : ByteArray := prog_21_method_53_code
def yX3_letterOf : MethodName := ⟨RX3, "letterOf", "(I)Ljava/lang/String;"⟩
def dkwX3_letterOf_3 : List UInt8 := [19, 1, 130, 176, 19, 1, 132, 176]
abbrev dktX3_letterOf_3 : List UInt8 := dkwX3_letterOf_3 ++ []
def dkwX3_letterOf_2 : List UInt8 := [19, 1, 118, 176, 19, 1, 120, 176, 19, 1, 122, 176, 19, 1, 124, 176, 19, 1, 126, 176, 19, 1, 128, 176]
abbrev dktX3_letterOf_2 : List UInt8 := dkwX3_letterOf_2 ++ dktX3_letterOf_3
def dkwX3_letterOf_1 : List UInt8 := [170, 0, 0, 0, 0, 0, 71, 0, 0, 0, 0, 0, 0, 0, 6, 0, 0, 0, 43, 0, 0, 0, 47, 0, 0, 0, 51, 0, 0, 0, 55, 0, 0, 0, 59, 0, 0, 0, 63, 0, 0, 0, 67]
abbrev dktX3_letterOf_1 : List UInt8 := dkwX3_letterOf_1 ++ dktX3_letterOf_2
def dkwX3_letterOf_0 : List UInt8 := [26]
abbrev dktX3_letterOf_0 : List UInt8 := dkwX3_letterOf_0 ++ dktX3_letterOf_1
theorem dksX3_letterOf_0 : cX3_letterOf.data.toList.drop 0 = dktX3_letterOf_0 := by decide +kernel
theorem dksX3_letterOf_1 : cX3_letterOf.data.toList.drop 1 = dktX3_letterOf_1 := dk_seg dksX3_letterOf_0 1 rfl rfl
theorem dksX3_letterOf_2 : cX3_letterOf.data.toList.drop 44 = dktX3_letterOf_2 := dk_seg dksX3_letterOf_1 43 rfl rfl
theorem dksX3_letterOf_3 : cX3_letterOf.data.toList.drop 68 = dktX3_letterOf_3 := dk_seg dksX3_letterOf_2 24 rfl rfl
theorem dX3_letterOf_0 : decode cX3_letterOf 0 = .ok (.iload_n 0, 1) := dk_26 (dk_at dksX3_letterOf_0 0 rfl rfl)
theorem dX3_letterOf_1 : decode cX3_letterOf 1 = .ok (.tableswitch 71 0 6 #[43, 47, 51, 55, 59, 63, 67], 43) := by decide +kernel
theorem dX3_letterOf_44 : decode cX3_letterOf 44 = .ok (.ldc_w 374, 3) := dk_19 1 118 (dk_at dksX3_letterOf_2 0 rfl rfl)
theorem dX3_letterOf_47 : decode cX3_letterOf 47 = .ok (.areturn, 1) := dk_176 (dk_at dksX3_letterOf_2 3 rfl rfl)
theorem dX3_letterOf_48 : decode cX3_letterOf 48 = .ok (.ldc_w 376, 3) := dk_19 1 120 (dk_at dksX3_letterOf_2 4 rfl rfl)
theorem dX3_letterOf_51 : decode cX3_letterOf 51 = .ok (.areturn, 1) := dk_176 (dk_at dksX3_letterOf_2 7 rfl rfl)
theorem dX3_letterOf_52 : decode cX3_letterOf 52 = .ok (.ldc_w 378, 3) := dk_19 1 122 (dk_at dksX3_letterOf_2 8 rfl rfl)
theorem dX3_letterOf_55 : decode cX3_letterOf 55 = .ok (.areturn, 1) := dk_176 (dk_at dksX3_letterOf_2 11 rfl rfl)
theorem dX3_letterOf_56 : decode cX3_letterOf 56 = .ok (.ldc_w 380, 3) := dk_19 1 124 (dk_at dksX3_letterOf_2 12 rfl rfl)
theorem dX3_letterOf_59 : decode cX3_letterOf 59 = .ok (.areturn, 1) := dk_176 (dk_at dksX3_letterOf_2 15 rfl rfl)
theorem dX3_letterOf_60 : decode cX3_letterOf 60 = .ok (.ldc_w 382, 3) := dk_19 1 126 (dk_at dksX3_letterOf_2 16 rfl rfl)
theorem dX3_letterOf_63 : decode cX3_letterOf 63 = .ok (.areturn, 1) := dk_176 (dk_at dksX3_letterOf_2 19 rfl rfl)
theorem dX3_letterOf_64 : decode cX3_letterOf 64 = .ok (.ldc_w 384, 3) := dk_19 1 128 (dk_at dksX3_letterOf_2 20 rfl rfl)
theorem dX3_letterOf_67 : decode cX3_letterOf 67 = .ok (.areturn, 1) := dk_176 (dk_at dksX3_letterOf_2 23 rfl rfl)
theorem dX3_letterOf_68 : decode cX3_letterOf 68 = .ok (.ldc_w 386, 3) := dk_19 1 130 (dk_at dksX3_letterOf_3 0 rfl rfl)
theorem dX3_letterOf_71 : decode cX3_letterOf 71 = .ok (.areturn, 1) := dk_176 (dk_at dksX3_letterOf_3 3 rfl rfl)
theorem dX3_letterOf_72 : decode cX3_letterOf 72 = .ok (.ldc_w 388, 3) := dk_19 1 132 (dk_at dksX3_letterOf_3 4 rfl rfl)
theorem dX3_letterOf_75 : decode cX3_letterOf 75 = .ok (.areturn, 1) := dk_176 (dk_at dksX3_letterOf_3 7 rfl rfl)
abbrev cX3_laysLetter : ByteArray := prog_21_method_51_code
def yX3_laysLetter : MethodName := ⟨RX3, "laysLetter", "(I)V"⟩
def dkwX3_laysLetter_2 : List UInt8 := [167, 0, 4, 3, 128, 79, 132, 3, 1, 167, 255, 218, 132, 2, 1, 167, 255, 197, 177]
abbrev dktX3_laysLetter_2 : List UInt8 := dkwX3_laysLetter_2 ++ []
def dkwX3_laysLetter_1 : List UInt8 := [180, 0, 126, 28, 92, 46, 16, 32, 28, 104, 29, 96, 27, 184, 1, 112, 153, 0, 9, 4, 29, 120]
abbrev dktX3_laysLetter_1 : List UInt8 := dkwX3_laysLetter_1 ++ dktX3_laysLetter_2
def dkwX3_laysLetter_0 : List UInt8 := [3, 61, 28, 16, 8, 162, 0, 59, 42, 180, 0, 126, 28, 3, 79, 3, 62, 29, 16, 32, 162, 0, 38, 42]
abbrev dktX3_laysLetter_0 : List UInt8 := dkwX3_laysLetter_0 ++ dktX3_laysLetter_1
theorem dksX3_laysLetter_0 : cX3_laysLetter.data.toList.drop 0 = dktX3_laysLetter_0 := by decide +kernel
theorem dksX3_laysLetter_1 : cX3_laysLetter.data.toList.drop 24 = dktX3_laysLetter_1 := dk_seg dksX3_laysLetter_0 24 rfl rfl
theorem dksX3_laysLetter_2 : cX3_laysLetter.data.toList.drop 46 = dktX3_laysLetter_2 := dk_seg dksX3_laysLetter_1 22 rfl rfl
theorem dX3_laysLetter_0 : decode cX3_laysLetter 0 = .ok (.iconst 0, 1) := dk_3 (dk_at dksX3_laysLetter_0 0 rfl rfl)
theorem dX3_laysLetter_1 : decode cX3_laysLetter 1 = .ok (.istore_n 2, 1) := dk_61 (dk_at dksX3_laysLetter_0 1 rfl rfl)
theorem dX3_laysLetter_2 : decode cX3_laysLetter 2 = .ok (.iload_n 2, 1) := dk_28 (dk_at dksX3_laysLetter_0 2 rfl rfl)
theorem dX3_laysLetter_3 : decode cX3_laysLetter 3 = .ok (.bipush 8, 2) := dk_16 8 (dk_at dksX3_laysLetter_0 3 rfl rfl)
theorem dX3_laysLetter_5 : decode cX3_laysLetter 5 = .ok (.if_icmp .ge 59, 3) := dk_162 0 59 (dk_at dksX3_laysLetter_0 5 rfl rfl)
theorem dX3_laysLetter_8 : decode cX3_laysLetter 8 = .ok (.aload_n 0, 1) := dk_42 (dk_at dksX3_laysLetter_0 8 rfl rfl)
theorem dX3_laysLetter_9 : decode cX3_laysLetter 9 = .ok (.getfield 126, 3) := dk_180 0 126 (dk_at dksX3_laysLetter_0 9 rfl rfl)
theorem dX3_laysLetter_12 : decode cX3_laysLetter 12 = .ok (.iload_n 2, 1) := dk_28 (dk_at dksX3_laysLetter_0 12 rfl rfl)
theorem dX3_laysLetter_13 : decode cX3_laysLetter 13 = .ok (.iconst 0, 1) := dk_3 (dk_at dksX3_laysLetter_0 13 rfl rfl)
theorem dX3_laysLetter_14 : decode cX3_laysLetter 14 = .ok (.iastore, 1) := dk_79 (dk_at dksX3_laysLetter_0 14 rfl rfl)
theorem dX3_laysLetter_15 : decode cX3_laysLetter 15 = .ok (.iconst 0, 1) := dk_3 (dk_at dksX3_laysLetter_0 15 rfl rfl)
theorem dX3_laysLetter_16 : decode cX3_laysLetter 16 = .ok (.istore_n 3, 1) := dk_62 (dk_at dksX3_laysLetter_0 16 rfl rfl)
theorem dX3_laysLetter_17 : decode cX3_laysLetter 17 = .ok (.iload_n 3, 1) := dk_29 (dk_at dksX3_laysLetter_0 17 rfl rfl)
theorem dX3_laysLetter_18 : decode cX3_laysLetter 18 = .ok (.bipush 32, 2) := dk_16 32 (dk_at dksX3_laysLetter_0 18 rfl rfl)
theorem dX3_laysLetter_20 : decode cX3_laysLetter 20 = .ok (.if_icmp .ge 38, 3) := dk_162 0 38 (dk_at dksX3_laysLetter_0 20 rfl rfl)
theorem dX3_laysLetter_23 : decode cX3_laysLetter 23 = .ok (.aload_n 0, 1) := dk_42 (dk_at dksX3_laysLetter_0 23 rfl rfl)
theorem dX3_laysLetter_24 : decode cX3_laysLetter 24 = .ok (.getfield 126, 3) := dk_180 0 126 (dk_at dksX3_laysLetter_1 0 rfl rfl)
theorem dX3_laysLetter_27 : decode cX3_laysLetter 27 = .ok (.iload_n 2, 1) := dk_28 (dk_at dksX3_laysLetter_1 3 rfl rfl)
theorem dX3_laysLetter_28 : decode cX3_laysLetter 28 = .ok (.dup2, 1) := dk_92 (dk_at dksX3_laysLetter_1 4 rfl rfl)
theorem dX3_laysLetter_29 : decode cX3_laysLetter 29 = .ok (.iaload, 1) := dk_46 (dk_at dksX3_laysLetter_1 5 rfl rfl)
theorem dX3_laysLetter_30 : decode cX3_laysLetter 30 = .ok (.bipush 32, 2) := dk_16 32 (dk_at dksX3_laysLetter_1 6 rfl rfl)
theorem dX3_laysLetter_32 : decode cX3_laysLetter 32 = .ok (.iload_n 2, 1) := dk_28 (dk_at dksX3_laysLetter_1 8 rfl rfl)
theorem dX3_laysLetter_33 : decode cX3_laysLetter 33 = .ok (.imul, 1) := dk_104 (dk_at dksX3_laysLetter_1 9 rfl rfl)
theorem dX3_laysLetter_34 : decode cX3_laysLetter 34 = .ok (.iload_n 3, 1) := dk_29 (dk_at dksX3_laysLetter_1 10 rfl rfl)
theorem dX3_laysLetter_35 : decode cX3_laysLetter 35 = .ok (.iadd, 1) := dk_96 (dk_at dksX3_laysLetter_1 11 rfl rfl)
theorem dX3_laysLetter_36 : decode cX3_laysLetter 36 = .ok (.iload_n 1, 1) := dk_27 (dk_at dksX3_laysLetter_1 12 rfl rfl)
theorem dX3_laysLetter_37 : decode cX3_laysLetter 37 = .ok (.invokestatic 368, 3) := dk_184 1 112 (dk_at dksX3_laysLetter_1 13 rfl rfl)
theorem dX3_laysLetter_40 : decode cX3_laysLetter 40 = .ok (.ifCond .eq 9, 3) := dk_153 0 9 (dk_at dksX3_laysLetter_1 16 rfl rfl)
theorem dX3_laysLetter_43 : decode cX3_laysLetter 43 = .ok (.iconst 1, 1) := dk_4 (dk_at dksX3_laysLetter_1 19 rfl rfl)
theorem dX3_laysLetter_44 : decode cX3_laysLetter 44 = .ok (.iload_n 3, 1) := dk_29 (dk_at dksX3_laysLetter_1 20 rfl rfl)
theorem dX3_laysLetter_45 : decode cX3_laysLetter 45 = .ok (.ishl, 1) := dk_120 (dk_at dksX3_laysLetter_1 21 rfl rfl)
theorem dX3_laysLetter_46 : decode cX3_laysLetter 46 = .ok (.goto 4, 3) := dk_167 0 4 (dk_at dksX3_laysLetter_2 0 rfl rfl)
theorem dX3_laysLetter_49 : decode cX3_laysLetter 49 = .ok (.iconst 0, 1) := dk_3 (dk_at dksX3_laysLetter_2 3 rfl rfl)
theorem dX3_laysLetter_50 : decode cX3_laysLetter 50 = .ok (.ior, 1) := dk_128 (dk_at dksX3_laysLetter_2 4 rfl rfl)
theorem dX3_laysLetter_51 : decode cX3_laysLetter 51 = .ok (.iastore, 1) := dk_79 (dk_at dksX3_laysLetter_2 5 rfl rfl)
theorem dX3_laysLetter_52 : decode cX3_laysLetter 52 = .ok (.iinc 3 1, 3) := dk_132 3 1 (dk_at dksX3_laysLetter_2 6 rfl rfl)
theorem dX3_laysLetter_55 : decode cX3_laysLetter 55 = .ok (.goto (-38), 3) := dk_167 255 218 (dk_at dksX3_laysLetter_2 9 rfl rfl)
theorem dX3_laysLetter_58 : decode cX3_laysLetter 58 = .ok (.iinc 2 1, 3) := dk_132 2 1 (dk_at dksX3_laysLetter_2 12 rfl rfl)
theorem dX3_laysLetter_61 : decode cX3_laysLetter 61 = .ok (.goto (-59), 3) := dk_167 255 197 (dk_at dksX3_laysLetter_2 15 rfl rfl)
theorem dX3_laysLetter_64 : decode cX3_laysLetter 64 = .ok (.return_, 1) := dk_177 (dk_at dksX3_laysLetter_2 18 rfl rfl)
abbrev cX3_has : ByteArray := prog_21_method_5_code
def yX3_has : MethodName := ⟨RX3, "has", "(II)Z"⟩
def dkwX3_has_0 : List UInt8 := [26, 27, 122, 4, 126, 4, 160, 0, 7, 4, 167, 0, 4, 3, 172]
abbrev dktX3_has_0 : List UInt8 := dkwX3_has_0 ++ []
theorem dksX3_has_0 : cX3_has.data.toList.drop 0 = dktX3_has_0 := by decide +kernel
theorem dX3_has_0 : decode cX3_has 0 = .ok (.iload_n 0, 1) := dk_26 (dk_at dksX3_has_0 0 rfl rfl)
theorem dX3_has_1 : decode cX3_has 1 = .ok (.iload_n 1, 1) := dk_27 (dk_at dksX3_has_0 1 rfl rfl)
theorem dX3_has_2 : decode cX3_has 2 = .ok (.ishr, 1) := dk_122 (dk_at dksX3_has_0 2 rfl rfl)
theorem dX3_has_3 : decode cX3_has 3 = .ok (.iconst 1, 1) := dk_4 (dk_at dksX3_has_0 3 rfl rfl)
theorem dX3_has_4 : decode cX3_has 4 = .ok (.iand, 1) := dk_126 (dk_at dksX3_has_0 4 rfl rfl)
theorem dX3_has_5 : decode cX3_has 5 = .ok (.iconst 1, 1) := dk_4 (dk_at dksX3_has_0 5 rfl rfl)
theorem dX3_has_6 : decode cX3_has 6 = .ok (.if_icmp .ne 7, 3) := dk_160 0 7 (dk_at dksX3_has_0 6 rfl rfl)
theorem dX3_has_9 : decode cX3_has 9 = .ok (.iconst 1, 1) := dk_4 (dk_at dksX3_has_0 9 rfl rfl)
theorem dX3_has_10 : decode cX3_has 10 = .ok (.goto 4, 3) := dk_167 0 4 (dk_at dksX3_has_0 10 rfl rfl)
theorem dX3_has_13 : decode cX3_has 13 = .ok (.iconst 0, 1) := dk_3 (dk_at dksX3_has_0 13 rfl rfl)
theorem dX3_has_14 : decode cX3_has 14 = .ok (.ireturn, 1) := dk_172 (dk_at dksX3_has_0 14 rfl rfl)
abbrev cX3_operandEnds : ByteArray := prog_21_method_49_code
def yX3_operandEnds : MethodName := ⟨RX3, "operandEnds", "()V"⟩
def dkwX3_operandEnds_4 : List UInt8 := [126, 79, 132, 1, 1, 167, 255, 224, 177]
abbrev dktX3_operandEnds_4 : List UInt8 := dkwX3_operandEnds_4 ++ []
def dkwX3_operandEnds_3 : List UInt8 := [162, 0, 32, 42, 180, 0, 123, 16, 8, 42, 180, 1, 103, 104, 27, 96, 92, 46, 42, 180, 0, 126, 27, 46]
abbrev dktX3_operandEnds_3 : List UInt8 := dkwX3_operandEnds_3 ++ dktX3_operandEnds_4
def dkwX3_operandEnds_2 : List UInt8 := [180, 0, 126, 27, 46, 2, 130, 79, 132, 1, 1, 167, 255, 233, 167, 255, 196, 3, 60, 27, 16, 8]
abbrev dktX3_operandEnds_2 : List UInt8 := dkwX3_operandEnds_2 ++ dktX3_operandEnds_3
def dkwX3_operandEnds_1 : List UInt8 := [180, 1, 106, 4, 100, 181, 1, 106, 3, 60, 27, 16, 8, 162, 0, 23, 42, 180, 0, 126, 27, 42]
abbrev dktX3_operandEnds_1 : List UInt8 := dkwX3_operandEnds_1 ++ dktX3_operandEnds_2
def dkwX3_operandEnds_0 : List UInt8 := [42, 180, 1, 106, 158, 0, 59, 42, 180, 0, 129, 42, 180, 1, 106, 4, 100, 46, 4, 160, 0, 44, 42, 89]
abbrev dktX3_operandEnds_0 : List UInt8 := dkwX3_operandEnds_0 ++ dktX3_operandEnds_1
theorem dksX3_operandEnds_0 : cX3_operandEnds.data.toList.drop 0 = dktX3_operandEnds_0 := by decide +kernel
theorem dksX3_operandEnds_1 : cX3_operandEnds.data.toList.drop 24 = dktX3_operandEnds_1 := dk_seg dksX3_operandEnds_0 24 rfl rfl
theorem dksX3_operandEnds_2 : cX3_operandEnds.data.toList.drop 46 = dktX3_operandEnds_2 := dk_seg dksX3_operandEnds_1 22 rfl rfl
theorem dksX3_operandEnds_3 : cX3_operandEnds.data.toList.drop 68 = dktX3_operandEnds_3 := dk_seg dksX3_operandEnds_2 22 rfl rfl
theorem dksX3_operandEnds_4 : cX3_operandEnds.data.toList.drop 92 = dktX3_operandEnds_4 := dk_seg dksX3_operandEnds_3 24 rfl rfl
theorem dX3_operandEnds_0 : decode cX3_operandEnds 0 = .ok (.aload_n 0, 1) := dk_42 (dk_at dksX3_operandEnds_0 0 rfl rfl)
theorem dX3_operandEnds_1 : decode cX3_operandEnds 1 = .ok (.getfield 362, 3) := dk_180 1 106 (dk_at dksX3_operandEnds_0 1 rfl rfl)
theorem dX3_operandEnds_4 : decode cX3_operandEnds 4 = .ok (.ifCond .le 59, 3) := dk_158 0 59 (dk_at dksX3_operandEnds_0 4 rfl rfl)
theorem dX3_operandEnds_7 : decode cX3_operandEnds 7 = .ok (.aload_n 0, 1) := dk_42 (dk_at dksX3_operandEnds_0 7 rfl rfl)
theorem dX3_operandEnds_8 : decode cX3_operandEnds 8 = .ok (.getfield 129, 3) := dk_180 0 129 (dk_at dksX3_operandEnds_0 8 rfl rfl)
theorem dX3_operandEnds_11 : decode cX3_operandEnds 11 = .ok (.aload_n 0, 1) := dk_42 (dk_at dksX3_operandEnds_0 11 rfl rfl)
theorem dX3_operandEnds_12 : decode cX3_operandEnds 12 = .ok (.getfield 362, 3) := dk_180 1 106 (dk_at dksX3_operandEnds_0 12 rfl rfl)
theorem dX3_operandEnds_15 : decode cX3_operandEnds 15 = .ok (.iconst 1, 1) := dk_4 (dk_at dksX3_operandEnds_0 15 rfl rfl)
theorem dX3_operandEnds_16 : decode cX3_operandEnds 16 = .ok (.isub, 1) := dk_100 (dk_at dksX3_operandEnds_0 16 rfl rfl)
theorem dX3_operandEnds_17 : decode cX3_operandEnds 17 = .ok (.iaload, 1) := dk_46 (dk_at dksX3_operandEnds_0 17 rfl rfl)
theorem dX3_operandEnds_18 : decode cX3_operandEnds 18 = .ok (.iconst 1, 1) := dk_4 (dk_at dksX3_operandEnds_0 18 rfl rfl)
theorem dX3_operandEnds_19 : decode cX3_operandEnds 19 = .ok (.if_icmp .ne 44, 3) := dk_160 0 44 (dk_at dksX3_operandEnds_0 19 rfl rfl)
theorem dX3_operandEnds_22 : decode cX3_operandEnds 22 = .ok (.aload_n 0, 1) := dk_42 (dk_at dksX3_operandEnds_0 22 rfl rfl)
theorem dX3_operandEnds_23 : decode cX3_operandEnds 23 = .ok (.dup, 1) := dk_89 (dk_at dksX3_operandEnds_0 23 rfl rfl)
theorem dX3_operandEnds_24 : decode cX3_operandEnds 24 = .ok (.getfield 362, 3) := dk_180 1 106 (dk_at dksX3_operandEnds_1 0 rfl rfl)
theorem dX3_operandEnds_27 : decode cX3_operandEnds 27 = .ok (.iconst 1, 1) := dk_4 (dk_at dksX3_operandEnds_1 3 rfl rfl)
theorem dX3_operandEnds_28 : decode cX3_operandEnds 28 = .ok (.isub, 1) := dk_100 (dk_at dksX3_operandEnds_1 4 rfl rfl)
theorem dX3_operandEnds_29 : decode cX3_operandEnds 29 = .ok (.putfield 362, 3) := dk_181 1 106 (dk_at dksX3_operandEnds_1 5 rfl rfl)
theorem dX3_operandEnds_32 : decode cX3_operandEnds 32 = .ok (.iconst 0, 1) := dk_3 (dk_at dksX3_operandEnds_1 8 rfl rfl)
theorem dX3_operandEnds_33 : decode cX3_operandEnds 33 = .ok (.istore_n 1, 1) := dk_60 (dk_at dksX3_operandEnds_1 9 rfl rfl)
theorem dX3_operandEnds_34 : decode cX3_operandEnds 34 = .ok (.iload_n 1, 1) := dk_27 (dk_at dksX3_operandEnds_1 10 rfl rfl)
theorem dX3_operandEnds_35 : decode cX3_operandEnds 35 = .ok (.bipush 8, 2) := dk_16 8 (dk_at dksX3_operandEnds_1 11 rfl rfl)
theorem dX3_operandEnds_37 : decode cX3_operandEnds 37 = .ok (.if_icmp .ge 23, 3) := dk_162 0 23 (dk_at dksX3_operandEnds_1 13 rfl rfl)
theorem dX3_operandEnds_40 : decode cX3_operandEnds 40 = .ok (.aload_n 0, 1) := dk_42 (dk_at dksX3_operandEnds_1 16 rfl rfl)
theorem dX3_operandEnds_41 : decode cX3_operandEnds 41 = .ok (.getfield 126, 3) := dk_180 0 126 (dk_at dksX3_operandEnds_1 17 rfl rfl)
theorem dX3_operandEnds_44 : decode cX3_operandEnds 44 = .ok (.iload_n 1, 1) := dk_27 (dk_at dksX3_operandEnds_1 20 rfl rfl)
theorem dX3_operandEnds_45 : decode cX3_operandEnds 45 = .ok (.aload_n 0, 1) := dk_42 (dk_at dksX3_operandEnds_1 21 rfl rfl)
theorem dX3_operandEnds_46 : decode cX3_operandEnds 46 = .ok (.getfield 126, 3) := dk_180 0 126 (dk_at dksX3_operandEnds_2 0 rfl rfl)
theorem dX3_operandEnds_49 : decode cX3_operandEnds 49 = .ok (.iload_n 1, 1) := dk_27 (dk_at dksX3_operandEnds_2 3 rfl rfl)
theorem dX3_operandEnds_50 : decode cX3_operandEnds 50 = .ok (.iaload, 1) := dk_46 (dk_at dksX3_operandEnds_2 4 rfl rfl)
theorem dX3_operandEnds_51 : decode cX3_operandEnds 51 = .ok (.iconst (-1), 1) := dk_2 (dk_at dksX3_operandEnds_2 5 rfl rfl)
theorem dX3_operandEnds_52 : decode cX3_operandEnds 52 = .ok (.ixor, 1) := dk_130 (dk_at dksX3_operandEnds_2 6 rfl rfl)
theorem dX3_operandEnds_53 : decode cX3_operandEnds 53 = .ok (.iastore, 1) := dk_79 (dk_at dksX3_operandEnds_2 7 rfl rfl)
theorem dX3_operandEnds_54 : decode cX3_operandEnds 54 = .ok (.iinc 1 1, 3) := dk_132 1 1 (dk_at dksX3_operandEnds_2 8 rfl rfl)
theorem dX3_operandEnds_57 : decode cX3_operandEnds 57 = .ok (.goto (-23), 3) := dk_167 255 233 (dk_at dksX3_operandEnds_2 11 rfl rfl)
theorem dX3_operandEnds_60 : decode cX3_operandEnds 60 = .ok (.goto (-60), 3) := dk_167 255 196 (dk_at dksX3_operandEnds_2 14 rfl rfl)
theorem dX3_operandEnds_63 : decode cX3_operandEnds 63 = .ok (.iconst 0, 1) := dk_3 (dk_at dksX3_operandEnds_2 17 rfl rfl)
theorem dX3_operandEnds_64 : decode cX3_operandEnds 64 = .ok (.istore_n 1, 1) := dk_60 (dk_at dksX3_operandEnds_2 18 rfl rfl)
theorem dX3_operandEnds_65 : decode cX3_operandEnds 65 = .ok (.iload_n 1, 1) := dk_27 (dk_at dksX3_operandEnds_2 19 rfl rfl)
theorem dX3_operandEnds_66 : decode cX3_operandEnds 66 = .ok (.bipush 8, 2) := dk_16 8 (dk_at dksX3_operandEnds_2 20 rfl rfl)
theorem dX3_operandEnds_68 : decode cX3_operandEnds 68 = .ok (.if_icmp .ge 32, 3) := dk_162 0 32 (dk_at dksX3_operandEnds_3 0 rfl rfl)
theorem dX3_operandEnds_71 : decode cX3_operandEnds 71 = .ok (.aload_n 0, 1) := dk_42 (dk_at dksX3_operandEnds_3 3 rfl rfl)
theorem dX3_operandEnds_72 : decode cX3_operandEnds 72 = .ok (.getfield 123, 3) := dk_180 0 123 (dk_at dksX3_operandEnds_3 4 rfl rfl)
theorem dX3_operandEnds_75 : decode cX3_operandEnds 75 = .ok (.bipush 8, 2) := dk_16 8 (dk_at dksX3_operandEnds_3 7 rfl rfl)
theorem dX3_operandEnds_77 : decode cX3_operandEnds 77 = .ok (.aload_n 0, 1) := dk_42 (dk_at dksX3_operandEnds_3 9 rfl rfl)
theorem dX3_operandEnds_78 : decode cX3_operandEnds 78 = .ok (.getfield 359, 3) := dk_180 1 103 (dk_at dksX3_operandEnds_3 10 rfl rfl)
theorem dX3_operandEnds_81 : decode cX3_operandEnds 81 = .ok (.imul, 1) := dk_104 (dk_at dksX3_operandEnds_3 13 rfl rfl)
theorem dX3_operandEnds_82 : decode cX3_operandEnds 82 = .ok (.iload_n 1, 1) := dk_27 (dk_at dksX3_operandEnds_3 14 rfl rfl)
theorem dX3_operandEnds_83 : decode cX3_operandEnds 83 = .ok (.iadd, 1) := dk_96 (dk_at dksX3_operandEnds_3 15 rfl rfl)
theorem dX3_operandEnds_84 : decode cX3_operandEnds 84 = .ok (.dup2, 1) := dk_92 (dk_at dksX3_operandEnds_3 16 rfl rfl)
theorem dX3_operandEnds_85 : decode cX3_operandEnds 85 = .ok (.iaload, 1) := dk_46 (dk_at dksX3_operandEnds_3 17 rfl rfl)
theorem dX3_operandEnds_86 : decode cX3_operandEnds 86 = .ok (.aload_n 0, 1) := dk_42 (dk_at dksX3_operandEnds_3 18 rfl rfl)
theorem dX3_operandEnds_87 : decode cX3_operandEnds 87 = .ok (.getfield 126, 3) := dk_180 0 126 (dk_at dksX3_operandEnds_3 19 rfl rfl)
theorem dX3_operandEnds_90 : decode cX3_operandEnds 90 = .ok (.iload_n 1, 1) := dk_27 (dk_at dksX3_operandEnds_3 22 rfl rfl)
theorem dX3_operandEnds_91 : decode cX3_operandEnds 91 = .ok (.iaload, 1) := dk_46 (dk_at dksX3_operandEnds_3 23 rfl rfl)
theorem dX3_operandEnds_92 : decode cX3_operandEnds 92 = .ok (.iand, 1) := dk_126 (dk_at dksX3_operandEnds_4 0 rfl rfl)
theorem dX3_operandEnds_93 : decode cX3_operandEnds 93 = .ok (.iastore, 1) := dk_79 (dk_at dksX3_operandEnds_4 1 rfl rfl)
theorem dX3_operandEnds_94 : decode cX3_operandEnds 94 = .ok (.iinc 1 1, 3) := dk_132 1 1 (dk_at dksX3_operandEnds_4 2 rfl rfl)
theorem dX3_operandEnds_97 : decode cX3_operandEnds 97 = .ok (.goto (-32), 3) := dk_167 255 224 (dk_at dksX3_operandEnds_4 5 rfl rfl)
theorem dX3_operandEnds_100 : decode cX3_operandEnds 100 = .ok (.return_, 1) := dk_177 (dk_at dksX3_operandEnds_4 8 rfl rfl)
abbrev cX3_readsBehind : ByteArray := prog_21_method_56_code
def yX3_readsBehind : MethodName := ⟨RX3, "readsBehind", "()Z"⟩
def dkwX3_readsBehind_4 : List UInt8 := [42, 180, 0, 221, 182, 1, 0, 3, 172]
abbrev dktX3_readsBehind_4 : List UInt8 := dkwX3_readsBehind_4 ++ []
def dkwX3_readsBehind_3 : List UInt8 := [182, 0, 243, 153, 0, 19, 42, 89, 180, 0, 221, 5, 96, 181, 0, 221, 42, 182, 1, 149, 4, 172, 42, 3]
abbrev dktX3_readsBehind_3 : List UInt8 := dkwX3_readsBehind_3 ++ dktX3_readsBehind_4
def dkwX3_readsBehind_2 : List UInt8 := [182, 0, 243, 153, 0, 15, 42, 89, 180, 0, 221, 6, 96, 181, 0, 221, 4, 172, 42, 19, 1, 55]
abbrev dktX3_readsBehind_2 : List UInt8 := dkwX3_readsBehind_2 ++ dktX3_readsBehind_3
def dkwX3_readsBehind_1 : List UInt8 := [158, 0, 19, 42, 89, 180, 0, 221, 4, 96, 181, 0, 221, 42, 182, 1, 152, 3, 172, 42, 19, 1, 53]
abbrev dktX3_readsBehind_1 : List UInt8 := dkwX3_readsBehind_1 ++ dktX3_readsBehind_2
def dkwX3_readsBehind_0 : List UInt8 := [42, 180, 0, 221, 42, 180, 0, 194, 162, 0, 35, 42, 182, 0, 224, 16, 93, 160, 0, 26, 42, 180, 1, 106]
abbrev dktX3_readsBehind_0 : List UInt8 := dkwX3_readsBehind_0 ++ dktX3_readsBehind_1
theorem dksX3_readsBehind_0 : cX3_readsBehind.data.toList.drop 0 = dktX3_readsBehind_0 := by decide +kernel
theorem dksX3_readsBehind_1 : cX3_readsBehind.data.toList.drop 24 = dktX3_readsBehind_1 := dk_seg dksX3_readsBehind_0 24 rfl rfl
theorem dksX3_readsBehind_2 : cX3_readsBehind.data.toList.drop 47 = dktX3_readsBehind_2 := dk_seg dksX3_readsBehind_1 23 rfl rfl
theorem dksX3_readsBehind_3 : cX3_readsBehind.data.toList.drop 69 = dktX3_readsBehind_3 := dk_seg dksX3_readsBehind_2 22 rfl rfl
theorem dksX3_readsBehind_4 : cX3_readsBehind.data.toList.drop 93 = dktX3_readsBehind_4 := dk_seg dksX3_readsBehind_3 24 rfl rfl
theorem dX3_readsBehind_0 : decode cX3_readsBehind 0 = .ok (.aload_n 0, 1) := dk_42 (dk_at dksX3_readsBehind_0 0 rfl rfl)
theorem dX3_readsBehind_1 : decode cX3_readsBehind 1 = .ok (.getfield 221, 3) := dk_180 0 221 (dk_at dksX3_readsBehind_0 1 rfl rfl)
theorem dX3_readsBehind_4 : decode cX3_readsBehind 4 = .ok (.aload_n 0, 1) := dk_42 (dk_at dksX3_readsBehind_0 4 rfl rfl)
theorem dX3_readsBehind_5 : decode cX3_readsBehind 5 = .ok (.getfield 194, 3) := dk_180 0 194 (dk_at dksX3_readsBehind_0 5 rfl rfl)
theorem dX3_readsBehind_8 : decode cX3_readsBehind 8 = .ok (.if_icmp .ge 35, 3) := dk_162 0 35 (dk_at dksX3_readsBehind_0 8 rfl rfl)
theorem dX3_readsBehind_11 : decode cX3_readsBehind 11 = .ok (.aload_n 0, 1) := dk_42 (dk_at dksX3_readsBehind_0 11 rfl rfl)
theorem dX3_readsBehind_12 : decode cX3_readsBehind 12 = .ok (.invokevirtual 224, 3) := dk_182 0 224 (dk_at dksX3_readsBehind_0 12 rfl rfl)
theorem dX3_readsBehind_15 : decode cX3_readsBehind 15 = .ok (.bipush 93, 2) := dk_16 93 (dk_at dksX3_readsBehind_0 15 rfl rfl)
theorem dX3_readsBehind_17 : decode cX3_readsBehind 17 = .ok (.if_icmp .ne 26, 3) := dk_160 0 26 (dk_at dksX3_readsBehind_0 17 rfl rfl)
theorem dX3_readsBehind_20 : decode cX3_readsBehind 20 = .ok (.aload_n 0, 1) := dk_42 (dk_at dksX3_readsBehind_0 20 rfl rfl)
theorem dX3_readsBehind_21 : decode cX3_readsBehind 21 = .ok (.getfield 362, 3) := dk_180 1 106 (dk_at dksX3_readsBehind_0 21 rfl rfl)
theorem dX3_readsBehind_24 : decode cX3_readsBehind 24 = .ok (.ifCond .le 19, 3) := dk_158 0 19 (dk_at dksX3_readsBehind_1 0 rfl rfl)
theorem dX3_readsBehind_27 : decode cX3_readsBehind 27 = .ok (.aload_n 0, 1) := dk_42 (dk_at dksX3_readsBehind_1 3 rfl rfl)
theorem dX3_readsBehind_28 : decode cX3_readsBehind 28 = .ok (.dup, 1) := dk_89 (dk_at dksX3_readsBehind_1 4 rfl rfl)
theorem dX3_readsBehind_29 : decode cX3_readsBehind 29 = .ok (.getfield 221, 3) := dk_180 0 221 (dk_at dksX3_readsBehind_1 5 rfl rfl)
theorem dX3_readsBehind_32 : decode cX3_readsBehind 32 = .ok (.iconst 1, 1) := dk_4 (dk_at dksX3_readsBehind_1 8 rfl rfl)
theorem dX3_readsBehind_33 : decode cX3_readsBehind 33 = .ok (.iadd, 1) := dk_96 (dk_at dksX3_readsBehind_1 9 rfl rfl)
theorem dX3_readsBehind_34 : decode cX3_readsBehind 34 = .ok (.putfield 221, 3) := dk_181 0 221 (dk_at dksX3_readsBehind_1 10 rfl rfl)
theorem dX3_readsBehind_37 : decode cX3_readsBehind 37 = .ok (.aload_n 0, 1) := dk_42 (dk_at dksX3_readsBehind_1 13 rfl rfl)
theorem dX3_readsBehind_38 : decode cX3_readsBehind 38 = .ok (.invokevirtual 408, 3) := dk_182 1 152 (dk_at dksX3_readsBehind_1 14 rfl rfl)
theorem dX3_readsBehind_41 : decode cX3_readsBehind 41 = .ok (.iconst 0, 1) := dk_3 (dk_at dksX3_readsBehind_1 17 rfl rfl)
theorem dX3_readsBehind_42 : decode cX3_readsBehind 42 = .ok (.ireturn, 1) := dk_172 (dk_at dksX3_readsBehind_1 18 rfl rfl)
theorem dX3_readsBehind_43 : decode cX3_readsBehind 43 = .ok (.aload_n 0, 1) := dk_42 (dk_at dksX3_readsBehind_1 19 rfl rfl)
theorem dX3_readsBehind_44 : decode cX3_readsBehind 44 = .ok (.ldc_w 309, 3) := dk_19 1 53 (dk_at dksX3_readsBehind_1 20 rfl rfl)
theorem dX3_readsBehind_47 : decode cX3_readsBehind 47 = .ok (.invokevirtual 243, 3) := dk_182 0 243 (dk_at dksX3_readsBehind_2 0 rfl rfl)
theorem dX3_readsBehind_50 : decode cX3_readsBehind 50 = .ok (.ifCond .eq 15, 3) := dk_153 0 15 (dk_at dksX3_readsBehind_2 3 rfl rfl)
theorem dX3_readsBehind_53 : decode cX3_readsBehind 53 = .ok (.aload_n 0, 1) := dk_42 (dk_at dksX3_readsBehind_2 6 rfl rfl)
theorem dX3_readsBehind_54 : decode cX3_readsBehind 54 = .ok (.dup, 1) := dk_89 (dk_at dksX3_readsBehind_2 7 rfl rfl)
theorem dX3_readsBehind_55 : decode cX3_readsBehind 55 = .ok (.getfield 221, 3) := dk_180 0 221 (dk_at dksX3_readsBehind_2 8 rfl rfl)
theorem dX3_readsBehind_58 : decode cX3_readsBehind 58 = .ok (.iconst 3, 1) := dk_6 (dk_at dksX3_readsBehind_2 11 rfl rfl)
theorem dX3_readsBehind_59 : decode cX3_readsBehind 59 = .ok (.iadd, 1) := dk_96 (dk_at dksX3_readsBehind_2 12 rfl rfl)
theorem dX3_readsBehind_60 : decode cX3_readsBehind 60 = .ok (.putfield 221, 3) := dk_181 0 221 (dk_at dksX3_readsBehind_2 13 rfl rfl)
theorem dX3_readsBehind_63 : decode cX3_readsBehind 63 = .ok (.iconst 1, 1) := dk_4 (dk_at dksX3_readsBehind_2 16 rfl rfl)
theorem dX3_readsBehind_64 : decode cX3_readsBehind 64 = .ok (.ireturn, 1) := dk_172 (dk_at dksX3_readsBehind_2 17 rfl rfl)
theorem dX3_readsBehind_65 : decode cX3_readsBehind 65 = .ok (.aload_n 0, 1) := dk_42 (dk_at dksX3_readsBehind_2 18 rfl rfl)
theorem dX3_readsBehind_66 : decode cX3_readsBehind 66 = .ok (.ldc_w 311, 3) := dk_19 1 55 (dk_at dksX3_readsBehind_2 19 rfl rfl)
theorem dX3_readsBehind_69 : decode cX3_readsBehind 69 = .ok (.invokevirtual 243, 3) := dk_182 0 243 (dk_at dksX3_readsBehind_3 0 rfl rfl)
theorem dX3_readsBehind_72 : decode cX3_readsBehind 72 = .ok (.ifCond .eq 19, 3) := dk_153 0 19 (dk_at dksX3_readsBehind_3 3 rfl rfl)
theorem dX3_readsBehind_75 : decode cX3_readsBehind 75 = .ok (.aload_n 0, 1) := dk_42 (dk_at dksX3_readsBehind_3 6 rfl rfl)
theorem dX3_readsBehind_76 : decode cX3_readsBehind 76 = .ok (.dup, 1) := dk_89 (dk_at dksX3_readsBehind_3 7 rfl rfl)
theorem dX3_readsBehind_77 : decode cX3_readsBehind 77 = .ok (.getfield 221, 3) := dk_180 0 221 (dk_at dksX3_readsBehind_3 8 rfl rfl)
theorem dX3_readsBehind_80 : decode cX3_readsBehind 80 = .ok (.iconst 2, 1) := dk_5 (dk_at dksX3_readsBehind_3 11 rfl rfl)
theorem dX3_readsBehind_81 : decode cX3_readsBehind 81 = .ok (.iadd, 1) := dk_96 (dk_at dksX3_readsBehind_3 12 rfl rfl)
theorem dX3_readsBehind_82 : decode cX3_readsBehind 82 = .ok (.putfield 221, 3) := dk_181 0 221 (dk_at dksX3_readsBehind_3 13 rfl rfl)
theorem dX3_readsBehind_85 : decode cX3_readsBehind 85 = .ok (.aload_n 0, 1) := dk_42 (dk_at dksX3_readsBehind_3 16 rfl rfl)
theorem dX3_readsBehind_86 : decode cX3_readsBehind 86 = .ok (.invokevirtual 405, 3) := dk_182 1 149 (dk_at dksX3_readsBehind_3 17 rfl rfl)
theorem dX3_readsBehind_89 : decode cX3_readsBehind 89 = .ok (.iconst 1, 1) := dk_4 (dk_at dksX3_readsBehind_3 20 rfl rfl)
theorem dX3_readsBehind_90 : decode cX3_readsBehind 90 = .ok (.ireturn, 1) := dk_172 (dk_at dksX3_readsBehind_3 21 rfl rfl)
theorem dX3_readsBehind_91 : decode cX3_readsBehind 91 = .ok (.aload_n 0, 1) := dk_42 (dk_at dksX3_readsBehind_3 22 rfl rfl)
theorem dX3_readsBehind_92 : decode cX3_readsBehind 92 = .ok (.iconst 0, 1) := dk_3 (dk_at dksX3_readsBehind_3 23 rfl rfl)
theorem dX3_readsBehind_93 : decode cX3_readsBehind 93 = .ok (.aload_n 0, 1) := dk_42 (dk_at dksX3_readsBehind_4 0 rfl rfl)
theorem dX3_readsBehind_94 : decode cX3_readsBehind 94 = .ok (.getfield 221, 3) := dk_180 0 221 (dk_at dksX3_readsBehind_4 1 rfl rfl)
theorem dX3_readsBehind_97 : decode cX3_readsBehind 97 = .ok (.invokevirtual 256, 3) := dk_182 1 0 (dk_at dksX3_readsBehind_4 4 rfl rfl)
theorem dX3_readsBehind_100 : decode cX3_readsBehind 100 = .ok (.iconst 0, 1) := dk_3 (dk_at dksX3_readsBehind_4 7 rfl rfl)
theorem dX3_readsBehind_101 : decode cX3_readsBehind 101 = .ok (.ireturn, 1) := dk_172 (dk_at dksX3_readsBehind_4 8 rfl rfl)
abbrev cX3_closesLevel : ByteArray := prog_21_method_55_code
def yX3_closesLevel : MethodName := ⟨RX3, "closesLevel", "()V"⟩
def dkwX3_closesLevel_2 : List UInt8 := [42, 89, 180, 1, 106, 4, 100, 181, 1, 106, 42, 182, 1, 146, 177]
abbrev dktX3_closesLevel_2 : List UInt8 := dkwX3_closesLevel_2 ++ []
def dkwX3_closesLevel_1 : List UInt8 := [180, 1, 103, 104, 27, 96, 46, 79, 132, 1, 1, 167, 255, 227, 42, 89, 180, 1, 103, 4, 100, 181, 1, 103]
abbrev dktX3_closesLevel_1 : List UInt8 := dkwX3_closesLevel_1 ++ dktX3_closesLevel_2
def dkwX3_closesLevel_0 : List UInt8 := [42, 182, 1, 149, 3, 60, 27, 16, 8, 162, 0, 29, 42, 180, 0, 126, 27, 42, 180, 0, 120, 16, 8, 42]
abbrev dktX3_closesLevel_0 : List UInt8 := dkwX3_closesLevel_0 ++ dktX3_closesLevel_1
theorem dksX3_closesLevel_0 : cX3_closesLevel.data.toList.drop 0 = dktX3_closesLevel_0 := by decide +kernel
theorem dksX3_closesLevel_1 : cX3_closesLevel.data.toList.drop 24 = dktX3_closesLevel_1 := dk_seg dksX3_closesLevel_0 24 rfl rfl
theorem dksX3_closesLevel_2 : cX3_closesLevel.data.toList.drop 48 = dktX3_closesLevel_2 := dk_seg dksX3_closesLevel_1 24 rfl rfl
theorem dX3_closesLevel_0 : decode cX3_closesLevel 0 = .ok (.aload_n 0, 1) := dk_42 (dk_at dksX3_closesLevel_0 0 rfl rfl)
theorem dX3_closesLevel_1 : decode cX3_closesLevel 1 = .ok (.invokevirtual 405, 3) := dk_182 1 149 (dk_at dksX3_closesLevel_0 1 rfl rfl)
theorem dX3_closesLevel_4 : decode cX3_closesLevel 4 = .ok (.iconst 0, 1) := dk_3 (dk_at dksX3_closesLevel_0 4 rfl rfl)
theorem dX3_closesLevel_5 : decode cX3_closesLevel 5 = .ok (.istore_n 1, 1) := dk_60 (dk_at dksX3_closesLevel_0 5 rfl rfl)
theorem dX3_closesLevel_6 : decode cX3_closesLevel 6 = .ok (.iload_n 1, 1) := dk_27 (dk_at dksX3_closesLevel_0 6 rfl rfl)
theorem dX3_closesLevel_7 : decode cX3_closesLevel 7 = .ok (.bipush 8, 2) := dk_16 8 (dk_at dksX3_closesLevel_0 7 rfl rfl)
theorem dX3_closesLevel_9 : decode cX3_closesLevel 9 = .ok (.if_icmp .ge 29, 3) := dk_162 0 29 (dk_at dksX3_closesLevel_0 9 rfl rfl)
theorem dX3_closesLevel_12 : decode cX3_closesLevel 12 = .ok (.aload_n 0, 1) := dk_42 (dk_at dksX3_closesLevel_0 12 rfl rfl)
theorem dX3_closesLevel_13 : decode cX3_closesLevel 13 = .ok (.getfield 126, 3) := dk_180 0 126 (dk_at dksX3_closesLevel_0 13 rfl rfl)
theorem dX3_closesLevel_16 : decode cX3_closesLevel 16 = .ok (.iload_n 1, 1) := dk_27 (dk_at dksX3_closesLevel_0 16 rfl rfl)
theorem dX3_closesLevel_17 : decode cX3_closesLevel 17 = .ok (.aload_n 0, 1) := dk_42 (dk_at dksX3_closesLevel_0 17 rfl rfl)
theorem dX3_closesLevel_18 : decode cX3_closesLevel 18 = .ok (.getfield 120, 3) := dk_180 0 120 (dk_at dksX3_closesLevel_0 18 rfl rfl)
theorem dX3_closesLevel_21 : decode cX3_closesLevel 21 = .ok (.bipush 8, 2) := dk_16 8 (dk_at dksX3_closesLevel_0 21 rfl rfl)
theorem dX3_closesLevel_23 : decode cX3_closesLevel 23 = .ok (.aload_n 0, 1) := dk_42 (dk_at dksX3_closesLevel_0 23 rfl rfl)
theorem dX3_closesLevel_24 : decode cX3_closesLevel 24 = .ok (.getfield 359, 3) := dk_180 1 103 (dk_at dksX3_closesLevel_1 0 rfl rfl)
theorem dX3_closesLevel_27 : decode cX3_closesLevel 27 = .ok (.imul, 1) := dk_104 (dk_at dksX3_closesLevel_1 3 rfl rfl)
theorem dX3_closesLevel_28 : decode cX3_closesLevel 28 = .ok (.iload_n 1, 1) := dk_27 (dk_at dksX3_closesLevel_1 4 rfl rfl)
theorem dX3_closesLevel_29 : decode cX3_closesLevel 29 = .ok (.iadd, 1) := dk_96 (dk_at dksX3_closesLevel_1 5 rfl rfl)
theorem dX3_closesLevel_30 : decode cX3_closesLevel 30 = .ok (.iaload, 1) := dk_46 (dk_at dksX3_closesLevel_1 6 rfl rfl)
theorem dX3_closesLevel_31 : decode cX3_closesLevel 31 = .ok (.iastore, 1) := dk_79 (dk_at dksX3_closesLevel_1 7 rfl rfl)
theorem dX3_closesLevel_32 : decode cX3_closesLevel 32 = .ok (.iinc 1 1, 3) := dk_132 1 1 (dk_at dksX3_closesLevel_1 8 rfl rfl)
theorem dX3_closesLevel_35 : decode cX3_closesLevel 35 = .ok (.goto (-29), 3) := dk_167 255 227 (dk_at dksX3_closesLevel_1 11 rfl rfl)
theorem dX3_closesLevel_38 : decode cX3_closesLevel 38 = .ok (.aload_n 0, 1) := dk_42 (dk_at dksX3_closesLevel_1 14 rfl rfl)
theorem dX3_closesLevel_39 : decode cX3_closesLevel 39 = .ok (.dup, 1) := dk_89 (dk_at dksX3_closesLevel_1 15 rfl rfl)
theorem dX3_closesLevel_40 : decode cX3_closesLevel 40 = .ok (.getfield 359, 3) := dk_180 1 103 (dk_at dksX3_closesLevel_1 16 rfl rfl)
theorem dX3_closesLevel_43 : decode cX3_closesLevel 43 = .ok (.iconst 1, 1) := dk_4 (dk_at dksX3_closesLevel_1 19 rfl rfl)
theorem dX3_closesLevel_44 : decode cX3_closesLevel 44 = .ok (.isub, 1) := dk_100 (dk_at dksX3_closesLevel_1 20 rfl rfl)
theorem dX3_closesLevel_45 : decode cX3_closesLevel 45 = .ok (.putfield 359, 3) := dk_181 1 103 (dk_at dksX3_closesLevel_1 21 rfl rfl)
theorem dX3_closesLevel_48 : decode cX3_closesLevel 48 = .ok (.aload_n 0, 1) := dk_42 (dk_at dksX3_closesLevel_2 0 rfl rfl)
theorem dX3_closesLevel_49 : decode cX3_closesLevel 49 = .ok (.dup, 1) := dk_89 (dk_at dksX3_closesLevel_2 1 rfl rfl)
theorem dX3_closesLevel_50 : decode cX3_closesLevel 50 = .ok (.getfield 362, 3) := dk_180 1 106 (dk_at dksX3_closesLevel_2 2 rfl rfl)
theorem dX3_closesLevel_53 : decode cX3_closesLevel 53 = .ok (.iconst 1, 1) := dk_4 (dk_at dksX3_closesLevel_2 5 rfl rfl)
theorem dX3_closesLevel_54 : decode cX3_closesLevel 54 = .ok (.isub, 1) := dk_100 (dk_at dksX3_closesLevel_2 6 rfl rfl)
theorem dX3_closesLevel_55 : decode cX3_closesLevel 55 = .ok (.putfield 362, 3) := dk_181 1 106 (dk_at dksX3_closesLevel_2 7 rfl rfl)
theorem dX3_closesLevel_58 : decode cX3_closesLevel 58 = .ok (.aload_n 0, 1) := dk_42 (dk_at dksX3_closesLevel_2 10 rfl rfl)
theorem dX3_closesLevel_59 : decode cX3_closesLevel 59 = .ok (.invokevirtual 402, 3) := dk_182 1 146 (dk_at dksX3_closesLevel_2 11 rfl rfl)
theorem dX3_closesLevel_62 : decode cX3_closesLevel 62 = .ok (.return_, 1) := dk_177 (dk_at dksX3_closesLevel_2 14 rfl rfl)
abbrev cX3_foldsOr : ByteArray := prog_21_method_48_code
def yX3_foldsOr : MethodName := ⟨RX3, "foldsOr", "()V"⟩
def dkwX3_foldsOr_2 : List UInt8 := [180, 1, 103, 104, 27, 96, 2, 79, 132, 1, 1, 167, 255, 201, 177]
abbrev dktX3_foldsOr_2 : List UInt8 := dkwX3_foldsOr_2 ++ []
def dkwX3_foldsOr_1 : List UInt8 := [180, 0, 123, 16, 8, 42, 180, 1, 103, 104, 27, 96, 46, 128, 79, 42, 180, 0, 123, 16, 8, 42]
abbrev dktX3_foldsOr_1 : List UInt8 := dkwX3_foldsOr_1 ++ dktX3_foldsOr_2
def dkwX3_foldsOr_0 : List UInt8 := [3, 60, 27, 16, 8, 162, 0, 55, 42, 180, 0, 120, 16, 8, 42, 180, 1, 103, 104, 27, 96, 92, 46, 42]
abbrev dktX3_foldsOr_0 : List UInt8 := dkwX3_foldsOr_0 ++ dktX3_foldsOr_1
theorem dksX3_foldsOr_0 : cX3_foldsOr.data.toList.drop 0 = dktX3_foldsOr_0 := by decide +kernel
theorem dksX3_foldsOr_1 : cX3_foldsOr.data.toList.drop 24 = dktX3_foldsOr_1 := dk_seg dksX3_foldsOr_0 24 rfl rfl
theorem dksX3_foldsOr_2 : cX3_foldsOr.data.toList.drop 46 = dktX3_foldsOr_2 := dk_seg dksX3_foldsOr_1 22 rfl rfl
theorem dX3_foldsOr_0 : decode cX3_foldsOr 0 = .ok (.iconst 0, 1) := dk_3 (dk_at dksX3_foldsOr_0 0 rfl rfl)
theorem dX3_foldsOr_1 : decode cX3_foldsOr 1 = .ok (.istore_n 1, 1) := dk_60 (dk_at dksX3_foldsOr_0 1 rfl rfl)
theorem dX3_foldsOr_2 : decode cX3_foldsOr 2 = .ok (.iload_n 1, 1) := dk_27 (dk_at dksX3_foldsOr_0 2 rfl rfl)
theorem dX3_foldsOr_3 : decode cX3_foldsOr 3 = .ok (.bipush 8, 2) := dk_16 8 (dk_at dksX3_foldsOr_0 3 rfl rfl)
theorem dX3_foldsOr_5 : decode cX3_foldsOr 5 = .ok (.if_icmp .ge 55, 3) := dk_162 0 55 (dk_at dksX3_foldsOr_0 5 rfl rfl)
theorem dX3_foldsOr_8 : decode cX3_foldsOr 8 = .ok (.aload_n 0, 1) := dk_42 (dk_at dksX3_foldsOr_0 8 rfl rfl)
theorem dX3_foldsOr_9 : decode cX3_foldsOr 9 = .ok (.getfield 120, 3) := dk_180 0 120 (dk_at dksX3_foldsOr_0 9 rfl rfl)
theorem dX3_foldsOr_12 : decode cX3_foldsOr 12 = .ok (.bipush 8, 2) := dk_16 8 (dk_at dksX3_foldsOr_0 12 rfl rfl)
theorem dX3_foldsOr_14 : decode cX3_foldsOr 14 = .ok (.aload_n 0, 1) := dk_42 (dk_at dksX3_foldsOr_0 14 rfl rfl)
theorem dX3_foldsOr_15 : decode cX3_foldsOr 15 = .ok (.getfield 359, 3) := dk_180 1 103 (dk_at dksX3_foldsOr_0 15 rfl rfl)
theorem dX3_foldsOr_18 : decode cX3_foldsOr 18 = .ok (.imul, 1) := dk_104 (dk_at dksX3_foldsOr_0 18 rfl rfl)
theorem dX3_foldsOr_19 : decode cX3_foldsOr 19 = .ok (.iload_n 1, 1) := dk_27 (dk_at dksX3_foldsOr_0 19 rfl rfl)
theorem dX3_foldsOr_20 : decode cX3_foldsOr 20 = .ok (.iadd, 1) := dk_96 (dk_at dksX3_foldsOr_0 20 rfl rfl)
theorem dX3_foldsOr_21 : decode cX3_foldsOr 21 = .ok (.dup2, 1) := dk_92 (dk_at dksX3_foldsOr_0 21 rfl rfl)
theorem dX3_foldsOr_22 : decode cX3_foldsOr 22 = .ok (.iaload, 1) := dk_46 (dk_at dksX3_foldsOr_0 22 rfl rfl)
theorem dX3_foldsOr_23 : decode cX3_foldsOr 23 = .ok (.aload_n 0, 1) := dk_42 (dk_at dksX3_foldsOr_0 23 rfl rfl)
theorem dX3_foldsOr_24 : decode cX3_foldsOr 24 = .ok (.getfield 123, 3) := dk_180 0 123 (dk_at dksX3_foldsOr_1 0 rfl rfl)
theorem dX3_foldsOr_27 : decode cX3_foldsOr 27 = .ok (.bipush 8, 2) := dk_16 8 (dk_at dksX3_foldsOr_1 3 rfl rfl)
theorem dX3_foldsOr_29 : decode cX3_foldsOr 29 = .ok (.aload_n 0, 1) := dk_42 (dk_at dksX3_foldsOr_1 5 rfl rfl)
theorem dX3_foldsOr_30 : decode cX3_foldsOr 30 = .ok (.getfield 359, 3) := dk_180 1 103 (dk_at dksX3_foldsOr_1 6 rfl rfl)
theorem dX3_foldsOr_33 : decode cX3_foldsOr 33 = .ok (.imul, 1) := dk_104 (dk_at dksX3_foldsOr_1 9 rfl rfl)
theorem dX3_foldsOr_34 : decode cX3_foldsOr 34 = .ok (.iload_n 1, 1) := dk_27 (dk_at dksX3_foldsOr_1 10 rfl rfl)
theorem dX3_foldsOr_35 : decode cX3_foldsOr 35 = .ok (.iadd, 1) := dk_96 (dk_at dksX3_foldsOr_1 11 rfl rfl)
theorem dX3_foldsOr_36 : decode cX3_foldsOr 36 = .ok (.iaload, 1) := dk_46 (dk_at dksX3_foldsOr_1 12 rfl rfl)
theorem dX3_foldsOr_37 : decode cX3_foldsOr 37 = .ok (.ior, 1) := dk_128 (dk_at dksX3_foldsOr_1 13 rfl rfl)
theorem dX3_foldsOr_38 : decode cX3_foldsOr 38 = .ok (.iastore, 1) := dk_79 (dk_at dksX3_foldsOr_1 14 rfl rfl)
theorem dX3_foldsOr_39 : decode cX3_foldsOr 39 = .ok (.aload_n 0, 1) := dk_42 (dk_at dksX3_foldsOr_1 15 rfl rfl)
theorem dX3_foldsOr_40 : decode cX3_foldsOr 40 = .ok (.getfield 123, 3) := dk_180 0 123 (dk_at dksX3_foldsOr_1 16 rfl rfl)
theorem dX3_foldsOr_43 : decode cX3_foldsOr 43 = .ok (.bipush 8, 2) := dk_16 8 (dk_at dksX3_foldsOr_1 19 rfl rfl)
theorem dX3_foldsOr_45 : decode cX3_foldsOr 45 = .ok (.aload_n 0, 1) := dk_42 (dk_at dksX3_foldsOr_1 21 rfl rfl)
theorem dX3_foldsOr_46 : decode cX3_foldsOr 46 = .ok (.getfield 359, 3) := dk_180 1 103 (dk_at dksX3_foldsOr_2 0 rfl rfl)
theorem dX3_foldsOr_49 : decode cX3_foldsOr 49 = .ok (.imul, 1) := dk_104 (dk_at dksX3_foldsOr_2 3 rfl rfl)
theorem dX3_foldsOr_50 : decode cX3_foldsOr 50 = .ok (.iload_n 1, 1) := dk_27 (dk_at dksX3_foldsOr_2 4 rfl rfl)
theorem dX3_foldsOr_51 : decode cX3_foldsOr 51 = .ok (.iadd, 1) := dk_96 (dk_at dksX3_foldsOr_2 5 rfl rfl)
theorem dX3_foldsOr_52 : decode cX3_foldsOr 52 = .ok (.iconst (-1), 1) := dk_2 (dk_at dksX3_foldsOr_2 6 rfl rfl)
theorem dX3_foldsOr_53 : decode cX3_foldsOr 53 = .ok (.iastore, 1) := dk_79 (dk_at dksX3_foldsOr_2 7 rfl rfl)
theorem dX3_foldsOr_54 : decode cX3_foldsOr 54 = .ok (.iinc 1 1, 3) := dk_132 1 1 (dk_at dksX3_foldsOr_2 8 rfl rfl)
theorem dX3_foldsOr_57 : decode cX3_foldsOr 57 = .ok (.goto (-55), 3) := dk_167 255 201 (dk_at dksX3_foldsOr_2 11 rfl rfl)
theorem dX3_foldsOr_60 : decode cX3_foldsOr 60 = .ok (.return_, 1) := dk_177 (dk_at dksX3_foldsOr_2 14 rfl rfl)
abbrev cX3_rule : ByteArray := prog_21_method_59_code
def yX3_rule : MethodName := ⟨RX3, "rule", "()I"⟩
def dkwX3_rule_4 : List UInt8 := [180, 0, 218, 100, 167, 0, 9, 42, 180, 1, 171, 4, 100, 172]
abbrev dktX3_rule_4 : List UInt8 := dkwX3_rule_4 ++ []
def dkwX3_rule_3 : List UInt8 := [154, 0, 7, 4, 167, 0, 4, 3, 96, 181, 1, 171, 42, 180, 0, 218, 158, 0, 13, 16, 254, 42]
abbrev dktX3_rule_3 : List UInt8 := dkwX3_rule_3 ++ dktX3_rule_4
def dkwX3_rule_2 : List UInt8 := [3, 181, 0, 194, 42, 180, 0, 102, 42, 180, 0, 247, 27, 79, 42, 89, 180, 1, 171, 42, 180, 0, 218]
abbrev dktX3_rule_2 : List UInt8 := dkwX3_rule_2 ++ dktX3_rule_3
def dkwX3_rule_1 : List UInt8 := [60, 4, 61, 28, 153, 0, 19, 42, 27, 182, 1, 174, 132, 1, 1, 42, 182, 1, 90, 61, 167, 255, 239, 42]
abbrev dktX3_rule_1 : List UInt8 := dkwX3_rule_1 ++ dktX3_rule_2
def dkwX3_rule_0 : List UInt8 := [42, 180, 1, 171, 16, 6, 160, 0, 5, 2, 172, 42, 42, 180, 1, 171, 181, 0, 247, 42, 182, 1, 84, 3]
abbrev dktX3_rule_0 : List UInt8 := dkwX3_rule_0 ++ dktX3_rule_1
theorem dksX3_rule_0 : cX3_rule.data.toList.drop 0 = dktX3_rule_0 := by decide +kernel
theorem dksX3_rule_1 : cX3_rule.data.toList.drop 24 = dktX3_rule_1 := dk_seg dksX3_rule_0 24 rfl rfl
theorem dksX3_rule_2 : cX3_rule.data.toList.drop 48 = dktX3_rule_2 := dk_seg dksX3_rule_1 24 rfl rfl
theorem dksX3_rule_3 : cX3_rule.data.toList.drop 71 = dktX3_rule_3 := dk_seg dksX3_rule_2 23 rfl rfl
theorem dksX3_rule_4 : cX3_rule.data.toList.drop 93 = dktX3_rule_4 := dk_seg dksX3_rule_3 22 rfl rfl
theorem dX3_rule_0 : decode cX3_rule 0 = .ok (.aload_n 0, 1) := dk_42 (dk_at dksX3_rule_0 0 rfl rfl)
theorem dX3_rule_1 : decode cX3_rule 1 = .ok (.getfield 427, 3) := dk_180 1 171 (dk_at dksX3_rule_0 1 rfl rfl)
theorem dX3_rule_4 : decode cX3_rule 4 = .ok (.bipush 6, 2) := dk_16 6 (dk_at dksX3_rule_0 4 rfl rfl)
theorem dX3_rule_6 : decode cX3_rule 6 = .ok (.if_icmp .ne 5, 3) := dk_160 0 5 (dk_at dksX3_rule_0 6 rfl rfl)
theorem dX3_rule_9 : decode cX3_rule 9 = .ok (.iconst (-1), 1) := dk_2 (dk_at dksX3_rule_0 9 rfl rfl)
theorem dX3_rule_10 : decode cX3_rule 10 = .ok (.ireturn, 1) := dk_172 (dk_at dksX3_rule_0 10 rfl rfl)
theorem dX3_rule_11 : decode cX3_rule 11 = .ok (.aload_n 0, 1) := dk_42 (dk_at dksX3_rule_0 11 rfl rfl)
theorem dX3_rule_12 : decode cX3_rule 12 = .ok (.aload_n 0, 1) := dk_42 (dk_at dksX3_rule_0 12 rfl rfl)
theorem dX3_rule_13 : decode cX3_rule 13 = .ok (.getfield 427, 3) := dk_180 1 171 (dk_at dksX3_rule_0 13 rfl rfl)
theorem dX3_rule_16 : decode cX3_rule 16 = .ok (.putfield 247, 3) := dk_181 0 247 (dk_at dksX3_rule_0 16 rfl rfl)
theorem dX3_rule_19 : decode cX3_rule 19 = .ok (.aload_n 0, 1) := dk_42 (dk_at dksX3_rule_0 19 rfl rfl)
theorem dX3_rule_20 : decode cX3_rule 20 = .ok (.invokevirtual 340, 3) := dk_182 1 84 (dk_at dksX3_rule_0 20 rfl rfl)
theorem dX3_rule_23 : decode cX3_rule 23 = .ok (.iconst 0, 1) := dk_3 (dk_at dksX3_rule_0 23 rfl rfl)
theorem dX3_rule_24 : decode cX3_rule 24 = .ok (.istore_n 1, 1) := dk_60 (dk_at dksX3_rule_1 0 rfl rfl)
theorem dX3_rule_25 : decode cX3_rule 25 = .ok (.iconst 1, 1) := dk_4 (dk_at dksX3_rule_1 1 rfl rfl)
theorem dX3_rule_26 : decode cX3_rule 26 = .ok (.istore_n 2, 1) := dk_61 (dk_at dksX3_rule_1 2 rfl rfl)
theorem dX3_rule_27 : decode cX3_rule 27 = .ok (.iload_n 2, 1) := dk_28 (dk_at dksX3_rule_1 3 rfl rfl)
theorem dX3_rule_28 : decode cX3_rule 28 = .ok (.ifCond .eq 19, 3) := dk_153 0 19 (dk_at dksX3_rule_1 4 rfl rfl)
theorem dX3_rule_31 : decode cX3_rule 31 = .ok (.aload_n 0, 1) := dk_42 (dk_at dksX3_rule_1 7 rfl rfl)
theorem dX3_rule_32 : decode cX3_rule 32 = .ok (.iload_n 1, 1) := dk_27 (dk_at dksX3_rule_1 8 rfl rfl)
theorem dX3_rule_33 : decode cX3_rule 33 = .ok (.invokevirtual 430, 3) := dk_182 1 174 (dk_at dksX3_rule_1 9 rfl rfl)
theorem dX3_rule_36 : decode cX3_rule 36 = .ok (.iinc 1 1, 3) := dk_132 1 1 (dk_at dksX3_rule_1 12 rfl rfl)
theorem dX3_rule_39 : decode cX3_rule 39 = .ok (.aload_n 0, 1) := dk_42 (dk_at dksX3_rule_1 15 rfl rfl)
theorem dX3_rule_40 : decode cX3_rule 40 = .ok (.invokevirtual 346, 3) := dk_182 1 90 (dk_at dksX3_rule_1 16 rfl rfl)
theorem dX3_rule_43 : decode cX3_rule 43 = .ok (.istore_n 2, 1) := dk_61 (dk_at dksX3_rule_1 19 rfl rfl)
theorem dX3_rule_44 : decode cX3_rule 44 = .ok (.goto (-17), 3) := dk_167 255 239 (dk_at dksX3_rule_1 20 rfl rfl)
theorem dX3_rule_47 : decode cX3_rule 47 = .ok (.aload_n 0, 1) := dk_42 (dk_at dksX3_rule_1 23 rfl rfl)
theorem dX3_rule_48 : decode cX3_rule 48 = .ok (.iconst 0, 1) := dk_3 (dk_at dksX3_rule_2 0 rfl rfl)
theorem dX3_rule_49 : decode cX3_rule 49 = .ok (.putfield 194, 3) := dk_181 0 194 (dk_at dksX3_rule_2 1 rfl rfl)
theorem dX3_rule_52 : decode cX3_rule 52 = .ok (.aload_n 0, 1) := dk_42 (dk_at dksX3_rule_2 4 rfl rfl)
theorem dX3_rule_53 : decode cX3_rule 53 = .ok (.getfield 102, 3) := dk_180 0 102 (dk_at dksX3_rule_2 5 rfl rfl)
theorem dX3_rule_56 : decode cX3_rule 56 = .ok (.aload_n 0, 1) := dk_42 (dk_at dksX3_rule_2 8 rfl rfl)
theorem dX3_rule_57 : decode cX3_rule 57 = .ok (.getfield 247, 3) := dk_180 0 247 (dk_at dksX3_rule_2 9 rfl rfl)
theorem dX3_rule_60 : decode cX3_rule 60 = .ok (.iload_n 1, 1) := dk_27 (dk_at dksX3_rule_2 12 rfl rfl)
theorem dX3_rule_61 : decode cX3_rule 61 = .ok (.iastore, 1) := dk_79 (dk_at dksX3_rule_2 13 rfl rfl)
theorem dX3_rule_62 : decode cX3_rule 62 = .ok (.aload_n 0, 1) := dk_42 (dk_at dksX3_rule_2 14 rfl rfl)
theorem dX3_rule_63 : decode cX3_rule 63 = .ok (.dup, 1) := dk_89 (dk_at dksX3_rule_2 15 rfl rfl)
theorem dX3_rule_64 : decode cX3_rule 64 = .ok (.getfield 427, 3) := dk_180 1 171 (dk_at dksX3_rule_2 16 rfl rfl)
theorem dX3_rule_67 : decode cX3_rule 67 = .ok (.aload_n 0, 1) := dk_42 (dk_at dksX3_rule_2 19 rfl rfl)
theorem dX3_rule_68 : decode cX3_rule 68 = .ok (.getfield 218, 3) := dk_180 0 218 (dk_at dksX3_rule_2 20 rfl rfl)
theorem dX3_rule_71 : decode cX3_rule 71 = .ok (.ifCond .ne 7, 3) := dk_154 0 7 (dk_at dksX3_rule_3 0 rfl rfl)
theorem dX3_rule_74 : decode cX3_rule 74 = .ok (.iconst 1, 1) := dk_4 (dk_at dksX3_rule_3 3 rfl rfl)
theorem dX3_rule_75 : decode cX3_rule 75 = .ok (.goto 4, 3) := dk_167 0 4 (dk_at dksX3_rule_3 4 rfl rfl)
theorem dX3_rule_78 : decode cX3_rule 78 = .ok (.iconst 0, 1) := dk_3 (dk_at dksX3_rule_3 7 rfl rfl)
theorem dX3_rule_79 : decode cX3_rule 79 = .ok (.iadd, 1) := dk_96 (dk_at dksX3_rule_3 8 rfl rfl)
theorem dX3_rule_80 : decode cX3_rule 80 = .ok (.putfield 427, 3) := dk_181 1 171 (dk_at dksX3_rule_3 9 rfl rfl)
theorem dX3_rule_83 : decode cX3_rule 83 = .ok (.aload_n 0, 1) := dk_42 (dk_at dksX3_rule_3 12 rfl rfl)
theorem dX3_rule_84 : decode cX3_rule 84 = .ok (.getfield 218, 3) := dk_180 0 218 (dk_at dksX3_rule_3 13 rfl rfl)
theorem dX3_rule_87 : decode cX3_rule 87 = .ok (.ifCond .le 13, 3) := dk_158 0 13 (dk_at dksX3_rule_3 16 rfl rfl)
theorem dX3_rule_90 : decode cX3_rule 90 = .ok (.bipush (-2), 2) := dk_16 254 (dk_at dksX3_rule_3 19 rfl rfl)
theorem dX3_rule_92 : decode cX3_rule 92 = .ok (.aload_n 0, 1) := dk_42 (dk_at dksX3_rule_3 21 rfl rfl)
theorem dX3_rule_93 : decode cX3_rule 93 = .ok (.getfield 218, 3) := dk_180 0 218 (dk_at dksX3_rule_4 0 rfl rfl)
theorem dX3_rule_96 : decode cX3_rule 96 = .ok (.isub, 1) := dk_100 (dk_at dksX3_rule_4 3 rfl rfl)
theorem dX3_rule_97 : decode cX3_rule 97 = .ok (.goto 9, 3) := dk_167 0 9 (dk_at dksX3_rule_4 4 rfl rfl)
theorem dX3_rule_100 : decode cX3_rule 100 = .ok (.aload_n 0, 1) := dk_42 (dk_at dksX3_rule_4 7 rfl rfl)
theorem dX3_rule_101 : decode cX3_rule 101 = .ok (.getfield 427, 3) := dk_180 1 171 (dk_at dksX3_rule_4 8 rfl rfl)
theorem dX3_rule_104 : decode cX3_rule 104 = .ok (.iconst 1, 1) := dk_4 (dk_at dksX3_rule_4 11 rfl rfl)
theorem dX3_rule_105 : decode cX3_rule 105 = .ok (.isub, 1) := dk_100 (dk_at dksX3_rule_4 12 rfl rfl)
theorem dX3_rule_106 : decode cX3_rule 106 = .ok (.ireturn, 1) := dk_172 (dk_at dksX3_rule_4 13 rfl rfl)
abbrev cX3_ruleClause : ByteArray := prog_21_method_58_code
def yX3_ruleClause : MethodName := ⟨RX3, "ruleClause", "(I)V"⟩
def dkwX3_ruleClause_4 : List UInt8 := [182, 1, 165, 153, 0, 7, 42, 182, 1, 168, 42, 180, 0, 111, 29, 42, 180, 0, 250, 79, 177]
abbrev dktX3_ruleClause_4 : List UInt8 := dkwX3_ruleClause_4 ++ []
def dkwX3_ruleClause_3 : List UInt8 := [182, 1, 28, 42, 180, 0, 108, 29, 42, 180, 0, 250, 79, 42, 180, 0, 218, 154, 0, 17, 42, 19, 1, 163]
abbrev dktX3_ruleClause_3 : List UInt8 := dkwX3_ruleClause_3 ++ dktX3_ruleClause_4
def dkwX3_ruleClause_2 : List UInt8 := [181, 0, 221, 16, 12, 42, 180, 0, 247, 104, 27, 96, 62, 42, 180, 0, 105, 29, 42, 180, 0, 250, 79, 42]
abbrev dktX3_ruleClause_2 : List UInt8 := dkwX3_ruleClause_2 ++ dktX3_ruleClause_3
def dkwX3_ruleClause_1 : List UInt8 := [182, 1, 0, 177, 27, 16, 12, 160, 0, 10, 42, 7, 28, 182, 1, 0, 177, 42, 89, 180, 0, 221, 6, 96]
abbrev dktX3_ruleClause_1 : List UInt8 := dkwX3_ruleClause_1 ++ dktX3_ruleClause_2
def dkwX3_ruleClause_0 : List UInt8 := [42, 182, 0, 240, 42, 180, 0, 221, 61, 42, 19, 1, 161, 182, 0, 243, 154, 0, 10, 42, 3, 28]
abbrev dktX3_ruleClause_0 : List UInt8 := dkwX3_ruleClause_0 ++ dktX3_ruleClause_1
theorem dksX3_ruleClause_0 : cX3_ruleClause.data.toList.drop 0 = dktX3_ruleClause_0 := by decide +kernel
theorem dksX3_ruleClause_1 : cX3_ruleClause.data.toList.drop 22 = dktX3_ruleClause_1 := dk_seg dksX3_ruleClause_0 22 rfl rfl
theorem dksX3_ruleClause_2 : cX3_ruleClause.data.toList.drop 46 = dktX3_ruleClause_2 := dk_seg dksX3_ruleClause_1 24 rfl rfl
theorem dksX3_ruleClause_3 : cX3_ruleClause.data.toList.drop 70 = dktX3_ruleClause_3 := dk_seg dksX3_ruleClause_2 24 rfl rfl
theorem dksX3_ruleClause_4 : cX3_ruleClause.data.toList.drop 94 = dktX3_ruleClause_4 := dk_seg dksX3_ruleClause_3 24 rfl rfl
theorem dX3_ruleClause_0 : decode cX3_ruleClause 0 = .ok (.aload_n 0, 1) := dk_42 (dk_at dksX3_ruleClause_0 0 rfl rfl)
theorem dX3_ruleClause_1 : decode cX3_ruleClause 1 = .ok (.invokevirtual 240, 3) := dk_182 0 240 (dk_at dksX3_ruleClause_0 1 rfl rfl)
theorem dX3_ruleClause_4 : decode cX3_ruleClause 4 = .ok (.aload_n 0, 1) := dk_42 (dk_at dksX3_ruleClause_0 4 rfl rfl)
theorem dX3_ruleClause_5 : decode cX3_ruleClause 5 = .ok (.getfield 221, 3) := dk_180 0 221 (dk_at dksX3_ruleClause_0 5 rfl rfl)
theorem dX3_ruleClause_8 : decode cX3_ruleClause 8 = .ok (.istore_n 2, 1) := dk_61 (dk_at dksX3_ruleClause_0 8 rfl rfl)
theorem dX3_ruleClause_9 : decode cX3_ruleClause 9 = .ok (.aload_n 0, 1) := dk_42 (dk_at dksX3_ruleClause_0 9 rfl rfl)
theorem dX3_ruleClause_10 : decode cX3_ruleClause 10 = .ok (.ldc_w 417, 3) := dk_19 1 161 (dk_at dksX3_ruleClause_0 10 rfl rfl)
theorem dX3_ruleClause_13 : decode cX3_ruleClause 13 = .ok (.invokevirtual 243, 3) := dk_182 0 243 (dk_at dksX3_ruleClause_0 13 rfl rfl)
theorem dX3_ruleClause_16 : decode cX3_ruleClause 16 = .ok (.ifCond .ne 10, 3) := dk_154 0 10 (dk_at dksX3_ruleClause_0 16 rfl rfl)
theorem dX3_ruleClause_19 : decode cX3_ruleClause 19 = .ok (.aload_n 0, 1) := dk_42 (dk_at dksX3_ruleClause_0 19 rfl rfl)
theorem dX3_ruleClause_20 : decode cX3_ruleClause 20 = .ok (.iconst 0, 1) := dk_3 (dk_at dksX3_ruleClause_0 20 rfl rfl)
theorem dX3_ruleClause_21 : decode cX3_ruleClause 21 = .ok (.iload_n 2, 1) := dk_28 (dk_at dksX3_ruleClause_0 21 rfl rfl)
theorem dX3_ruleClause_22 : decode cX3_ruleClause 22 = .ok (.invokevirtual 256, 3) := dk_182 1 0 (dk_at dksX3_ruleClause_1 0 rfl rfl)
theorem dX3_ruleClause_25 : decode cX3_ruleClause 25 = .ok (.return_, 1) := dk_177 (dk_at dksX3_ruleClause_1 3 rfl rfl)
theorem dX3_ruleClause_26 : decode cX3_ruleClause 26 = .ok (.iload_n 1, 1) := dk_27 (dk_at dksX3_ruleClause_1 4 rfl rfl)
theorem dX3_ruleClause_27 : decode cX3_ruleClause 27 = .ok (.bipush 12, 2) := dk_16 12 (dk_at dksX3_ruleClause_1 5 rfl rfl)
theorem dX3_ruleClause_29 : decode cX3_ruleClause 29 = .ok (.if_icmp .ne 10, 3) := dk_160 0 10 (dk_at dksX3_ruleClause_1 7 rfl rfl)
theorem dX3_ruleClause_32 : decode cX3_ruleClause 32 = .ok (.aload_n 0, 1) := dk_42 (dk_at dksX3_ruleClause_1 10 rfl rfl)
theorem dX3_ruleClause_33 : decode cX3_ruleClause 33 = .ok (.iconst 4, 1) := dk_7 (dk_at dksX3_ruleClause_1 11 rfl rfl)
theorem dX3_ruleClause_34 : decode cX3_ruleClause 34 = .ok (.iload_n 2, 1) := dk_28 (dk_at dksX3_ruleClause_1 12 rfl rfl)
theorem dX3_ruleClause_35 : decode cX3_ruleClause 35 = .ok (.invokevirtual 256, 3) := dk_182 1 0 (dk_at dksX3_ruleClause_1 13 rfl rfl)
theorem dX3_ruleClause_38 : decode cX3_ruleClause 38 = .ok (.return_, 1) := dk_177 (dk_at dksX3_ruleClause_1 16 rfl rfl)
theorem dX3_ruleClause_39 : decode cX3_ruleClause 39 = .ok (.aload_n 0, 1) := dk_42 (dk_at dksX3_ruleClause_1 17 rfl rfl)
theorem dX3_ruleClause_40 : decode cX3_ruleClause 40 = .ok (.dup, 1) := dk_89 (dk_at dksX3_ruleClause_1 18 rfl rfl)
theorem dX3_ruleClause_41 : decode cX3_ruleClause 41 = .ok (.getfield 221, 3) := dk_180 0 221 (dk_at dksX3_ruleClause_1 19 rfl rfl)
theorem dX3_ruleClause_44 : decode cX3_ruleClause 44 = .ok (.iconst 3, 1) := dk_6 (dk_at dksX3_ruleClause_1 22 rfl rfl)
theorem dX3_ruleClause_45 : decode cX3_ruleClause 45 = .ok (.iadd, 1) := dk_96 (dk_at dksX3_ruleClause_1 23 rfl rfl)
theorem dX3_ruleClause_46 : decode cX3_ruleClause 46 = .ok (.putfield 221, 3) := dk_181 0 221 (dk_at dksX3_ruleClause_2 0 rfl rfl)
theorem dX3_ruleClause_49 : decode cX3_ruleClause 49 = .ok (.bipush 12, 2) := dk_16 12 (dk_at dksX3_ruleClause_2 3 rfl rfl)
theorem dX3_ruleClause_51 : decode cX3_ruleClause 51 = .ok (.aload_n 0, 1) := dk_42 (dk_at dksX3_ruleClause_2 5 rfl rfl)
theorem dX3_ruleClause_52 : decode cX3_ruleClause 52 = .ok (.getfield 247, 3) := dk_180 0 247 (dk_at dksX3_ruleClause_2 6 rfl rfl)
theorem dX3_ruleClause_55 : decode cX3_ruleClause 55 = .ok (.imul, 1) := dk_104 (dk_at dksX3_ruleClause_2 9 rfl rfl)
theorem dX3_ruleClause_56 : decode cX3_ruleClause 56 = .ok (.iload_n 1, 1) := dk_27 (dk_at dksX3_ruleClause_2 10 rfl rfl)
theorem dX3_ruleClause_57 : decode cX3_ruleClause 57 = .ok (.iadd, 1) := dk_96 (dk_at dksX3_ruleClause_2 11 rfl rfl)
theorem dX3_ruleClause_58 : decode cX3_ruleClause 58 = .ok (.istore_n 3, 1) := dk_62 (dk_at dksX3_ruleClause_2 12 rfl rfl)
theorem dX3_ruleClause_59 : decode cX3_ruleClause 59 = .ok (.aload_n 0, 1) := dk_42 (dk_at dksX3_ruleClause_2 13 rfl rfl)
theorem dX3_ruleClause_60 : decode cX3_ruleClause 60 = .ok (.getfield 105, 3) := dk_180 0 105 (dk_at dksX3_ruleClause_2 14 rfl rfl)
theorem dX3_ruleClause_63 : decode cX3_ruleClause 63 = .ok (.iload_n 3, 1) := dk_29 (dk_at dksX3_ruleClause_2 17 rfl rfl)
theorem dX3_ruleClause_64 : decode cX3_ruleClause 64 = .ok (.aload_n 0, 1) := dk_42 (dk_at dksX3_ruleClause_2 18 rfl rfl)
theorem dX3_ruleClause_65 : decode cX3_ruleClause 65 = .ok (.getfield 250, 3) := dk_180 0 250 (dk_at dksX3_ruleClause_2 19 rfl rfl)
theorem dX3_ruleClause_68 : decode cX3_ruleClause 68 = .ok (.iastore, 1) := dk_79 (dk_at dksX3_ruleClause_2 22 rfl rfl)
theorem dX3_ruleClause_69 : decode cX3_ruleClause 69 = .ok (.aload_n 0, 1) := dk_42 (dk_at dksX3_ruleClause_2 23 rfl rfl)
theorem dX3_ruleClause_70 : decode cX3_ruleClause 70 = .ok (.invokevirtual 284, 3) := dk_182 1 28 (dk_at dksX3_ruleClause_3 0 rfl rfl)
theorem dX3_ruleClause_73 : decode cX3_ruleClause 73 = .ok (.aload_n 0, 1) := dk_42 (dk_at dksX3_ruleClause_3 3 rfl rfl)
theorem dX3_ruleClause_74 : decode cX3_ruleClause 74 = .ok (.getfield 108, 3) := dk_180 0 108 (dk_at dksX3_ruleClause_3 4 rfl rfl)
theorem dX3_ruleClause_77 : decode cX3_ruleClause 77 = .ok (.iload_n 3, 1) := dk_29 (dk_at dksX3_ruleClause_3 7 rfl rfl)
theorem dX3_ruleClause_78 : decode cX3_ruleClause 78 = .ok (.aload_n 0, 1) := dk_42 (dk_at dksX3_ruleClause_3 8 rfl rfl)
theorem dX3_ruleClause_79 : decode cX3_ruleClause 79 = .ok (.getfield 250, 3) := dk_180 0 250 (dk_at dksX3_ruleClause_3 9 rfl rfl)
theorem dX3_ruleClause_82 : decode cX3_ruleClause 82 = .ok (.iastore, 1) := dk_79 (dk_at dksX3_ruleClause_3 12 rfl rfl)
theorem dX3_ruleClause_83 : decode cX3_ruleClause 83 = .ok (.aload_n 0, 1) := dk_42 (dk_at dksX3_ruleClause_3 13 rfl rfl)
theorem dX3_ruleClause_84 : decode cX3_ruleClause 84 = .ok (.getfield 218, 3) := dk_180 0 218 (dk_at dksX3_ruleClause_3 14 rfl rfl)
theorem dX3_ruleClause_87 : decode cX3_ruleClause 87 = .ok (.ifCond .ne 17, 3) := dk_154 0 17 (dk_at dksX3_ruleClause_3 17 rfl rfl)
theorem dX3_ruleClause_90 : decode cX3_ruleClause 90 = .ok (.aload_n 0, 1) := dk_42 (dk_at dksX3_ruleClause_3 20 rfl rfl)
theorem dX3_ruleClause_91 : decode cX3_ruleClause 91 = .ok (.ldc_w 419, 3) := dk_19 1 163 (dk_at dksX3_ruleClause_3 21 rfl rfl)
theorem dX3_ruleClause_94 : decode cX3_ruleClause 94 = .ok (.invokevirtual 421, 3) := dk_182 1 165 (dk_at dksX3_ruleClause_4 0 rfl rfl)
theorem dX3_ruleClause_97 : decode cX3_ruleClause 97 = .ok (.ifCond .eq 7, 3) := dk_153 0 7 (dk_at dksX3_ruleClause_4 3 rfl rfl)
theorem dX3_ruleClause_100 : decode cX3_ruleClause 100 = .ok (.aload_n 0, 1) := dk_42 (dk_at dksX3_ruleClause_4 6 rfl rfl)
theorem dX3_ruleClause_101 : decode cX3_ruleClause 101 = .ok (.invokevirtual 424, 3) := dk_182 1 168 (dk_at dksX3_ruleClause_4 7 rfl rfl)
theorem dX3_ruleClause_104 : decode cX3_ruleClause 104 = .ok (.aload_n 0, 1) := dk_42 (dk_at dksX3_ruleClause_4 10 rfl rfl)
theorem dX3_ruleClause_105 : decode cX3_ruleClause 105 = .ok (.getfield 111, 3) := dk_180 0 111 (dk_at dksX3_ruleClause_4 11 rfl rfl)
theorem dX3_ruleClause_108 : decode cX3_ruleClause 108 = .ok (.iload_n 3, 1) := dk_29 (dk_at dksX3_ruleClause_4 14 rfl rfl)
theorem dX3_ruleClause_109 : decode cX3_ruleClause 109 = .ok (.aload_n 0, 1) := dk_42 (dk_at dksX3_ruleClause_4 15 rfl rfl)
theorem dX3_ruleClause_110 : decode cX3_ruleClause 110 = .ok (.getfield 250, 3) := dk_180 0 250 (dk_at dksX3_ruleClause_4 16 rfl rfl)
theorem dX3_ruleClause_113 : decode cX3_ruleClause 113 = .ok (.iastore, 1) := dk_79 (dk_at dksX3_ruleClause_4 19 rfl rfl)
theorem dX3_ruleClause_114 : decode cX3_ruleClause 114 = .ok (.return_, 1) := dk_177 (dk_at dksX3_ruleClause_4 20 rfl rfl)
abbrev cX3_sum : ByteArray := prog_21_method_28_code
def yX3_sum : MethodName := ⟨RX3, "sum", "()V"⟩
def dkwX3_sum_2 : List UInt8 := [180, 0, 221, 4, 96, 181, 0, 221, 42, 182, 1, 25, 42, 27, 3, 182, 1, 15, 167, 255, 196, 177]
abbrev dktX3_sum_2 : List UInt8 := dkwX3_sum_2 ++ []
def dkwX3_sum_1 : List UInt8 := [16, 45, 160, 0, 41, 42, 182, 0, 224, 16, 43, 160, 0, 7, 5, 167, 0, 4, 6, 60, 42, 89]
abbrev dktX3_sum_1 : List UInt8 := dkwX3_sum_1 ++ dktX3_sum_2
def dkwX3_sum_0 : List UInt8 := [42, 182, 1, 25, 42, 180, 0, 218, 154, 0, 59, 42, 182, 0, 224, 16, 43, 159, 0, 12, 42, 182, 0, 224]
abbrev dktX3_sum_0 : List UInt8 := dkwX3_sum_0 ++ dktX3_sum_1
theorem dksX3_sum_0 : cX3_sum.data.toList.drop 0 = dktX3_sum_0 := by decide +kernel
theorem dksX3_sum_1 : cX3_sum.data.toList.drop 24 = dktX3_sum_1 := dk_seg dksX3_sum_0 24 rfl rfl
theorem dksX3_sum_2 : cX3_sum.data.toList.drop 46 = dktX3_sum_2 := dk_seg dksX3_sum_1 22 rfl rfl
theorem dX3_sum_0 : decode cX3_sum 0 = .ok (.aload_n 0, 1) := dk_42 (dk_at dksX3_sum_0 0 rfl rfl)
theorem dX3_sum_1 : decode cX3_sum 1 = .ok (.invokevirtual 281, 3) := dk_182 1 25 (dk_at dksX3_sum_0 1 rfl rfl)
theorem dX3_sum_4 : decode cX3_sum 4 = .ok (.aload_n 0, 1) := dk_42 (dk_at dksX3_sum_0 4 rfl rfl)
theorem dX3_sum_5 : decode cX3_sum 5 = .ok (.getfield 218, 3) := dk_180 0 218 (dk_at dksX3_sum_0 5 rfl rfl)
theorem dX3_sum_8 : decode cX3_sum 8 = .ok (.ifCond .ne 59, 3) := dk_154 0 59 (dk_at dksX3_sum_0 8 rfl rfl)
theorem dX3_sum_11 : decode cX3_sum 11 = .ok (.aload_n 0, 1) := dk_42 (dk_at dksX3_sum_0 11 rfl rfl)
theorem dX3_sum_12 : decode cX3_sum 12 = .ok (.invokevirtual 224, 3) := dk_182 0 224 (dk_at dksX3_sum_0 12 rfl rfl)
theorem dX3_sum_15 : decode cX3_sum 15 = .ok (.bipush 43, 2) := dk_16 43 (dk_at dksX3_sum_0 15 rfl rfl)
theorem dX3_sum_17 : decode cX3_sum 17 = .ok (.if_icmp .eq 12, 3) := dk_159 0 12 (dk_at dksX3_sum_0 17 rfl rfl)
theorem dX3_sum_20 : decode cX3_sum 20 = .ok (.aload_n 0, 1) := dk_42 (dk_at dksX3_sum_0 20 rfl rfl)
theorem dX3_sum_21 : decode cX3_sum 21 = .ok (.invokevirtual 224, 3) := dk_182 0 224 (dk_at dksX3_sum_0 21 rfl rfl)
theorem dX3_sum_24 : decode cX3_sum 24 = .ok (.bipush 45, 2) := dk_16 45 (dk_at dksX3_sum_1 0 rfl rfl)
theorem dX3_sum_26 : decode cX3_sum 26 = .ok (.if_icmp .ne 41, 3) := dk_160 0 41 (dk_at dksX3_sum_1 2 rfl rfl)
theorem dX3_sum_29 : decode cX3_sum 29 = .ok (.aload_n 0, 1) := dk_42 (dk_at dksX3_sum_1 5 rfl rfl)
theorem dX3_sum_30 : decode cX3_sum 30 = .ok (.invokevirtual 224, 3) := dk_182 0 224 (dk_at dksX3_sum_1 6 rfl rfl)
theorem dX3_sum_33 : decode cX3_sum 33 = .ok (.bipush 43, 2) := dk_16 43 (dk_at dksX3_sum_1 9 rfl rfl)
theorem dX3_sum_35 : decode cX3_sum 35 = .ok (.if_icmp .ne 7, 3) := dk_160 0 7 (dk_at dksX3_sum_1 11 rfl rfl)
theorem dX3_sum_38 : decode cX3_sum 38 = .ok (.iconst 2, 1) := dk_5 (dk_at dksX3_sum_1 14 rfl rfl)
theorem dX3_sum_39 : decode cX3_sum 39 = .ok (.goto 4, 3) := dk_167 0 4 (dk_at dksX3_sum_1 15 rfl rfl)
theorem dX3_sum_42 : decode cX3_sum 42 = .ok (.iconst 3, 1) := dk_6 (dk_at dksX3_sum_1 18 rfl rfl)
theorem dX3_sum_43 : decode cX3_sum 43 = .ok (.istore_n 1, 1) := dk_60 (dk_at dksX3_sum_1 19 rfl rfl)
theorem dX3_sum_44 : decode cX3_sum 44 = .ok (.aload_n 0, 1) := dk_42 (dk_at dksX3_sum_1 20 rfl rfl)
theorem dX3_sum_45 : decode cX3_sum 45 = .ok (.dup, 1) := dk_89 (dk_at dksX3_sum_1 21 rfl rfl)
theorem dX3_sum_46 : decode cX3_sum 46 = .ok (.getfield 221, 3) := dk_180 0 221 (dk_at dksX3_sum_2 0 rfl rfl)
theorem dX3_sum_49 : decode cX3_sum 49 = .ok (.iconst 1, 1) := dk_4 (dk_at dksX3_sum_2 3 rfl rfl)
theorem dX3_sum_50 : decode cX3_sum 50 = .ok (.iadd, 1) := dk_96 (dk_at dksX3_sum_2 4 rfl rfl)
theorem dX3_sum_51 : decode cX3_sum 51 = .ok (.putfield 221, 3) := dk_181 0 221 (dk_at dksX3_sum_2 5 rfl rfl)
theorem dX3_sum_54 : decode cX3_sum 54 = .ok (.aload_n 0, 1) := dk_42 (dk_at dksX3_sum_2 8 rfl rfl)
theorem dX3_sum_55 : decode cX3_sum 55 = .ok (.invokevirtual 281, 3) := dk_182 1 25 (dk_at dksX3_sum_2 9 rfl rfl)
theorem dX3_sum_58 : decode cX3_sum 58 = .ok (.aload_n 0, 1) := dk_42 (dk_at dksX3_sum_2 12 rfl rfl)
theorem dX3_sum_59 : decode cX3_sum 59 = .ok (.iload_n 1, 1) := dk_27 (dk_at dksX3_sum_2 13 rfl rfl)
theorem dX3_sum_60 : decode cX3_sum 60 = .ok (.iconst 0, 1) := dk_3 (dk_at dksX3_sum_2 14 rfl rfl)
theorem dX3_sum_61 : decode cX3_sum 61 = .ok (.invokevirtual 271, 3) := dk_182 1 15 (dk_at dksX3_sum_2 15 rfl rfl)
theorem dX3_sum_64 : decode cX3_sum 64 = .ok (.goto (-60), 3) := dk_167 255 196 (dk_at dksX3_sum_2 18 rfl rfl)
theorem dX3_sum_67 : decode cX3_sum 67 = .ok (.return_, 1) := dk_177 (dk_at dksX3_sum_2 21 rfl rfl)
abbrev cX3_term : ByteArray := prog_21_method_27_code
def yX3_term : MethodName := ⟨RX3, "term", "()V"⟩
def dkwX3_term_4 : List UInt8 := [182, 0, 240, 167, 255, 167, 177]
abbrev dktX3_term_4 : List UInt8 := dkwX3_term_4 ++ []
def dkwX3_term_3 : List UInt8 := [60, 42, 89, 180, 0, 221, 4, 96, 181, 0, 221, 42, 182, 1, 22, 42, 27, 3, 182, 1, 15, 42]
abbrev dktX3_term_3 : List UInt8 := dkwX3_term_3 ++ dktX3_term_4
def dkwX3_term_2 : List UInt8 := [160, 0, 8, 16, 13, 167, 0, 19, 42, 182, 0, 224, 16, 47, 160, 0, 8, 16, 14, 167, 0, 5, 16, 15]
abbrev dktX3_term_2 : List UInt8 := dkwX3_term_2 ++ dktX3_term_3
def dkwX3_term_1 : List UInt8 := [42, 182, 0, 224, 16, 47, 159, 0, 12, 42, 182, 0, 224, 16, 37, 160, 0, 61, 42, 182, 0, 224, 16, 42]
abbrev dktX3_term_1 : List UInt8 := dkwX3_term_1 ++ dktX3_term_2
def dkwX3_term_0 : List UInt8 := [42, 182, 1, 22, 42, 182, 0, 240, 42, 180, 0, 218, 154, 0, 88, 42, 182, 0, 224, 16, 42, 159, 0, 21]
abbrev dktX3_term_0 : List UInt8 := dkwX3_term_0 ++ dktX3_term_1
theorem dksX3_term_0 : cX3_term.data.toList.drop 0 = dktX3_term_0 := by decide +kernel
theorem dksX3_term_1 : cX3_term.data.toList.drop 24 = dktX3_term_1 := dk_seg dksX3_term_0 24 rfl rfl
theorem dksX3_term_2 : cX3_term.data.toList.drop 48 = dktX3_term_2 := dk_seg dksX3_term_1 24 rfl rfl
theorem dksX3_term_3 : cX3_term.data.toList.drop 72 = dktX3_term_3 := dk_seg dksX3_term_2 24 rfl rfl
theorem dksX3_term_4 : cX3_term.data.toList.drop 94 = dktX3_term_4 := dk_seg dksX3_term_3 22 rfl rfl
theorem dX3_term_0 : decode cX3_term 0 = .ok (.aload_n 0, 1) := dk_42 (dk_at dksX3_term_0 0 rfl rfl)
theorem dX3_term_1 : decode cX3_term 1 = .ok (.invokevirtual 278, 3) := dk_182 1 22 (dk_at dksX3_term_0 1 rfl rfl)
theorem dX3_term_4 : decode cX3_term 4 = .ok (.aload_n 0, 1) := dk_42 (dk_at dksX3_term_0 4 rfl rfl)
theorem dX3_term_5 : decode cX3_term 5 = .ok (.invokevirtual 240, 3) := dk_182 0 240 (dk_at dksX3_term_0 5 rfl rfl)
theorem dX3_term_8 : decode cX3_term 8 = .ok (.aload_n 0, 1) := dk_42 (dk_at dksX3_term_0 8 rfl rfl)
theorem dX3_term_9 : decode cX3_term 9 = .ok (.getfield 218, 3) := dk_180 0 218 (dk_at dksX3_term_0 9 rfl rfl)
theorem dX3_term_12 : decode cX3_term 12 = .ok (.ifCond .ne 88, 3) := dk_154 0 88 (dk_at dksX3_term_0 12 rfl rfl)
theorem dX3_term_15 : decode cX3_term 15 = .ok (.aload_n 0, 1) := dk_42 (dk_at dksX3_term_0 15 rfl rfl)
theorem dX3_term_16 : decode cX3_term 16 = .ok (.invokevirtual 224, 3) := dk_182 0 224 (dk_at dksX3_term_0 16 rfl rfl)
theorem dX3_term_19 : decode cX3_term 19 = .ok (.bipush 42, 2) := dk_16 42 (dk_at dksX3_term_0 19 rfl rfl)
theorem dX3_term_21 : decode cX3_term 21 = .ok (.if_icmp .eq 21, 3) := dk_159 0 21 (dk_at dksX3_term_0 21 rfl rfl)
theorem dX3_term_24 : decode cX3_term 24 = .ok (.aload_n 0, 1) := dk_42 (dk_at dksX3_term_1 0 rfl rfl)
theorem dX3_term_25 : decode cX3_term 25 = .ok (.invokevirtual 224, 3) := dk_182 0 224 (dk_at dksX3_term_1 1 rfl rfl)
theorem dX3_term_28 : decode cX3_term 28 = .ok (.bipush 47, 2) := dk_16 47 (dk_at dksX3_term_1 4 rfl rfl)
theorem dX3_term_30 : decode cX3_term 30 = .ok (.if_icmp .eq 12, 3) := dk_159 0 12 (dk_at dksX3_term_1 6 rfl rfl)
theorem dX3_term_33 : decode cX3_term 33 = .ok (.aload_n 0, 1) := dk_42 (dk_at dksX3_term_1 9 rfl rfl)
theorem dX3_term_34 : decode cX3_term 34 = .ok (.invokevirtual 224, 3) := dk_182 0 224 (dk_at dksX3_term_1 10 rfl rfl)
theorem dX3_term_37 : decode cX3_term 37 = .ok (.bipush 37, 2) := dk_16 37 (dk_at dksX3_term_1 13 rfl rfl)
theorem dX3_term_39 : decode cX3_term 39 = .ok (.if_icmp .ne 61, 3) := dk_160 0 61 (dk_at dksX3_term_1 15 rfl rfl)
theorem dX3_term_42 : decode cX3_term 42 = .ok (.aload_n 0, 1) := dk_42 (dk_at dksX3_term_1 18 rfl rfl)
theorem dX3_term_43 : decode cX3_term 43 = .ok (.invokevirtual 224, 3) := dk_182 0 224 (dk_at dksX3_term_1 19 rfl rfl)
theorem dX3_term_46 : decode cX3_term 46 = .ok (.bipush 42, 2) := dk_16 42 (dk_at dksX3_term_1 22 rfl rfl)
theorem dX3_term_48 : decode cX3_term 48 = .ok (.if_icmp .ne 8, 3) := dk_160 0 8 (dk_at dksX3_term_2 0 rfl rfl)
theorem dX3_term_51 : decode cX3_term 51 = .ok (.bipush 13, 2) := dk_16 13 (dk_at dksX3_term_2 3 rfl rfl)
theorem dX3_term_53 : decode cX3_term 53 = .ok (.goto 19, 3) := dk_167 0 19 (dk_at dksX3_term_2 5 rfl rfl)
theorem dX3_term_56 : decode cX3_term 56 = .ok (.aload_n 0, 1) := dk_42 (dk_at dksX3_term_2 8 rfl rfl)
theorem dX3_term_57 : decode cX3_term 57 = .ok (.invokevirtual 224, 3) := dk_182 0 224 (dk_at dksX3_term_2 9 rfl rfl)
theorem dX3_term_60 : decode cX3_term 60 = .ok (.bipush 47, 2) := dk_16 47 (dk_at dksX3_term_2 12 rfl rfl)
theorem dX3_term_62 : decode cX3_term 62 = .ok (.if_icmp .ne 8, 3) := dk_160 0 8 (dk_at dksX3_term_2 14 rfl rfl)
theorem dX3_term_65 : decode cX3_term 65 = .ok (.bipush 14, 2) := dk_16 14 (dk_at dksX3_term_2 17 rfl rfl)
theorem dX3_term_67 : decode cX3_term 67 = .ok (.goto 5, 3) := dk_167 0 5 (dk_at dksX3_term_2 19 rfl rfl)
theorem dX3_term_70 : decode cX3_term 70 = .ok (.bipush 15, 2) := dk_16 15 (dk_at dksX3_term_2 22 rfl rfl)
theorem dX3_term_72 : decode cX3_term 72 = .ok (.istore_n 1, 1) := dk_60 (dk_at dksX3_term_3 0 rfl rfl)
theorem dX3_term_73 : decode cX3_term 73 = .ok (.aload_n 0, 1) := dk_42 (dk_at dksX3_term_3 1 rfl rfl)
theorem dX3_term_74 : decode cX3_term 74 = .ok (.dup, 1) := dk_89 (dk_at dksX3_term_3 2 rfl rfl)
theorem dX3_term_75 : decode cX3_term 75 = .ok (.getfield 221, 3) := dk_180 0 221 (dk_at dksX3_term_3 3 rfl rfl)
theorem dX3_term_78 : decode cX3_term 78 = .ok (.iconst 1, 1) := dk_4 (dk_at dksX3_term_3 6 rfl rfl)
theorem dX3_term_79 : decode cX3_term 79 = .ok (.iadd, 1) := dk_96 (dk_at dksX3_term_3 7 rfl rfl)
theorem dX3_term_80 : decode cX3_term 80 = .ok (.putfield 221, 3) := dk_181 0 221 (dk_at dksX3_term_3 8 rfl rfl)
theorem dX3_term_83 : decode cX3_term 83 = .ok (.aload_n 0, 1) := dk_42 (dk_at dksX3_term_3 11 rfl rfl)
theorem dX3_term_84 : decode cX3_term 84 = .ok (.invokevirtual 278, 3) := dk_182 1 22 (dk_at dksX3_term_3 12 rfl rfl)
theorem dX3_term_87 : decode cX3_term 87 = .ok (.aload_n 0, 1) := dk_42 (dk_at dksX3_term_3 15 rfl rfl)
theorem dX3_term_88 : decode cX3_term 88 = .ok (.iload_n 1, 1) := dk_27 (dk_at dksX3_term_3 16 rfl rfl)
theorem dX3_term_89 : decode cX3_term 89 = .ok (.iconst 0, 1) := dk_3 (dk_at dksX3_term_3 17 rfl rfl)
theorem dX3_term_90 : decode cX3_term 90 = .ok (.invokevirtual 271, 3) := dk_182 1 15 (dk_at dksX3_term_3 18 rfl rfl)
theorem dX3_term_93 : decode cX3_term 93 = .ok (.aload_n 0, 1) := dk_42 (dk_at dksX3_term_3 21 rfl rfl)
theorem dX3_term_94 : decode cX3_term 94 = .ok (.invokevirtual 240, 3) := dk_182 0 240 (dk_at dksX3_term_4 0 rfl rfl)
theorem dX3_term_97 : decode cX3_term 97 = .ok (.goto (-89), 3) := dk_167 255 167 (dk_at dksX3_term_4 3 rfl rfl)
theorem dX3_term_100 : decode cX3_term 100 = .ok (.return_, 1) := dk_177 (dk_at dksX3_term_4 6 rfl rfl)
abbrev cX3_value : ByteArray := prog_21_method_26_code
def yX3_value : MethodName := ⟨RX3, "value", "()V"⟩
def dkwX3_value_4 : List UInt8 := [181, 0, 221, 42, 4, 28, 182, 1, 15, 177]
abbrev dktX3_value_4 : List UInt8 := dkwX3_value_4 ++ []
def dkwX3_value_3 : List UInt8 := [3, 27, 182, 1, 0, 177, 42, 27, 182, 1, 12, 42, 89, 180, 0, 221, 28, 184, 1, 18, 182, 0, 231, 96]
abbrev dktX3_value_3 : List UInt8 := dkwX3_value_3 ++ dktX3_value_4
def dkwX3_value_2 : List UInt8 := [184, 1, 18, 182, 0, 243, 154, 0, 9, 132, 2, 1, 167, 255, 234, 28, 42, 180, 0, 88, 160, 0, 10, 42]
abbrev dktX3_value_2 : List UInt8 := dkwX3_value_2 ++ dktX3_value_3
def dkwX3_value_1 : List UInt8 := [42, 27, 182, 1, 12, 42, 3, 28, 182, 1, 15, 177, 3, 61, 28, 42, 180, 0, 88, 162, 0, 20, 42, 28]
abbrev dktX3_value_1 : List UInt8 := dkwX3_value_1 ++ dktX3_value_2
def dkwX3_value_0 : List UInt8 := [42, 182, 0, 240, 42, 180, 0, 221, 60, 42, 182, 1, 4, 153, 0, 23, 42, 19, 1, 7, 182, 1, 8, 61]
abbrev dktX3_value_0 : List UInt8 := dkwX3_value_0 ++ dktX3_value_1
theorem dksX3_value_0 : cX3_value.data.toList.drop 0 = dktX3_value_0 := by decide +kernel
theorem dksX3_value_1 : cX3_value.data.toList.drop 24 = dktX3_value_1 := dk_seg dksX3_value_0 24 rfl rfl
theorem dksX3_value_2 : cX3_value.data.toList.drop 48 = dktX3_value_2 := dk_seg dksX3_value_1 24 rfl rfl
theorem dksX3_value_3 : cX3_value.data.toList.drop 72 = dktX3_value_3 := dk_seg dksX3_value_2 24 rfl rfl
theorem dksX3_value_4 : cX3_value.data.toList.drop 96 = dktX3_value_4 := dk_seg dksX3_value_3 24 rfl rfl
theorem dX3_value_0 : decode cX3_value 0 = .ok (.aload_n 0, 1) := dk_42 (dk_at dksX3_value_0 0 rfl rfl)
theorem dX3_value_1 : decode cX3_value 1 = .ok (.invokevirtual 240, 3) := dk_182 0 240 (dk_at dksX3_value_0 1 rfl rfl)
theorem dX3_value_4 : decode cX3_value 4 = .ok (.aload_n 0, 1) := dk_42 (dk_at dksX3_value_0 4 rfl rfl)
theorem dX3_value_5 : decode cX3_value 5 = .ok (.getfield 221, 3) := dk_180 0 221 (dk_at dksX3_value_0 5 rfl rfl)
theorem dX3_value_8 : decode cX3_value 8 = .ok (.istore_n 1, 1) := dk_60 (dk_at dksX3_value_0 8 rfl rfl)
theorem dX3_value_9 : decode cX3_value 9 = .ok (.aload_n 0, 1) := dk_42 (dk_at dksX3_value_0 9 rfl rfl)
theorem dX3_value_10 : decode cX3_value 10 = .ok (.invokevirtual 260, 3) := dk_182 1 4 (dk_at dksX3_value_0 10 rfl rfl)
theorem dX3_value_13 : decode cX3_value 13 = .ok (.ifCond .eq 23, 3) := dk_153 0 23 (dk_at dksX3_value_0 13 rfl rfl)
theorem dX3_value_16 : decode cX3_value 16 = .ok (.aload_n 0, 1) := dk_42 (dk_at dksX3_value_0 16 rfl rfl)
theorem dX3_value_17 : decode cX3_value 17 = .ok (.ldc_w 263, 3) := dk_19 1 7 (dk_at dksX3_value_0 17 rfl rfl)
theorem dX3_value_20 : decode cX3_value 20 = .ok (.invokevirtual 264, 3) := dk_182 1 8 (dk_at dksX3_value_0 20 rfl rfl)
theorem dX3_value_23 : decode cX3_value 23 = .ok (.istore_n 2, 1) := dk_61 (dk_at dksX3_value_0 23 rfl rfl)
theorem dX3_value_24 : decode cX3_value 24 = .ok (.aload_n 0, 1) := dk_42 (dk_at dksX3_value_1 0 rfl rfl)
theorem dX3_value_25 : decode cX3_value 25 = .ok (.iload_n 1, 1) := dk_27 (dk_at dksX3_value_1 1 rfl rfl)
theorem dX3_value_26 : decode cX3_value 26 = .ok (.invokevirtual 268, 3) := dk_182 1 12 (dk_at dksX3_value_1 2 rfl rfl)
theorem dX3_value_29 : decode cX3_value 29 = .ok (.aload_n 0, 1) := dk_42 (dk_at dksX3_value_1 5 rfl rfl)
theorem dX3_value_30 : decode cX3_value 30 = .ok (.iconst 0, 1) := dk_3 (dk_at dksX3_value_1 6 rfl rfl)
theorem dX3_value_31 : decode cX3_value 31 = .ok (.iload_n 2, 1) := dk_28 (dk_at dksX3_value_1 7 rfl rfl)
theorem dX3_value_32 : decode cX3_value 32 = .ok (.invokevirtual 271, 3) := dk_182 1 15 (dk_at dksX3_value_1 8 rfl rfl)
theorem dX3_value_35 : decode cX3_value 35 = .ok (.return_, 1) := dk_177 (dk_at dksX3_value_1 11 rfl rfl)
theorem dX3_value_36 : decode cX3_value 36 = .ok (.iconst 0, 1) := dk_3 (dk_at dksX3_value_1 12 rfl rfl)
theorem dX3_value_37 : decode cX3_value 37 = .ok (.istore_n 2, 1) := dk_61 (dk_at dksX3_value_1 13 rfl rfl)
theorem dX3_value_38 : decode cX3_value 38 = .ok (.iload_n 2, 1) := dk_28 (dk_at dksX3_value_1 14 rfl rfl)
theorem dX3_value_39 : decode cX3_value 39 = .ok (.aload_n 0, 1) := dk_42 (dk_at dksX3_value_1 15 rfl rfl)
theorem dX3_value_40 : decode cX3_value 40 = .ok (.getfield 88, 3) := dk_180 0 88 (dk_at dksX3_value_1 16 rfl rfl)
theorem dX3_value_43 : decode cX3_value 43 = .ok (.if_icmp .ge 20, 3) := dk_162 0 20 (dk_at dksX3_value_1 19 rfl rfl)
theorem dX3_value_46 : decode cX3_value 46 = .ok (.aload_n 0, 1) := dk_42 (dk_at dksX3_value_1 22 rfl rfl)
theorem dX3_value_47 : decode cX3_value 47 = .ok (.iload_n 2, 1) := dk_28 (dk_at dksX3_value_1 23 rfl rfl)
theorem dX3_value_48 : decode cX3_value 48 = .ok (.invokestatic 274, 3) := dk_184 1 18 (dk_at dksX3_value_2 0 rfl rfl)
theorem dX3_value_51 : decode cX3_value 51 = .ok (.invokevirtual 243, 3) := dk_182 0 243 (dk_at dksX3_value_2 3 rfl rfl)
theorem dX3_value_54 : decode cX3_value 54 = .ok (.ifCond .ne 9, 3) := dk_154 0 9 (dk_at dksX3_value_2 6 rfl rfl)
theorem dX3_value_57 : decode cX3_value 57 = .ok (.iinc 2 1, 3) := dk_132 2 1 (dk_at dksX3_value_2 9 rfl rfl)
theorem dX3_value_60 : decode cX3_value 60 = .ok (.goto (-22), 3) := dk_167 255 234 (dk_at dksX3_value_2 12 rfl rfl)
theorem dX3_value_63 : decode cX3_value 63 = .ok (.iload_n 2, 1) := dk_28 (dk_at dksX3_value_2 15 rfl rfl)
theorem dX3_value_64 : decode cX3_value 64 = .ok (.aload_n 0, 1) := dk_42 (dk_at dksX3_value_2 16 rfl rfl)
theorem dX3_value_65 : decode cX3_value 65 = .ok (.getfield 88, 3) := dk_180 0 88 (dk_at dksX3_value_2 17 rfl rfl)
theorem dX3_value_68 : decode cX3_value 68 = .ok (.if_icmp .ne 10, 3) := dk_160 0 10 (dk_at dksX3_value_2 20 rfl rfl)
theorem dX3_value_71 : decode cX3_value 71 = .ok (.aload_n 0, 1) := dk_42 (dk_at dksX3_value_2 23 rfl rfl)
theorem dX3_value_72 : decode cX3_value 72 = .ok (.iconst 0, 1) := dk_3 (dk_at dksX3_value_3 0 rfl rfl)
theorem dX3_value_73 : decode cX3_value 73 = .ok (.iload_n 1, 1) := dk_27 (dk_at dksX3_value_3 1 rfl rfl)
theorem dX3_value_74 : decode cX3_value 74 = .ok (.invokevirtual 256, 3) := dk_182 1 0 (dk_at dksX3_value_3 2 rfl rfl)
theorem dX3_value_77 : decode cX3_value 77 = .ok (.return_, 1) := dk_177 (dk_at dksX3_value_3 5 rfl rfl)
theorem dX3_value_78 : decode cX3_value 78 = .ok (.aload_n 0, 1) := dk_42 (dk_at dksX3_value_3 6 rfl rfl)
theorem dX3_value_79 : decode cX3_value 79 = .ok (.iload_n 1, 1) := dk_27 (dk_at dksX3_value_3 7 rfl rfl)
theorem dX3_value_80 : decode cX3_value 80 = .ok (.invokevirtual 268, 3) := dk_182 1 12 (dk_at dksX3_value_3 8 rfl rfl)
theorem dX3_value_83 : decode cX3_value 83 = .ok (.aload_n 0, 1) := dk_42 (dk_at dksX3_value_3 11 rfl rfl)
theorem dX3_value_84 : decode cX3_value 84 = .ok (.dup, 1) := dk_89 (dk_at dksX3_value_3 12 rfl rfl)
theorem dX3_value_85 : decode cX3_value 85 = .ok (.getfield 221, 3) := dk_180 0 221 (dk_at dksX3_value_3 13 rfl rfl)
theorem dX3_value_88 : decode cX3_value 88 = .ok (.iload_n 2, 1) := dk_28 (dk_at dksX3_value_3 16 rfl rfl)
theorem dX3_value_89 : decode cX3_value 89 = .ok (.invokestatic 274, 3) := dk_184 1 18 (dk_at dksX3_value_3 17 rfl rfl)
theorem dX3_value_92 : decode cX3_value 92 = .ok (.invokevirtual 231, 3) := dk_182 0 231 (dk_at dksX3_value_3 20 rfl rfl)
theorem dX3_value_95 : decode cX3_value 95 = .ok (.iadd, 1) := dk_96 (dk_at dksX3_value_3 23 rfl rfl)
theorem dX3_value_96 : decode cX3_value 96 = .ok (.putfield 221, 3) := dk_181 0 221 (dk_at dksX3_value_4 0 rfl rfl)
theorem dX3_value_99 : decode cX3_value 99 = .ok (.aload_n 0, 1) := dk_42 (dk_at dksX3_value_4 3 rfl rfl)
theorem dX3_value_100 : decode cX3_value 100 = .ok (.iconst 1, 1) := dk_4 (dk_at dksX3_value_4 4 rfl rfl)
theorem dX3_value_101 : decode cX3_value 101 = .ok (.iload_n 2, 1) := dk_28 (dk_at dksX3_value_4 5 rfl rfl)
theorem dX3_value_102 : decode cX3_value 102 = .ok (.invokevirtual 271, 3) := dk_182 1 15 (dk_at dksX3_value_4 6 rfl rfl)
theorem dX3_value_105 : decode cX3_value 105 = .ok (.return_, 1) := dk_177 (dk_at dksX3_value_4 9 rfl rfl)
abbrev cX3_isCounted : ByteArray := prog_21_method_24_code
def yX3_isCounted : MethodName := ⟨RX3, "isCounted", "(I)V"⟩
def dkwX3_isCounted_1 : List UInt8 := [181, 0, 253, 177]
abbrev dktX3_isCounted_1 : List UInt8 := dkwX3_isCounted_1 ++ []
def dkwX3_isCounted_0 : List UInt8 := [42, 180, 0, 253, 16, 60, 160, 0, 9, 42, 6, 27, 182, 1, 0, 42, 89, 180, 0, 253, 4, 96]
abbrev dktX3_isCounted_0 : List UInt8 := dkwX3_isCounted_0 ++ dktX3_isCounted_1
theorem dksX3_isCounted_0 : cX3_isCounted.data.toList.drop 0 = dktX3_isCounted_0 := by decide +kernel
theorem dksX3_isCounted_1 : cX3_isCounted.data.toList.drop 22 = dktX3_isCounted_1 := dk_seg dksX3_isCounted_0 22 rfl rfl
theorem dX3_isCounted_0 : decode cX3_isCounted 0 = .ok (.aload_n 0, 1) := dk_42 (dk_at dksX3_isCounted_0 0 rfl rfl)
theorem dX3_isCounted_1 : decode cX3_isCounted 1 = .ok (.getfield 253, 3) := dk_180 0 253 (dk_at dksX3_isCounted_0 1 rfl rfl)
theorem dX3_isCounted_4 : decode cX3_isCounted 4 = .ok (.bipush 60, 2) := dk_16 60 (dk_at dksX3_isCounted_0 4 rfl rfl)
theorem dX3_isCounted_6 : decode cX3_isCounted 6 = .ok (.if_icmp .ne 9, 3) := dk_160 0 9 (dk_at dksX3_isCounted_0 6 rfl rfl)
theorem dX3_isCounted_9 : decode cX3_isCounted 9 = .ok (.aload_n 0, 1) := dk_42 (dk_at dksX3_isCounted_0 9 rfl rfl)
theorem dX3_isCounted_10 : decode cX3_isCounted 10 = .ok (.iconst 3, 1) := dk_6 (dk_at dksX3_isCounted_0 10 rfl rfl)
theorem dX3_isCounted_11 : decode cX3_isCounted 11 = .ok (.iload_n 1, 1) := dk_27 (dk_at dksX3_isCounted_0 11 rfl rfl)
theorem dX3_isCounted_12 : decode cX3_isCounted 12 = .ok (.invokevirtual 256, 3) := dk_182 1 0 (dk_at dksX3_isCounted_0 12 rfl rfl)
theorem dX3_isCounted_15 : decode cX3_isCounted 15 = .ok (.aload_n 0, 1) := dk_42 (dk_at dksX3_isCounted_0 15 rfl rfl)
theorem dX3_isCounted_16 : decode cX3_isCounted 16 = .ok (.dup, 1) := dk_89 (dk_at dksX3_isCounted_0 16 rfl rfl)
theorem dX3_isCounted_17 : decode cX3_isCounted 17 = .ok (.getfield 253, 3) := dk_180 0 253 (dk_at dksX3_isCounted_0 17 rfl rfl)
theorem dX3_isCounted_20 : decode cX3_isCounted 20 = .ok (.iconst 1, 1) := dk_4 (dk_at dksX3_isCounted_0 20 rfl rfl)
theorem dX3_isCounted_21 : decode cX3_isCounted 21 = .ok (.iadd, 1) := dk_96 (dk_at dksX3_isCounted_0 21 rfl rfl)
theorem dX3_isCounted_22 : decode cX3_isCounted 22 = .ok (.putfield 253, 3) := dk_181 0 253 (dk_at dksX3_isCounted_1 0 rfl rfl)
theorem dX3_isCounted_25 : decode cX3_isCounted 25 = .ok (.return_, 1) := dk_177 (dk_at dksX3_isCounted_1 3 rfl rfl)
abbrev cX3_entry : ByteArray := prog_21_method_23_code
def yX3_entry : MethodName := ⟨RX3, "entry", "(II)V"⟩
def dkwX3_entry_2 : List UInt8 := [180, 0, 250, 4, 96, 181, 0, 250, 177]
abbrev dktX3_entry_2 : List UInt8 := dkwX3_entry_2 ++ []
def dkwX3_entry_1 : List UInt8 := [27, 79, 42, 180, 0, 99, 17, 1, 44, 42, 180, 0, 247, 104, 42, 180, 0, 250, 96, 28, 79, 42, 89]
abbrev dktX3_entry_1 : List UInt8 := dkwX3_entry_1 ++ dktX3_entry_2
def dkwX3_entry_0 : List UInt8 := [42, 180, 0, 218, 154, 0, 51, 42, 180, 0, 96, 17, 1, 44, 42, 180, 0, 247, 104, 42, 180, 0, 250, 96]
abbrev dktX3_entry_0 : List UInt8 := dkwX3_entry_0 ++ dktX3_entry_1
theorem dksX3_entry_0 : cX3_entry.data.toList.drop 0 = dktX3_entry_0 := by decide +kernel
theorem dksX3_entry_1 : cX3_entry.data.toList.drop 24 = dktX3_entry_1 := dk_seg dksX3_entry_0 24 rfl rfl
theorem dksX3_entry_2 : cX3_entry.data.toList.drop 47 = dktX3_entry_2 := dk_seg dksX3_entry_1 23 rfl rfl
theorem dX3_entry_0 : decode cX3_entry 0 = .ok (.aload_n 0, 1) := dk_42 (dk_at dksX3_entry_0 0 rfl rfl)
theorem dX3_entry_1 : decode cX3_entry 1 = .ok (.getfield 218, 3) := dk_180 0 218 (dk_at dksX3_entry_0 1 rfl rfl)
theorem dX3_entry_4 : decode cX3_entry 4 = .ok (.ifCond .ne 51, 3) := dk_154 0 51 (dk_at dksX3_entry_0 4 rfl rfl)
theorem dX3_entry_7 : decode cX3_entry 7 = .ok (.aload_n 0, 1) := dk_42 (dk_at dksX3_entry_0 7 rfl rfl)
theorem dX3_entry_8 : decode cX3_entry 8 = .ok (.getfield 96, 3) := dk_180 0 96 (dk_at dksX3_entry_0 8 rfl rfl)
theorem dX3_entry_11 : decode cX3_entry 11 = .ok (.sipush 300, 3) := dk_17 1 44 (dk_at dksX3_entry_0 11 rfl rfl)
theorem dX3_entry_14 : decode cX3_entry 14 = .ok (.aload_n 0, 1) := dk_42 (dk_at dksX3_entry_0 14 rfl rfl)
theorem dX3_entry_15 : decode cX3_entry 15 = .ok (.getfield 247, 3) := dk_180 0 247 (dk_at dksX3_entry_0 15 rfl rfl)
theorem dX3_entry_18 : decode cX3_entry 18 = .ok (.imul, 1) := dk_104 (dk_at dksX3_entry_0 18 rfl rfl)
theorem dX3_entry_19 : decode cX3_entry 19 = .ok (.aload_n 0, 1) := dk_42 (dk_at dksX3_entry_0 19 rfl rfl)
theorem dX3_entry_20 : decode cX3_entry 20 = .ok (.getfield 250, 3) := dk_180 0 250 (dk_at dksX3_entry_0 20 rfl rfl)
theorem dX3_entry_23 : decode cX3_entry 23 = .ok (.iadd, 1) := dk_96 (dk_at dksX3_entry_0 23 rfl rfl)
theorem dX3_entry_24 : decode cX3_entry 24 = .ok (.iload_n 1, 1) := dk_27 (dk_at dksX3_entry_1 0 rfl rfl)
theorem dX3_entry_25 : decode cX3_entry 25 = .ok (.iastore, 1) := dk_79 (dk_at dksX3_entry_1 1 rfl rfl)
theorem dX3_entry_26 : decode cX3_entry 26 = .ok (.aload_n 0, 1) := dk_42 (dk_at dksX3_entry_1 2 rfl rfl)
theorem dX3_entry_27 : decode cX3_entry 27 = .ok (.getfield 99, 3) := dk_180 0 99 (dk_at dksX3_entry_1 3 rfl rfl)
theorem dX3_entry_30 : decode cX3_entry 30 = .ok (.sipush 300, 3) := dk_17 1 44 (dk_at dksX3_entry_1 6 rfl rfl)
theorem dX3_entry_33 : decode cX3_entry 33 = .ok (.aload_n 0, 1) := dk_42 (dk_at dksX3_entry_1 9 rfl rfl)
theorem dX3_entry_34 : decode cX3_entry 34 = .ok (.getfield 247, 3) := dk_180 0 247 (dk_at dksX3_entry_1 10 rfl rfl)
theorem dX3_entry_37 : decode cX3_entry 37 = .ok (.imul, 1) := dk_104 (dk_at dksX3_entry_1 13 rfl rfl)
theorem dX3_entry_38 : decode cX3_entry 38 = .ok (.aload_n 0, 1) := dk_42 (dk_at dksX3_entry_1 14 rfl rfl)
theorem dX3_entry_39 : decode cX3_entry 39 = .ok (.getfield 250, 3) := dk_180 0 250 (dk_at dksX3_entry_1 15 rfl rfl)
theorem dX3_entry_42 : decode cX3_entry 42 = .ok (.iadd, 1) := dk_96 (dk_at dksX3_entry_1 18 rfl rfl)
theorem dX3_entry_43 : decode cX3_entry 43 = .ok (.iload_n 2, 1) := dk_28 (dk_at dksX3_entry_1 19 rfl rfl)
theorem dX3_entry_44 : decode cX3_entry 44 = .ok (.iastore, 1) := dk_79 (dk_at dksX3_entry_1 20 rfl rfl)
theorem dX3_entry_45 : decode cX3_entry 45 = .ok (.aload_n 0, 1) := dk_42 (dk_at dksX3_entry_1 21 rfl rfl)
theorem dX3_entry_46 : decode cX3_entry 46 = .ok (.dup, 1) := dk_89 (dk_at dksX3_entry_1 22 rfl rfl)
theorem dX3_entry_47 : decode cX3_entry 47 = .ok (.getfield 250, 3) := dk_180 0 250 (dk_at dksX3_entry_2 0 rfl rfl)
theorem dX3_entry_50 : decode cX3_entry 50 = .ok (.iconst 1, 1) := dk_4 (dk_at dksX3_entry_2 3 rfl rfl)
theorem dX3_entry_51 : decode cX3_entry 51 = .ok (.iadd, 1) := dk_96 (dk_at dksX3_entry_2 4 rfl rfl)
theorem dX3_entry_52 : decode cX3_entry 52 = .ok (.putfield 250, 3) := dk_181 0 250 (dk_at dksX3_entry_2 5 rfl rfl)
theorem dX3_entry_55 : decode cX3_entry 55 = .ok (.return_, 1) := dk_177 (dk_at dksX3_entry_2 8 rfl rfl)
abbrev cX3_wordOf : ByteArray := prog_21_method_16_code
def yX3_wordOf : MethodName := ⟨RX3, "wordOf", "(I)Ljava/lang/String;"⟩
def dkwX3_wordOf_3 : List UInt8 := [18, 215, 176, 18, 217, 176]
abbrev dktX3_wordOf_3 : List UInt8 := dkwX3_wordOf_3 ++ []
def dkwX3_wordOf_2 : List UInt8 := [18, 201, 176, 18, 203, 176, 18, 204, 176, 18, 205, 176, 18, 207, 176, 18, 209, 176, 18, 211, 176, 18, 213, 176]
abbrev dktX3_wordOf_2 : List UInt8 := dkwX3_wordOf_2 ++ dktX3_wordOf_3
def dkwX3_wordOf_1 : List UInt8 := [170, 0, 0, 0, 0, 0, 78, 0, 0, 0, 0, 0, 0, 0, 8, 0, 0, 0, 51, 0, 0, 0, 54, 0, 0, 0, 57, 0, 0, 0, 60, 0, 0, 0, 63, 0, 0, 0, 66, 0, 0, 0, 69, 0, 0, 0, 72, 0, 0, 0, 75]
abbrev dktX3_wordOf_1 : List UInt8 := dkwX3_wordOf_1 ++ dktX3_wordOf_2
def dkwX3_wordOf_0 : List UInt8 := [26]
abbrev dktX3_wordOf_0 : List UInt8 := dkwX3_wordOf_0 ++ dktX3_wordOf_1
theorem dksX3_wordOf_0 : cX3_wordOf.data.toList.drop 0 = dktX3_wordOf_0 := by decide +kernel
theorem dksX3_wordOf_1 : cX3_wordOf.data.toList.drop 1 = dktX3_wordOf_1 := dk_seg dksX3_wordOf_0 1 rfl rfl
theorem dksX3_wordOf_2 : cX3_wordOf.data.toList.drop 52 = dktX3_wordOf_2 := dk_seg dksX3_wordOf_1 51 rfl rfl
theorem dksX3_wordOf_3 : cX3_wordOf.data.toList.drop 76 = dktX3_wordOf_3 := dk_seg dksX3_wordOf_2 24 rfl rfl
theorem dX3_wordOf_0 : decode cX3_wordOf 0 = .ok (.iload_n 0, 1) := dk_26 (dk_at dksX3_wordOf_0 0 rfl rfl)
theorem dX3_wordOf_1 : decode cX3_wordOf 1 = .ok (.tableswitch 78 0 8 #[51, 54, 57, 60, 63, 66, 69, 72, 75], 51) := by decide +kernel
theorem dX3_wordOf_52 : decode cX3_wordOf 52 = .ok (.ldc 201, 2) := dk_18 201 (dk_at dksX3_wordOf_2 0 rfl rfl)
theorem dX3_wordOf_54 : decode cX3_wordOf 54 = .ok (.areturn, 1) := dk_176 (dk_at dksX3_wordOf_2 2 rfl rfl)
theorem dX3_wordOf_55 : decode cX3_wordOf 55 = .ok (.ldc 203, 2) := dk_18 203 (dk_at dksX3_wordOf_2 3 rfl rfl)
theorem dX3_wordOf_57 : decode cX3_wordOf 57 = .ok (.areturn, 1) := dk_176 (dk_at dksX3_wordOf_2 5 rfl rfl)
theorem dX3_wordOf_58 : decode cX3_wordOf 58 = .ok (.ldc 204, 2) := dk_18 204 (dk_at dksX3_wordOf_2 6 rfl rfl)
theorem dX3_wordOf_60 : decode cX3_wordOf 60 = .ok (.areturn, 1) := dk_176 (dk_at dksX3_wordOf_2 8 rfl rfl)
theorem dX3_wordOf_61 : decode cX3_wordOf 61 = .ok (.ldc 205, 2) := dk_18 205 (dk_at dksX3_wordOf_2 9 rfl rfl)
theorem dX3_wordOf_63 : decode cX3_wordOf 63 = .ok (.areturn, 1) := dk_176 (dk_at dksX3_wordOf_2 11 rfl rfl)
theorem dX3_wordOf_64 : decode cX3_wordOf 64 = .ok (.ldc 207, 2) := dk_18 207 (dk_at dksX3_wordOf_2 12 rfl rfl)
theorem dX3_wordOf_66 : decode cX3_wordOf 66 = .ok (.areturn, 1) := dk_176 (dk_at dksX3_wordOf_2 14 rfl rfl)
theorem dX3_wordOf_67 : decode cX3_wordOf 67 = .ok (.ldc 209, 2) := dk_18 209 (dk_at dksX3_wordOf_2 15 rfl rfl)
theorem dX3_wordOf_69 : decode cX3_wordOf 69 = .ok (.areturn, 1) := dk_176 (dk_at dksX3_wordOf_2 17 rfl rfl)
theorem dX3_wordOf_70 : decode cX3_wordOf 70 = .ok (.ldc 211, 2) := dk_18 211 (dk_at dksX3_wordOf_2 18 rfl rfl)
theorem dX3_wordOf_72 : decode cX3_wordOf 72 = .ok (.areturn, 1) := dk_176 (dk_at dksX3_wordOf_2 20 rfl rfl)
theorem dX3_wordOf_73 : decode cX3_wordOf 73 = .ok (.ldc 213, 2) := dk_18 213 (dk_at dksX3_wordOf_2 21 rfl rfl)
theorem dX3_wordOf_75 : decode cX3_wordOf 75 = .ok (.areturn, 1) := dk_176 (dk_at dksX3_wordOf_2 23 rfl rfl)
theorem dX3_wordOf_76 : decode cX3_wordOf 76 = .ok (.ldc 215, 2) := dk_18 215 (dk_at dksX3_wordOf_3 0 rfl rfl)
theorem dX3_wordOf_78 : decode cX3_wordOf 78 = .ok (.areturn, 1) := dk_176 (dk_at dksX3_wordOf_3 2 rfl rfl)
theorem dX3_wordOf_79 : decode cX3_wordOf 79 = .ok (.ldc 217, 2) := dk_18 217 (dk_at dksX3_wordOf_3 3 rfl rfl)
theorem dX3_wordOf_81 : decode cX3_wordOf 81 = .ok (.areturn, 1) := dk_176 (dk_at dksX3_wordOf_3 5 rfl rfl)
abbrev cX3_takes : ByteArray := prog_21_method_22_code
def yX3_takes : MethodName := ⟨RX3, "takes", "(Ljava/lang/String;)Z"⟩
def dkwX3_takes_1 : List UInt8 := [167, 0, 4, 3, 96, 181, 0, 221, 28, 172]
abbrev dktX3_takes_1 : List UInt8 := dkwX3_takes_1 ++ []
def dkwX3_takes_0 : List UInt8 := [42, 182, 0, 240, 42, 43, 182, 0, 243, 61, 42, 89, 180, 0, 221, 28, 153, 0, 10, 43, 182, 0, 231]
abbrev dktX3_takes_0 : List UInt8 := dkwX3_takes_0 ++ dktX3_takes_1
theorem dksX3_takes_0 : cX3_takes.data.toList.drop 0 = dktX3_takes_0 := by decide +kernel
theorem dksX3_takes_1 : cX3_takes.data.toList.drop 23 = dktX3_takes_1 := dk_seg dksX3_takes_0 23 rfl rfl
theorem dX3_takes_0 : decode cX3_takes 0 = .ok (.aload_n 0, 1) := dk_42 (dk_at dksX3_takes_0 0 rfl rfl)
theorem dX3_takes_1 : decode cX3_takes 1 = .ok (.invokevirtual 240, 3) := dk_182 0 240 (dk_at dksX3_takes_0 1 rfl rfl)
theorem dX3_takes_4 : decode cX3_takes 4 = .ok (.aload_n 0, 1) := dk_42 (dk_at dksX3_takes_0 4 rfl rfl)
theorem dX3_takes_5 : decode cX3_takes 5 = .ok (.aload_n 1, 1) := dk_43 (dk_at dksX3_takes_0 5 rfl rfl)
theorem dX3_takes_6 : decode cX3_takes 6 = .ok (.invokevirtual 243, 3) := dk_182 0 243 (dk_at dksX3_takes_0 6 rfl rfl)
theorem dX3_takes_9 : decode cX3_takes 9 = .ok (.istore_n 2, 1) := dk_61 (dk_at dksX3_takes_0 9 rfl rfl)
theorem dX3_takes_10 : decode cX3_takes 10 = .ok (.aload_n 0, 1) := dk_42 (dk_at dksX3_takes_0 10 rfl rfl)
theorem dX3_takes_11 : decode cX3_takes 11 = .ok (.dup, 1) := dk_89 (dk_at dksX3_takes_0 11 rfl rfl)
theorem dX3_takes_12 : decode cX3_takes 12 = .ok (.getfield 221, 3) := dk_180 0 221 (dk_at dksX3_takes_0 12 rfl rfl)
theorem dX3_takes_15 : decode cX3_takes 15 = .ok (.iload_n 2, 1) := dk_28 (dk_at dksX3_takes_0 15 rfl rfl)
theorem dX3_takes_16 : decode cX3_takes 16 = .ok (.ifCond .eq 10, 3) := dk_153 0 10 (dk_at dksX3_takes_0 16 rfl rfl)
theorem dX3_takes_19 : decode cX3_takes 19 = .ok (.aload_n 1, 1) := dk_43 (dk_at dksX3_takes_0 19 rfl rfl)
theorem dX3_takes_20 : decode cX3_takes 20 = .ok (.invokevirtual 231, 3) := dk_182 0 231 (dk_at dksX3_takes_0 20 rfl rfl)
theorem dX3_takes_23 : decode cX3_takes 23 = .ok (.goto 4, 3) := dk_167 0 4 (dk_at dksX3_takes_1 0 rfl rfl)
theorem dX3_takes_26 : decode cX3_takes 26 = .ok (.iconst 0, 1) := dk_3 (dk_at dksX3_takes_1 3 rfl rfl)
theorem dX3_takes_27 : decode cX3_takes 27 = .ok (.iadd, 1) := dk_96 (dk_at dksX3_takes_1 4 rfl rfl)
theorem dX3_takes_28 : decode cX3_takes 28 = .ok (.putfield 221, 3) := dk_181 0 221 (dk_at dksX3_takes_1 5 rfl rfl)
theorem dX3_takes_31 : decode cX3_takes 31 = .ok (.iload_n 2, 1) := dk_28 (dk_at dksX3_takes_1 8 rfl rfl)
theorem dX3_takes_32 : decode cX3_takes 32 = .ok (.ireturn, 1) := dk_172 (dk_at dksX3_takes_1 9 rfl rfl)
abbrev cX3_test : ByteArray := prog_21_method_34_code
def yX3_test : MethodName := ⟨RX3, "test", "()V"⟩
def dkwX3_test_8 : List UInt8 := [4, 100, 181, 1, 34, 167, 0, 5, 3, 61, 167, 255, 66, 177]
abbrev dktX3_test_8 : List UInt8 := dkwX3_test_8 ++ []
def dkwX3_test_7 : List UInt8 := [89, 180, 0, 221, 4, 96, 181, 0, 221, 42, 89, 180, 1, 31, 4, 100, 181, 1, 31, 42, 89, 180, 1, 34]
abbrev dktX3_test_7 : List UInt8 := dkwX3_test_7 ++ dktX3_test_8
def dkwX3_test_6 : List UInt8 := [16, 12, 160, 0, 54, 42, 182, 0, 224, 16, 93, 159, 0, 12, 42, 3, 42, 180, 0, 221, 182, 1, 0, 42]
abbrev dktX3_test_6 : List UInt8 := dkwX3_test_6 ++ dktX3_test_7
def dkwX3_test_5 : List UInt8 := [167, 0, 4, 5, 96, 181, 0, 221, 4, 60, 167, 0, 71, 42, 16, 11, 182, 1, 50, 42, 182, 1, 37]
abbrev dktX3_test_5 : List UInt8 := dkwX3_test_5 ++ dktX3_test_6
def dkwX3_test_4 : List UInt8 := [29, 153, 0, 8, 16, 10, 167, 0, 5, 16, 11, 182, 1, 42, 42, 89, 180, 0, 221, 29, 153, 0, 7, 6]
abbrev dktX3_test_4 : List UInt8 := dkwX3_test_4 ++ dktX3_test_5
def dkwX3_test_3 : List UInt8 := [182, 1, 50, 29, 154, 0, 8, 21, 4, 153, 0, 52, 21, 4, 153, 0, 9, 42, 16, 11, 182, 1, 50, 42]
abbrev dktX3_test_3 : List UInt8 := dkwX3_test_3 ++ dktX3_test_4
def dkwX3_test_2 : List UInt8 := [182, 0, 240, 42, 19, 1, 53, 182, 0, 243, 62, 42, 19, 1, 55, 182, 0, 243, 54, 4, 42, 16, 10]
abbrev dktX3_test_2 : List UInt8 := dkwX3_test_2 ++ dktX3_test_3
def dkwX3_test_1 : List UInt8 := [42, 182, 1, 47, 154, 0, 7, 4, 167, 0, 4, 3, 60, 167, 255, 228, 42, 16, 9, 182, 1, 50, 42]
abbrev dktX3_test_1 : List UInt8 := dkwX3_test_1 ++ dktX3_test_2
def dkwX3_test_0 : List UInt8 := [42, 3, 181, 1, 31, 4, 60, 4, 61, 28, 153, 0, 192, 42, 180, 0, 218, 154, 0, 185, 27, 153, 0, 19]
abbrev dktX3_test_0 : List UInt8 := dkwX3_test_0 ++ dktX3_test_1
theorem dksX3_test_0 : cX3_test.data.toList.drop 0 = dktX3_test_0 := by decide +kernel
theorem dksX3_test_1 : cX3_test.data.toList.drop 24 = dktX3_test_1 := dk_seg dksX3_test_0 24 rfl rfl
theorem dksX3_test_2 : cX3_test.data.toList.drop 47 = dktX3_test_2 := dk_seg dksX3_test_1 23 rfl rfl
theorem dksX3_test_3 : cX3_test.data.toList.drop 70 = dktX3_test_3 := dk_seg dksX3_test_2 23 rfl rfl
theorem dksX3_test_4 : cX3_test.data.toList.drop 94 = dktX3_test_4 := dk_seg dksX3_test_3 24 rfl rfl
theorem dksX3_test_5 : cX3_test.data.toList.drop 118 = dktX3_test_5 := dk_seg dksX3_test_4 24 rfl rfl
theorem dksX3_test_6 : cX3_test.data.toList.drop 141 = dktX3_test_6 := dk_seg dksX3_test_5 23 rfl rfl
theorem dksX3_test_7 : cX3_test.data.toList.drop 165 = dktX3_test_7 := dk_seg dksX3_test_6 24 rfl rfl
theorem dksX3_test_8 : cX3_test.data.toList.drop 189 = dktX3_test_8 := dk_seg dksX3_test_7 24 rfl rfl
theorem dX3_test_0 : decode cX3_test 0 = .ok (.aload_n 0, 1) := dk_42 (dk_at dksX3_test_0 0 rfl rfl)
theorem dX3_test_1 : decode cX3_test 1 = .ok (.iconst 0, 1) := dk_3 (dk_at dksX3_test_0 1 rfl rfl)
theorem dX3_test_2 : decode cX3_test 2 = .ok (.putfield 287, 3) := dk_181 1 31 (dk_at dksX3_test_0 2 rfl rfl)
theorem dX3_test_5 : decode cX3_test 5 = .ok (.iconst 1, 1) := dk_4 (dk_at dksX3_test_0 5 rfl rfl)
theorem dX3_test_6 : decode cX3_test 6 = .ok (.istore_n 1, 1) := dk_60 (dk_at dksX3_test_0 6 rfl rfl)
theorem dX3_test_7 : decode cX3_test 7 = .ok (.iconst 1, 1) := dk_4 (dk_at dksX3_test_0 7 rfl rfl)
theorem dX3_test_8 : decode cX3_test 8 = .ok (.istore_n 2, 1) := dk_61 (dk_at dksX3_test_0 8 rfl rfl)
theorem dX3_test_9 : decode cX3_test 9 = .ok (.iload_n 2, 1) := dk_28 (dk_at dksX3_test_0 9 rfl rfl)
theorem dX3_test_10 : decode cX3_test 10 = .ok (.ifCond .eq 192, 3) := dk_153 0 192 (dk_at dksX3_test_0 10 rfl rfl)
theorem dX3_test_13 : decode cX3_test 13 = .ok (.aload_n 0, 1) := dk_42 (dk_at dksX3_test_0 13 rfl rfl)
theorem dX3_test_14 : decode cX3_test 14 = .ok (.getfield 218, 3) := dk_180 0 218 (dk_at dksX3_test_0 14 rfl rfl)
theorem dX3_test_17 : decode cX3_test 17 = .ok (.ifCond .ne 185, 3) := dk_154 0 185 (dk_at dksX3_test_0 17 rfl rfl)
theorem dX3_test_20 : decode cX3_test 20 = .ok (.iload_n 1, 1) := dk_27 (dk_at dksX3_test_0 20 rfl rfl)
theorem dX3_test_21 : decode cX3_test 21 = .ok (.ifCond .eq 19, 3) := dk_153 0 19 (dk_at dksX3_test_0 21 rfl rfl)
theorem dX3_test_24 : decode cX3_test 24 = .ok (.aload_n 0, 1) := dk_42 (dk_at dksX3_test_1 0 rfl rfl)
theorem dX3_test_25 : decode cX3_test 25 = .ok (.invokevirtual 303, 3) := dk_182 1 47 (dk_at dksX3_test_1 1 rfl rfl)
theorem dX3_test_28 : decode cX3_test 28 = .ok (.ifCond .ne 7, 3) := dk_154 0 7 (dk_at dksX3_test_1 4 rfl rfl)
theorem dX3_test_31 : decode cX3_test 31 = .ok (.iconst 1, 1) := dk_4 (dk_at dksX3_test_1 7 rfl rfl)
theorem dX3_test_32 : decode cX3_test 32 = .ok (.goto 4, 3) := dk_167 0 4 (dk_at dksX3_test_1 8 rfl rfl)
theorem dX3_test_35 : decode cX3_test 35 = .ok (.iconst 0, 1) := dk_3 (dk_at dksX3_test_1 11 rfl rfl)
theorem dX3_test_36 : decode cX3_test 36 = .ok (.istore_n 1, 1) := dk_60 (dk_at dksX3_test_1 12 rfl rfl)
theorem dX3_test_37 : decode cX3_test 37 = .ok (.goto (-28), 3) := dk_167 255 228 (dk_at dksX3_test_1 13 rfl rfl)
theorem dX3_test_40 : decode cX3_test 40 = .ok (.aload_n 0, 1) := dk_42 (dk_at dksX3_test_1 16 rfl rfl)
theorem dX3_test_41 : decode cX3_test 41 = .ok (.bipush 9, 2) := dk_16 9 (dk_at dksX3_test_1 17 rfl rfl)
theorem dX3_test_43 : decode cX3_test 43 = .ok (.invokevirtual 306, 3) := dk_182 1 50 (dk_at dksX3_test_1 19 rfl rfl)
theorem dX3_test_46 : decode cX3_test 46 = .ok (.aload_n 0, 1) := dk_42 (dk_at dksX3_test_1 22 rfl rfl)
theorem dX3_test_47 : decode cX3_test 47 = .ok (.invokevirtual 240, 3) := dk_182 0 240 (dk_at dksX3_test_2 0 rfl rfl)
theorem dX3_test_50 : decode cX3_test 50 = .ok (.aload_n 0, 1) := dk_42 (dk_at dksX3_test_2 3 rfl rfl)
theorem dX3_test_51 : decode cX3_test 51 = .ok (.ldc_w 309, 3) := dk_19 1 53 (dk_at dksX3_test_2 4 rfl rfl)
theorem dX3_test_54 : decode cX3_test 54 = .ok (.invokevirtual 243, 3) := dk_182 0 243 (dk_at dksX3_test_2 7 rfl rfl)
theorem dX3_test_57 : decode cX3_test 57 = .ok (.istore_n 3, 1) := dk_62 (dk_at dksX3_test_2 10 rfl rfl)
theorem dX3_test_58 : decode cX3_test 58 = .ok (.aload_n 0, 1) := dk_42 (dk_at dksX3_test_2 11 rfl rfl)
theorem dX3_test_59 : decode cX3_test 59 = .ok (.ldc_w 311, 3) := dk_19 1 55 (dk_at dksX3_test_2 12 rfl rfl)
theorem dX3_test_62 : decode cX3_test 62 = .ok (.invokevirtual 243, 3) := dk_182 0 243 (dk_at dksX3_test_2 15 rfl rfl)
theorem dX3_test_65 : decode cX3_test 65 = .ok (.istore 4, 2) := dk_54 4 (dk_at dksX3_test_2 18 rfl rfl)
theorem dX3_test_67 : decode cX3_test 67 = .ok (.aload_n 0, 1) := dk_42 (dk_at dksX3_test_2 20 rfl rfl)
theorem dX3_test_68 : decode cX3_test 68 = .ok (.bipush 10, 2) := dk_16 10 (dk_at dksX3_test_2 21 rfl rfl)
theorem dX3_test_70 : decode cX3_test 70 = .ok (.invokevirtual 306, 3) := dk_182 1 50 (dk_at dksX3_test_3 0 rfl rfl)
theorem dX3_test_73 : decode cX3_test 73 = .ok (.iload_n 3, 1) := dk_29 (dk_at dksX3_test_3 3 rfl rfl)
theorem dX3_test_74 : decode cX3_test 74 = .ok (.ifCond .ne 8, 3) := dk_154 0 8 (dk_at dksX3_test_3 4 rfl rfl)
theorem dX3_test_77 : decode cX3_test 77 = .ok (.iload 4, 2) := dk_21 4 (dk_at dksX3_test_3 7 rfl rfl)
theorem dX3_test_79 : decode cX3_test 79 = .ok (.ifCond .eq 52, 3) := dk_153 0 52 (dk_at dksX3_test_3 9 rfl rfl)
theorem dX3_test_82 : decode cX3_test 82 = .ok (.iload 4, 2) := dk_21 4 (dk_at dksX3_test_3 12 rfl rfl)
theorem dX3_test_84 : decode cX3_test 84 = .ok (.ifCond .eq 9, 3) := dk_153 0 9 (dk_at dksX3_test_3 14 rfl rfl)
theorem dX3_test_87 : decode cX3_test 87 = .ok (.aload_n 0, 1) := dk_42 (dk_at dksX3_test_3 17 rfl rfl)
theorem dX3_test_88 : decode cX3_test 88 = .ok (.bipush 11, 2) := dk_16 11 (dk_at dksX3_test_3 18 rfl rfl)
theorem dX3_test_90 : decode cX3_test 90 = .ok (.invokevirtual 306, 3) := dk_182 1 50 (dk_at dksX3_test_3 20 rfl rfl)
theorem dX3_test_93 : decode cX3_test 93 = .ok (.aload_n 0, 1) := dk_42 (dk_at dksX3_test_3 23 rfl rfl)
theorem dX3_test_94 : decode cX3_test 94 = .ok (.iload_n 3, 1) := dk_29 (dk_at dksX3_test_4 0 rfl rfl)
theorem dX3_test_95 : decode cX3_test 95 = .ok (.ifCond .eq 8, 3) := dk_153 0 8 (dk_at dksX3_test_4 1 rfl rfl)
theorem dX3_test_98 : decode cX3_test 98 = .ok (.bipush 10, 2) := dk_16 10 (dk_at dksX3_test_4 4 rfl rfl)
theorem dX3_test_100 : decode cX3_test 100 = .ok (.goto 5, 3) := dk_167 0 5 (dk_at dksX3_test_4 6 rfl rfl)
theorem dX3_test_103 : decode cX3_test 103 = .ok (.bipush 11, 2) := dk_16 11 (dk_at dksX3_test_4 9 rfl rfl)
theorem dX3_test_105 : decode cX3_test 105 = .ok (.invokevirtual 298, 3) := dk_182 1 42 (dk_at dksX3_test_4 11 rfl rfl)
theorem dX3_test_108 : decode cX3_test 108 = .ok (.aload_n 0, 1) := dk_42 (dk_at dksX3_test_4 14 rfl rfl)
theorem dX3_test_109 : decode cX3_test 109 = .ok (.dup, 1) := dk_89 (dk_at dksX3_test_4 15 rfl rfl)
theorem dX3_test_110 : decode cX3_test 110 = .ok (.getfield 221, 3) := dk_180 0 221 (dk_at dksX3_test_4 16 rfl rfl)
theorem dX3_test_113 : decode cX3_test 113 = .ok (.iload_n 3, 1) := dk_29 (dk_at dksX3_test_4 19 rfl rfl)
theorem dX3_test_114 : decode cX3_test 114 = .ok (.ifCond .eq 7, 3) := dk_153 0 7 (dk_at dksX3_test_4 20 rfl rfl)
theorem dX3_test_117 : decode cX3_test 117 = .ok (.iconst 3, 1) := dk_6 (dk_at dksX3_test_4 23 rfl rfl)
theorem dX3_test_118 : decode cX3_test 118 = .ok (.goto 4, 3) := dk_167 0 4 (dk_at dksX3_test_5 0 rfl rfl)
theorem dX3_test_121 : decode cX3_test 121 = .ok (.iconst 2, 1) := dk_5 (dk_at dksX3_test_5 3 rfl rfl)
theorem dX3_test_122 : decode cX3_test 122 = .ok (.iadd, 1) := dk_96 (dk_at dksX3_test_5 4 rfl rfl)
theorem dX3_test_123 : decode cX3_test 123 = .ok (.putfield 221, 3) := dk_181 0 221 (dk_at dksX3_test_5 5 rfl rfl)
theorem dX3_test_126 : decode cX3_test 126 = .ok (.iconst 1, 1) := dk_4 (dk_at dksX3_test_5 8 rfl rfl)
theorem dX3_test_127 : decode cX3_test 127 = .ok (.istore_n 1, 1) := dk_60 (dk_at dksX3_test_5 9 rfl rfl)
theorem dX3_test_128 : decode cX3_test 128 = .ok (.goto 71, 3) := dk_167 0 71 (dk_at dksX3_test_5 10 rfl rfl)
theorem dX3_test_131 : decode cX3_test 131 = .ok (.aload_n 0, 1) := dk_42 (dk_at dksX3_test_5 13 rfl rfl)
theorem dX3_test_132 : decode cX3_test 132 = .ok (.bipush 11, 2) := dk_16 11 (dk_at dksX3_test_5 14 rfl rfl)
theorem dX3_test_134 : decode cX3_test 134 = .ok (.invokevirtual 306, 3) := dk_182 1 50 (dk_at dksX3_test_5 16 rfl rfl)
theorem dX3_test_137 : decode cX3_test 137 = .ok (.aload_n 0, 1) := dk_42 (dk_at dksX3_test_5 19 rfl rfl)
theorem dX3_test_138 : decode cX3_test 138 = .ok (.invokevirtual 293, 3) := dk_182 1 37 (dk_at dksX3_test_5 20 rfl rfl)
theorem dX3_test_141 : decode cX3_test 141 = .ok (.bipush 12, 2) := dk_16 12 (dk_at dksX3_test_6 0 rfl rfl)
theorem dX3_test_143 : decode cX3_test 143 = .ok (.if_icmp .ne 54, 3) := dk_160 0 54 (dk_at dksX3_test_6 2 rfl rfl)
theorem dX3_test_146 : decode cX3_test 146 = .ok (.aload_n 0, 1) := dk_42 (dk_at dksX3_test_6 5 rfl rfl)
theorem dX3_test_147 : decode cX3_test 147 = .ok (.invokevirtual 224, 3) := dk_182 0 224 (dk_at dksX3_test_6 6 rfl rfl)
theorem dX3_test_150 : decode cX3_test 150 = .ok (.bipush 93, 2) := dk_16 93 (dk_at dksX3_test_6 9 rfl rfl)
theorem dX3_test_152 : decode cX3_test 152 = .ok (.if_icmp .eq 12, 3) := dk_159 0 12 (dk_at dksX3_test_6 11 rfl rfl)
theorem dX3_test_155 : decode cX3_test 155 = .ok (.aload_n 0, 1) := dk_42 (dk_at dksX3_test_6 14 rfl rfl)
theorem dX3_test_156 : decode cX3_test 156 = .ok (.iconst 0, 1) := dk_3 (dk_at dksX3_test_6 15 rfl rfl)
theorem dX3_test_157 : decode cX3_test 157 = .ok (.aload_n 0, 1) := dk_42 (dk_at dksX3_test_6 16 rfl rfl)
theorem dX3_test_158 : decode cX3_test 158 = .ok (.getfield 221, 3) := dk_180 0 221 (dk_at dksX3_test_6 17 rfl rfl)
theorem dX3_test_161 : decode cX3_test 161 = .ok (.invokevirtual 256, 3) := dk_182 1 0 (dk_at dksX3_test_6 20 rfl rfl)
theorem dX3_test_164 : decode cX3_test 164 = .ok (.aload_n 0, 1) := dk_42 (dk_at dksX3_test_6 23 rfl rfl)
theorem dX3_test_165 : decode cX3_test 165 = .ok (.dup, 1) := dk_89 (dk_at dksX3_test_7 0 rfl rfl)
theorem dX3_test_166 : decode cX3_test 166 = .ok (.getfield 221, 3) := dk_180 0 221 (dk_at dksX3_test_7 1 rfl rfl)
theorem dX3_test_169 : decode cX3_test 169 = .ok (.iconst 1, 1) := dk_4 (dk_at dksX3_test_7 4 rfl rfl)
theorem dX3_test_170 : decode cX3_test 170 = .ok (.iadd, 1) := dk_96 (dk_at dksX3_test_7 5 rfl rfl)
theorem dX3_test_171 : decode cX3_test 171 = .ok (.putfield 221, 3) := dk_181 0 221 (dk_at dksX3_test_7 6 rfl rfl)
theorem dX3_test_174 : decode cX3_test 174 = .ok (.aload_n 0, 1) := dk_42 (dk_at dksX3_test_7 9 rfl rfl)
theorem dX3_test_175 : decode cX3_test 175 = .ok (.dup, 1) := dk_89 (dk_at dksX3_test_7 10 rfl rfl)
theorem dX3_test_176 : decode cX3_test 176 = .ok (.getfield 287, 3) := dk_180 1 31 (dk_at dksX3_test_7 11 rfl rfl)
theorem dX3_test_179 : decode cX3_test 179 = .ok (.iconst 1, 1) := dk_4 (dk_at dksX3_test_7 14 rfl rfl)
theorem dX3_test_180 : decode cX3_test 180 = .ok (.isub, 1) := dk_100 (dk_at dksX3_test_7 15 rfl rfl)
theorem dX3_test_181 : decode cX3_test 181 = .ok (.putfield 287, 3) := dk_181 1 31 (dk_at dksX3_test_7 16 rfl rfl)
theorem dX3_test_184 : decode cX3_test 184 = .ok (.aload_n 0, 1) := dk_42 (dk_at dksX3_test_7 19 rfl rfl)
theorem dX3_test_185 : decode cX3_test 185 = .ok (.dup, 1) := dk_89 (dk_at dksX3_test_7 20 rfl rfl)
theorem dX3_test_186 : decode cX3_test 186 = .ok (.getfield 290, 3) := dk_180 1 34 (dk_at dksX3_test_7 21 rfl rfl)
theorem dX3_test_189 : decode cX3_test 189 = .ok (.iconst 1, 1) := dk_4 (dk_at dksX3_test_8 0 rfl rfl)
theorem dX3_test_190 : decode cX3_test 190 = .ok (.isub, 1) := dk_100 (dk_at dksX3_test_8 1 rfl rfl)
theorem dX3_test_191 : decode cX3_test 191 = .ok (.putfield 290, 3) := dk_181 1 34 (dk_at dksX3_test_8 2 rfl rfl)
theorem dX3_test_194 : decode cX3_test 194 = .ok (.goto 5, 3) := dk_167 0 5 (dk_at dksX3_test_8 5 rfl rfl)
theorem dX3_test_197 : decode cX3_test 197 = .ok (.iconst 0, 1) := dk_3 (dk_at dksX3_test_8 8 rfl rfl)
theorem dX3_test_198 : decode cX3_test 198 = .ok (.istore_n 2, 1) := dk_61 (dk_at dksX3_test_8 9 rfl rfl)
theorem dX3_test_199 : decode cX3_test 199 = .ok (.goto (-190), 3) := dk_167 255 66 (dk_at dksX3_test_8 10 rfl rfl)
theorem dX3_test_202 : decode cX3_test 202 = .ok (.return_, 1) := dk_177 (dk_at dksX3_test_8 13 rfl rfl)
abbrev cX3_fact : ByteArray := prog_21_method_33_code
def yX3_fact : MethodName := ⟨RX3, "fact", "()Z"⟩
def dkwX3_fact_2 : List UInt8 := [182, 1, 42, 42, 89, 180, 0, 221, 4, 96, 181, 0, 221, 3, 172, 42, 182, 1, 44, 4, 172]
abbrev dktX3_fact_2 : List UInt8 := dkwX3_fact_2 ++ []
def dkwX3_fact_1 : List UInt8 := [180, 0, 221, 6, 96, 181, 0, 221, 3, 172, 42, 182, 0, 224, 16, 91, 160, 0, 21, 42, 16, 12]
abbrev dktX3_fact_1 : List UInt8 := dkwX3_fact_1 ++ dktX3_fact_2
def dkwX3_fact_0 : List UInt8 := [42, 182, 0, 240, 42, 19, 1, 40, 182, 0, 243, 153, 0, 21, 42, 16, 9, 182, 1, 42, 42, 89]
abbrev dktX3_fact_0 : List UInt8 := dkwX3_fact_0 ++ dktX3_fact_1
theorem dksX3_fact_0 : cX3_fact.data.toList.drop 0 = dktX3_fact_0 := by decide +kernel
theorem dksX3_fact_1 : cX3_fact.data.toList.drop 22 = dktX3_fact_1 := dk_seg dksX3_fact_0 22 rfl rfl
theorem dksX3_fact_2 : cX3_fact.data.toList.drop 44 = dktX3_fact_2 := dk_seg dksX3_fact_1 22 rfl rfl
theorem dX3_fact_0 : decode cX3_fact 0 = .ok (.aload_n 0, 1) := dk_42 (dk_at dksX3_fact_0 0 rfl rfl)
theorem dX3_fact_1 : decode cX3_fact 1 = .ok (.invokevirtual 240, 3) := dk_182 0 240 (dk_at dksX3_fact_0 1 rfl rfl)
theorem dX3_fact_4 : decode cX3_fact 4 = .ok (.aload_n 0, 1) := dk_42 (dk_at dksX3_fact_0 4 rfl rfl)
theorem dX3_fact_5 : decode cX3_fact 5 = .ok (.ldc_w 296, 3) := dk_19 1 40 (dk_at dksX3_fact_0 5 rfl rfl)
theorem dX3_fact_8 : decode cX3_fact 8 = .ok (.invokevirtual 243, 3) := dk_182 0 243 (dk_at dksX3_fact_0 8 rfl rfl)
theorem dX3_fact_11 : decode cX3_fact 11 = .ok (.ifCond .eq 21, 3) := dk_153 0 21 (dk_at dksX3_fact_0 11 rfl rfl)
theorem dX3_fact_14 : decode cX3_fact 14 = .ok (.aload_n 0, 1) := dk_42 (dk_at dksX3_fact_0 14 rfl rfl)
theorem dX3_fact_15 : decode cX3_fact 15 = .ok (.bipush 9, 2) := dk_16 9 (dk_at dksX3_fact_0 15 rfl rfl)
theorem dX3_fact_17 : decode cX3_fact 17 = .ok (.invokevirtual 298, 3) := dk_182 1 42 (dk_at dksX3_fact_0 17 rfl rfl)
theorem dX3_fact_20 : decode cX3_fact 20 = .ok (.aload_n 0, 1) := dk_42 (dk_at dksX3_fact_0 20 rfl rfl)
theorem dX3_fact_21 : decode cX3_fact 21 = .ok (.dup, 1) := dk_89 (dk_at dksX3_fact_0 21 rfl rfl)
theorem dX3_fact_22 : decode cX3_fact 22 = .ok (.getfield 221, 3) := dk_180 0 221 (dk_at dksX3_fact_1 0 rfl rfl)
theorem dX3_fact_25 : decode cX3_fact 25 = .ok (.iconst 3, 1) := dk_6 (dk_at dksX3_fact_1 3 rfl rfl)
theorem dX3_fact_26 : decode cX3_fact 26 = .ok (.iadd, 1) := dk_96 (dk_at dksX3_fact_1 4 rfl rfl)
theorem dX3_fact_27 : decode cX3_fact 27 = .ok (.putfield 221, 3) := dk_181 0 221 (dk_at dksX3_fact_1 5 rfl rfl)
theorem dX3_fact_30 : decode cX3_fact 30 = .ok (.iconst 0, 1) := dk_3 (dk_at dksX3_fact_1 8 rfl rfl)
theorem dX3_fact_31 : decode cX3_fact 31 = .ok (.ireturn, 1) := dk_172 (dk_at dksX3_fact_1 9 rfl rfl)
theorem dX3_fact_32 : decode cX3_fact 32 = .ok (.aload_n 0, 1) := dk_42 (dk_at dksX3_fact_1 10 rfl rfl)
theorem dX3_fact_33 : decode cX3_fact 33 = .ok (.invokevirtual 224, 3) := dk_182 0 224 (dk_at dksX3_fact_1 11 rfl rfl)
theorem dX3_fact_36 : decode cX3_fact 36 = .ok (.bipush 91, 2) := dk_16 91 (dk_at dksX3_fact_1 14 rfl rfl)
theorem dX3_fact_38 : decode cX3_fact 38 = .ok (.if_icmp .ne 21, 3) := dk_160 0 21 (dk_at dksX3_fact_1 16 rfl rfl)
theorem dX3_fact_41 : decode cX3_fact 41 = .ok (.aload_n 0, 1) := dk_42 (dk_at dksX3_fact_1 19 rfl rfl)
theorem dX3_fact_42 : decode cX3_fact 42 = .ok (.bipush 12, 2) := dk_16 12 (dk_at dksX3_fact_1 20 rfl rfl)
theorem dX3_fact_44 : decode cX3_fact 44 = .ok (.invokevirtual 298, 3) := dk_182 1 42 (dk_at dksX3_fact_2 0 rfl rfl)
theorem dX3_fact_47 : decode cX3_fact 47 = .ok (.aload_n 0, 1) := dk_42 (dk_at dksX3_fact_2 3 rfl rfl)
theorem dX3_fact_48 : decode cX3_fact 48 = .ok (.dup, 1) := dk_89 (dk_at dksX3_fact_2 4 rfl rfl)
theorem dX3_fact_49 : decode cX3_fact 49 = .ok (.getfield 221, 3) := dk_180 0 221 (dk_at dksX3_fact_2 5 rfl rfl)
theorem dX3_fact_52 : decode cX3_fact 52 = .ok (.iconst 1, 1) := dk_4 (dk_at dksX3_fact_2 8 rfl rfl)
theorem dX3_fact_53 : decode cX3_fact 53 = .ok (.iadd, 1) := dk_96 (dk_at dksX3_fact_2 9 rfl rfl)
theorem dX3_fact_54 : decode cX3_fact 54 = .ok (.putfield 221, 3) := dk_181 0 221 (dk_at dksX3_fact_2 10 rfl rfl)
theorem dX3_fact_57 : decode cX3_fact 57 = .ok (.iconst 0, 1) := dk_3 (dk_at dksX3_fact_2 13 rfl rfl)
theorem dX3_fact_58 : decode cX3_fact 58 = .ok (.ireturn, 1) := dk_172 (dk_at dksX3_fact_2 14 rfl rfl)
theorem dX3_fact_59 : decode cX3_fact 59 = .ok (.aload_n 0, 1) := dk_42 (dk_at dksX3_fact_2 15 rfl rfl)
theorem dX3_fact_60 : decode cX3_fact 60 = .ok (.invokevirtual 300, 3) := dk_182 1 44 (dk_at dksX3_fact_2 16 rfl rfl)
theorem dX3_fact_63 : decode cX3_fact 63 = .ok (.iconst 1, 1) := dk_4 (dk_at dksX3_fact_2 19 rfl rfl)
theorem dX3_fact_64 : decode cX3_fact 64 = .ok (.ireturn, 1) := dk_172 (dk_at dksX3_fact_2 20 rfl rfl)
abbrev cX3_opens : ByteArray := prog_21_method_31_code
def yX3_opens : MethodName := ⟨RX3, "opens", "(I)V"⟩
def dkwX3_opens_2 : List UInt8 := [27, 79, 42, 89, 180, 1, 31, 4, 96, 181, 1, 31, 177]
abbrev dktX3_opens_2 : List UInt8 := dkwX3_opens_2 ++ []
def dkwX3_opens_1 : List UInt8 := [180, 0, 221, 182, 1, 0, 42, 89, 180, 1, 34, 4, 96, 181, 1, 34, 42, 180, 0, 114, 42, 180, 1, 31]
abbrev dktX3_opens_1 : List UInt8 := dkwX3_opens_1 ++ dktX3_opens_2
def dkwX3_opens_0 : List UInt8 := [27, 16, 9, 159, 0, 9, 27, 16, 12, 160, 0, 31, 42, 180, 1, 34, 16, 10, 160, 0, 12, 42, 5, 42]
abbrev dktX3_opens_0 : List UInt8 := dkwX3_opens_0 ++ dktX3_opens_1
theorem dksX3_opens_0 : cX3_opens.data.toList.drop 0 = dktX3_opens_0 := by decide +kernel
theorem dksX3_opens_1 : cX3_opens.data.toList.drop 24 = dktX3_opens_1 := dk_seg dksX3_opens_0 24 rfl rfl
theorem dksX3_opens_2 : cX3_opens.data.toList.drop 48 = dktX3_opens_2 := dk_seg dksX3_opens_1 24 rfl rfl
theorem dX3_opens_0 : decode cX3_opens 0 = .ok (.iload_n 1, 1) := dk_27 (dk_at dksX3_opens_0 0 rfl rfl)
theorem dX3_opens_1 : decode cX3_opens 1 = .ok (.bipush 9, 2) := dk_16 9 (dk_at dksX3_opens_0 1 rfl rfl)
theorem dX3_opens_3 : decode cX3_opens 3 = .ok (.if_icmp .eq 9, 3) := dk_159 0 9 (dk_at dksX3_opens_0 3 rfl rfl)
theorem dX3_opens_6 : decode cX3_opens 6 = .ok (.iload_n 1, 1) := dk_27 (dk_at dksX3_opens_0 6 rfl rfl)
theorem dX3_opens_7 : decode cX3_opens 7 = .ok (.bipush 12, 2) := dk_16 12 (dk_at dksX3_opens_0 7 rfl rfl)
theorem dX3_opens_9 : decode cX3_opens 9 = .ok (.if_icmp .ne 31, 3) := dk_160 0 31 (dk_at dksX3_opens_0 9 rfl rfl)
theorem dX3_opens_12 : decode cX3_opens 12 = .ok (.aload_n 0, 1) := dk_42 (dk_at dksX3_opens_0 12 rfl rfl)
theorem dX3_opens_13 : decode cX3_opens 13 = .ok (.getfield 290, 3) := dk_180 1 34 (dk_at dksX3_opens_0 13 rfl rfl)
theorem dX3_opens_16 : decode cX3_opens 16 = .ok (.bipush 10, 2) := dk_16 10 (dk_at dksX3_opens_0 16 rfl rfl)
theorem dX3_opens_18 : decode cX3_opens 18 = .ok (.if_icmp .ne 12, 3) := dk_160 0 12 (dk_at dksX3_opens_0 18 rfl rfl)
theorem dX3_opens_21 : decode cX3_opens 21 = .ok (.aload_n 0, 1) := dk_42 (dk_at dksX3_opens_0 21 rfl rfl)
theorem dX3_opens_22 : decode cX3_opens 22 = .ok (.iconst 2, 1) := dk_5 (dk_at dksX3_opens_0 22 rfl rfl)
theorem dX3_opens_23 : decode cX3_opens 23 = .ok (.aload_n 0, 1) := dk_42 (dk_at dksX3_opens_0 23 rfl rfl)
theorem dX3_opens_24 : decode cX3_opens 24 = .ok (.getfield 221, 3) := dk_180 0 221 (dk_at dksX3_opens_1 0 rfl rfl)
theorem dX3_opens_27 : decode cX3_opens 27 = .ok (.invokevirtual 256, 3) := dk_182 1 0 (dk_at dksX3_opens_1 3 rfl rfl)
theorem dX3_opens_30 : decode cX3_opens 30 = .ok (.aload_n 0, 1) := dk_42 (dk_at dksX3_opens_1 6 rfl rfl)
theorem dX3_opens_31 : decode cX3_opens 31 = .ok (.dup, 1) := dk_89 (dk_at dksX3_opens_1 7 rfl rfl)
theorem dX3_opens_32 : decode cX3_opens 32 = .ok (.getfield 290, 3) := dk_180 1 34 (dk_at dksX3_opens_1 8 rfl rfl)
theorem dX3_opens_35 : decode cX3_opens 35 = .ok (.iconst 1, 1) := dk_4 (dk_at dksX3_opens_1 11 rfl rfl)
theorem dX3_opens_36 : decode cX3_opens 36 = .ok (.iadd, 1) := dk_96 (dk_at dksX3_opens_1 12 rfl rfl)
theorem dX3_opens_37 : decode cX3_opens 37 = .ok (.putfield 290, 3) := dk_181 1 34 (dk_at dksX3_opens_1 13 rfl rfl)
theorem dX3_opens_40 : decode cX3_opens 40 = .ok (.aload_n 0, 1) := dk_42 (dk_at dksX3_opens_1 16 rfl rfl)
theorem dX3_opens_41 : decode cX3_opens 41 = .ok (.getfield 114, 3) := dk_180 0 114 (dk_at dksX3_opens_1 17 rfl rfl)
theorem dX3_opens_44 : decode cX3_opens 44 = .ok (.aload_n 0, 1) := dk_42 (dk_at dksX3_opens_1 20 rfl rfl)
theorem dX3_opens_45 : decode cX3_opens 45 = .ok (.getfield 287, 3) := dk_180 1 31 (dk_at dksX3_opens_1 21 rfl rfl)
theorem dX3_opens_48 : decode cX3_opens 48 = .ok (.iload_n 1, 1) := dk_27 (dk_at dksX3_opens_2 0 rfl rfl)
theorem dX3_opens_49 : decode cX3_opens 49 = .ok (.iastore, 1) := dk_79 (dk_at dksX3_opens_2 1 rfl rfl)
theorem dX3_opens_50 : decode cX3_opens 50 = .ok (.aload_n 0, 1) := dk_42 (dk_at dksX3_opens_2 2 rfl rfl)
theorem dX3_opens_51 : decode cX3_opens 51 = .ok (.dup, 1) := dk_89 (dk_at dksX3_opens_2 3 rfl rfl)
theorem dX3_opens_52 : decode cX3_opens 52 = .ok (.getfield 287, 3) := dk_180 1 31 (dk_at dksX3_opens_2 4 rfl rfl)
theorem dX3_opens_55 : decode cX3_opens 55 = .ok (.iconst 1, 1) := dk_4 (dk_at dksX3_opens_2 7 rfl rfl)
theorem dX3_opens_56 : decode cX3_opens 56 = .ok (.iadd, 1) := dk_96 (dk_at dksX3_opens_2 8 rfl rfl)
theorem dX3_opens_57 : decode cX3_opens 57 = .ok (.putfield 287, 3) := dk_181 1 31 (dk_at dksX3_opens_2 9 rfl rfl)
theorem dX3_opens_60 : decode cX3_opens 60 = .ok (.return_, 1) := dk_177 (dk_at dksX3_opens_2 12 rfl rfl)
abbrev cX3_compared : ByteArray := prog_21_method_29_code
def yX3_compared : MethodName := ⟨RX3, "compared", "()V"⟩
def dkwX3_compared_6 : List UInt8 := [182, 1, 15, 177]
abbrev dktX3_compared_6 : List UInt8 := dkwX3_compared_6 ++ []
def dkwX3_compared_5 : List UInt8 := [153, 0, 7, 8, 167, 0, 18, 7, 167, 0, 14, 28, 153, 0, 8, 16, 7, 167, 0, 5, 16, 8, 3]
abbrev dktX3_compared_5 : List UInt8 := dkwX3_compared_5 ++ dktX3_compared_6
def dkwX3_compared_4 : List UInt8 := [182, 1, 28, 42, 27, 16, 61, 160, 0, 8, 16, 6, 167, 0, 32, 27, 16, 60, 160, 0, 15, 28]
abbrev dktX3_compared_4 : List UInt8 := dkwX3_compared_4 ++ dktX3_compared_5
def dkwX3_compared_3 : List UInt8 := [167, 0, 4, 3, 61, 42, 89, 180, 0, 221, 28, 153, 0, 7, 4, 167, 0, 4, 3, 96, 181, 0, 221, 42]
abbrev dktX3_compared_3 : List UInt8 := dkwX3_compared_3 ++ dktX3_compared_4
def dkwX3_compared_2 : List UInt8 := [180, 0, 221, 4, 96, 181, 0, 221, 27, 16, 61, 159, 0, 16, 42, 182, 0, 224, 16, 61, 160, 0, 7, 4]
abbrev dktX3_compared_2 : List UInt8 := dkwX3_compared_2 ++ dktX3_compared_3
def dkwX3_compared_1 : List UInt8 := [159, 0, 13, 42, 3, 42, 180, 0, 221, 182, 1, 0, 177, 42, 42, 180, 0, 221, 182, 1, 12, 42, 89]
abbrev dktX3_compared_1 : List UInt8 := dkwX3_compared_1 ++ dktX3_compared_2
def dkwX3_compared_0 : List UInt8 := [42, 182, 1, 28, 42, 182, 0, 224, 60, 27, 16, 60, 159, 0, 25, 27, 16, 61, 159, 0, 19, 27, 16, 62]
abbrev dktX3_compared_0 : List UInt8 := dkwX3_compared_0 ++ dktX3_compared_1
theorem dksX3_compared_0 : cX3_compared.data.toList.drop 0 = dktX3_compared_0 := by decide +kernel
theorem dksX3_compared_1 : cX3_compared.data.toList.drop 24 = dktX3_compared_1 := dk_seg dksX3_compared_0 24 rfl rfl
theorem dksX3_compared_2 : cX3_compared.data.toList.drop 47 = dktX3_compared_2 := dk_seg dksX3_compared_1 23 rfl rfl
theorem dksX3_compared_3 : cX3_compared.data.toList.drop 71 = dktX3_compared_3 := dk_seg dksX3_compared_2 24 rfl rfl
theorem dksX3_compared_4 : cX3_compared.data.toList.drop 95 = dktX3_compared_4 := dk_seg dksX3_compared_3 24 rfl rfl
theorem dksX3_compared_5 : cX3_compared.data.toList.drop 117 = dktX3_compared_5 := dk_seg dksX3_compared_4 22 rfl rfl
theorem dksX3_compared_6 : cX3_compared.data.toList.drop 140 = dktX3_compared_6 := dk_seg dksX3_compared_5 23 rfl rfl
theorem dX3_compared_0 : decode cX3_compared 0 = .ok (.aload_n 0, 1) := dk_42 (dk_at dksX3_compared_0 0 rfl rfl)
theorem dX3_compared_1 : decode cX3_compared 1 = .ok (.invokevirtual 284, 3) := dk_182 1 28 (dk_at dksX3_compared_0 1 rfl rfl)
theorem dX3_compared_4 : decode cX3_compared 4 = .ok (.aload_n 0, 1) := dk_42 (dk_at dksX3_compared_0 4 rfl rfl)
theorem dX3_compared_5 : decode cX3_compared 5 = .ok (.invokevirtual 224, 3) := dk_182 0 224 (dk_at dksX3_compared_0 5 rfl rfl)
theorem dX3_compared_8 : decode cX3_compared 8 = .ok (.istore_n 1, 1) := dk_60 (dk_at dksX3_compared_0 8 rfl rfl)
theorem dX3_compared_9 : decode cX3_compared 9 = .ok (.iload_n 1, 1) := dk_27 (dk_at dksX3_compared_0 9 rfl rfl)
theorem dX3_compared_10 : decode cX3_compared 10 = .ok (.bipush 60, 2) := dk_16 60 (dk_at dksX3_compared_0 10 rfl rfl)
theorem dX3_compared_12 : decode cX3_compared 12 = .ok (.if_icmp .eq 25, 3) := dk_159 0 25 (dk_at dksX3_compared_0 12 rfl rfl)
theorem dX3_compared_15 : decode cX3_compared 15 = .ok (.iload_n 1, 1) := dk_27 (dk_at dksX3_compared_0 15 rfl rfl)
theorem dX3_compared_16 : decode cX3_compared 16 = .ok (.bipush 61, 2) := dk_16 61 (dk_at dksX3_compared_0 16 rfl rfl)
theorem dX3_compared_18 : decode cX3_compared 18 = .ok (.if_icmp .eq 19, 3) := dk_159 0 19 (dk_at dksX3_compared_0 18 rfl rfl)
theorem dX3_compared_21 : decode cX3_compared 21 = .ok (.iload_n 1, 1) := dk_27 (dk_at dksX3_compared_0 21 rfl rfl)
theorem dX3_compared_22 : decode cX3_compared 22 = .ok (.bipush 62, 2) := dk_16 62 (dk_at dksX3_compared_0 22 rfl rfl)
theorem dX3_compared_24 : decode cX3_compared 24 = .ok (.if_icmp .eq 13, 3) := dk_159 0 13 (dk_at dksX3_compared_1 0 rfl rfl)
theorem dX3_compared_27 : decode cX3_compared 27 = .ok (.aload_n 0, 1) := dk_42 (dk_at dksX3_compared_1 3 rfl rfl)
theorem dX3_compared_28 : decode cX3_compared 28 = .ok (.iconst 0, 1) := dk_3 (dk_at dksX3_compared_1 4 rfl rfl)
theorem dX3_compared_29 : decode cX3_compared 29 = .ok (.aload_n 0, 1) := dk_42 (dk_at dksX3_compared_1 5 rfl rfl)
theorem dX3_compared_30 : decode cX3_compared 30 = .ok (.getfield 221, 3) := dk_180 0 221 (dk_at dksX3_compared_1 6 rfl rfl)
theorem dX3_compared_33 : decode cX3_compared 33 = .ok (.invokevirtual 256, 3) := dk_182 1 0 (dk_at dksX3_compared_1 9 rfl rfl)
theorem dX3_compared_36 : decode cX3_compared 36 = .ok (.return_, 1) := dk_177 (dk_at dksX3_compared_1 12 rfl rfl)
theorem dX3_compared_37 : decode cX3_compared 37 = .ok (.aload_n 0, 1) := dk_42 (dk_at dksX3_compared_1 13 rfl rfl)
theorem dX3_compared_38 : decode cX3_compared 38 = .ok (.aload_n 0, 1) := dk_42 (dk_at dksX3_compared_1 14 rfl rfl)
theorem dX3_compared_39 : decode cX3_compared 39 = .ok (.getfield 221, 3) := dk_180 0 221 (dk_at dksX3_compared_1 15 rfl rfl)
theorem dX3_compared_42 : decode cX3_compared 42 = .ok (.invokevirtual 268, 3) := dk_182 1 12 (dk_at dksX3_compared_1 18 rfl rfl)
theorem dX3_compared_45 : decode cX3_compared 45 = .ok (.aload_n 0, 1) := dk_42 (dk_at dksX3_compared_1 21 rfl rfl)
theorem dX3_compared_46 : decode cX3_compared 46 = .ok (.dup, 1) := dk_89 (dk_at dksX3_compared_1 22 rfl rfl)
theorem dX3_compared_47 : decode cX3_compared 47 = .ok (.getfield 221, 3) := dk_180 0 221 (dk_at dksX3_compared_2 0 rfl rfl)
theorem dX3_compared_50 : decode cX3_compared 50 = .ok (.iconst 1, 1) := dk_4 (dk_at dksX3_compared_2 3 rfl rfl)
theorem dX3_compared_51 : decode cX3_compared 51 = .ok (.iadd, 1) := dk_96 (dk_at dksX3_compared_2 4 rfl rfl)
theorem dX3_compared_52 : decode cX3_compared 52 = .ok (.putfield 221, 3) := dk_181 0 221 (dk_at dksX3_compared_2 5 rfl rfl)
theorem dX3_compared_55 : decode cX3_compared 55 = .ok (.iload_n 1, 1) := dk_27 (dk_at dksX3_compared_2 8 rfl rfl)
theorem dX3_compared_56 : decode cX3_compared 56 = .ok (.bipush 61, 2) := dk_16 61 (dk_at dksX3_compared_2 9 rfl rfl)
theorem dX3_compared_58 : decode cX3_compared 58 = .ok (.if_icmp .eq 16, 3) := dk_159 0 16 (dk_at dksX3_compared_2 11 rfl rfl)
theorem dX3_compared_61 : decode cX3_compared 61 = .ok (.aload_n 0, 1) := dk_42 (dk_at dksX3_compared_2 14 rfl rfl)
theorem dX3_compared_62 : decode cX3_compared 62 = .ok (.invokevirtual 224, 3) := dk_182 0 224 (dk_at dksX3_compared_2 15 rfl rfl)
theorem dX3_compared_65 : decode cX3_compared 65 = .ok (.bipush 61, 2) := dk_16 61 (dk_at dksX3_compared_2 18 rfl rfl)
theorem dX3_compared_67 : decode cX3_compared 67 = .ok (.if_icmp .ne 7, 3) := dk_160 0 7 (dk_at dksX3_compared_2 20 rfl rfl)
theorem dX3_compared_70 : decode cX3_compared 70 = .ok (.iconst 1, 1) := dk_4 (dk_at dksX3_compared_2 23 rfl rfl)
theorem dX3_compared_71 : decode cX3_compared 71 = .ok (.goto 4, 3) := dk_167 0 4 (dk_at dksX3_compared_3 0 rfl rfl)
theorem dX3_compared_74 : decode cX3_compared 74 = .ok (.iconst 0, 1) := dk_3 (dk_at dksX3_compared_3 3 rfl rfl)
theorem dX3_compared_75 : decode cX3_compared 75 = .ok (.istore_n 2, 1) := dk_61 (dk_at dksX3_compared_3 4 rfl rfl)
theorem dX3_compared_76 : decode cX3_compared 76 = .ok (.aload_n 0, 1) := dk_42 (dk_at dksX3_compared_3 5 rfl rfl)
theorem dX3_compared_77 : decode cX3_compared 77 = .ok (.dup, 1) := dk_89 (dk_at dksX3_compared_3 6 rfl rfl)
theorem dX3_compared_78 : decode cX3_compared 78 = .ok (.getfield 221, 3) := dk_180 0 221 (dk_at dksX3_compared_3 7 rfl rfl)
theorem dX3_compared_81 : decode cX3_compared 81 = .ok (.iload_n 2, 1) := dk_28 (dk_at dksX3_compared_3 10 rfl rfl)
theorem dX3_compared_82 : decode cX3_compared 82 = .ok (.ifCond .eq 7, 3) := dk_153 0 7 (dk_at dksX3_compared_3 11 rfl rfl)
theorem dX3_compared_85 : decode cX3_compared 85 = .ok (.iconst 1, 1) := dk_4 (dk_at dksX3_compared_3 14 rfl rfl)
theorem dX3_compared_86 : decode cX3_compared 86 = .ok (.goto 4, 3) := dk_167 0 4 (dk_at dksX3_compared_3 15 rfl rfl)
theorem dX3_compared_89 : decode cX3_compared 89 = .ok (.iconst 0, 1) := dk_3 (dk_at dksX3_compared_3 18 rfl rfl)
theorem dX3_compared_90 : decode cX3_compared 90 = .ok (.iadd, 1) := dk_96 (dk_at dksX3_compared_3 19 rfl rfl)
theorem dX3_compared_91 : decode cX3_compared 91 = .ok (.putfield 221, 3) := dk_181 0 221 (dk_at dksX3_compared_3 20 rfl rfl)
theorem dX3_compared_94 : decode cX3_compared 94 = .ok (.aload_n 0, 1) := dk_42 (dk_at dksX3_compared_3 23 rfl rfl)
theorem dX3_compared_95 : decode cX3_compared 95 = .ok (.invokevirtual 284, 3) := dk_182 1 28 (dk_at dksX3_compared_4 0 rfl rfl)
theorem dX3_compared_98 : decode cX3_compared 98 = .ok (.aload_n 0, 1) := dk_42 (dk_at dksX3_compared_4 3 rfl rfl)
theorem dX3_compared_99 : decode cX3_compared 99 = .ok (.iload_n 1, 1) := dk_27 (dk_at dksX3_compared_4 4 rfl rfl)
theorem dX3_compared_100 : decode cX3_compared 100 = .ok (.bipush 61, 2) := dk_16 61 (dk_at dksX3_compared_4 5 rfl rfl)
theorem dX3_compared_102 : decode cX3_compared 102 = .ok (.if_icmp .ne 8, 3) := dk_160 0 8 (dk_at dksX3_compared_4 7 rfl rfl)
theorem dX3_compared_105 : decode cX3_compared 105 = .ok (.bipush 6, 2) := dk_16 6 (dk_at dksX3_compared_4 10 rfl rfl)
theorem dX3_compared_107 : decode cX3_compared 107 = .ok (.goto 32, 3) := dk_167 0 32 (dk_at dksX3_compared_4 12 rfl rfl)
theorem dX3_compared_110 : decode cX3_compared 110 = .ok (.iload_n 1, 1) := dk_27 (dk_at dksX3_compared_4 15 rfl rfl)
theorem dX3_compared_111 : decode cX3_compared 111 = .ok (.bipush 60, 2) := dk_16 60 (dk_at dksX3_compared_4 16 rfl rfl)
theorem dX3_compared_113 : decode cX3_compared 113 = .ok (.if_icmp .ne 15, 3) := dk_160 0 15 (dk_at dksX3_compared_4 18 rfl rfl)
theorem dX3_compared_116 : decode cX3_compared 116 = .ok (.iload_n 2, 1) := dk_28 (dk_at dksX3_compared_4 21 rfl rfl)
theorem dX3_compared_117 : decode cX3_compared 117 = .ok (.ifCond .eq 7, 3) := dk_153 0 7 (dk_at dksX3_compared_5 0 rfl rfl)
theorem dX3_compared_120 : decode cX3_compared 120 = .ok (.iconst 5, 1) := dk_8 (dk_at dksX3_compared_5 3 rfl rfl)
theorem dX3_compared_121 : decode cX3_compared 121 = .ok (.goto 18, 3) := dk_167 0 18 (dk_at dksX3_compared_5 4 rfl rfl)
theorem dX3_compared_124 : decode cX3_compared 124 = .ok (.iconst 4, 1) := dk_7 (dk_at dksX3_compared_5 7 rfl rfl)
theorem dX3_compared_125 : decode cX3_compared 125 = .ok (.goto 14, 3) := dk_167 0 14 (dk_at dksX3_compared_5 8 rfl rfl)
theorem dX3_compared_128 : decode cX3_compared 128 = .ok (.iload_n 2, 1) := dk_28 (dk_at dksX3_compared_5 11 rfl rfl)
theorem dX3_compared_129 : decode cX3_compared 129 = .ok (.ifCond .eq 8, 3) := dk_153 0 8 (dk_at dksX3_compared_5 12 rfl rfl)
theorem dX3_compared_132 : decode cX3_compared 132 = .ok (.bipush 7, 2) := dk_16 7 (dk_at dksX3_compared_5 15 rfl rfl)
theorem dX3_compared_134 : decode cX3_compared 134 = .ok (.goto 5, 3) := dk_167 0 5 (dk_at dksX3_compared_5 17 rfl rfl)
theorem dX3_compared_137 : decode cX3_compared 137 = .ok (.bipush 8, 2) := dk_16 8 (dk_at dksX3_compared_5 20 rfl rfl)
theorem dX3_compared_139 : decode cX3_compared 139 = .ok (.iconst 0, 1) := dk_3 (dk_at dksX3_compared_5 22 rfl rfl)
theorem dX3_compared_140 : decode cX3_compared 140 = .ok (.invokevirtual 271, 3) := dk_182 1 15 (dk_at dksX3_compared_6 0 rfl rfl)
theorem dX3_compared_143 : decode cX3_compared 143 = .ok (.return_, 1) := dk_177 (dk_at dksX3_compared_6 3 rfl rfl)
abbrev cX3_answers : ByteArray := prog_21_method_32_code
def yX3_answers : MethodName := ⟨RX3, "answers", "(I)V"⟩
def dkwX3_answers_2 : List UInt8 := [100, 181, 1, 34, 167, 255, 205, 177]
abbrev dktX3_answers_2 : List UInt8 := dkwX3_answers_2 ++ []
def dkwX3_answers_1 : List UInt8 := [180, 1, 31, 4, 100, 181, 1, 31, 42, 89, 180, 1, 34, 27, 16, 9, 160, 0, 7, 4, 167, 0, 4, 3]
abbrev dktX3_answers_1 : List UInt8 := dkwX3_answers_1 ++ dktX3_answers_2
def dkwX3_answers_0 : List UInt8 := [42, 182, 1, 37, 27, 160, 0, 49, 42, 180, 0, 218, 154, 0, 42, 42, 27, 3, 182, 1, 15, 42, 89]
abbrev dktX3_answers_0 : List UInt8 := dkwX3_answers_0 ++ dktX3_answers_1
theorem dksX3_answers_0 : cX3_answers.data.toList.drop 0 = dktX3_answers_0 := by decide +kernel
theorem dksX3_answers_1 : cX3_answers.data.toList.drop 23 = dktX3_answers_1 := dk_seg dksX3_answers_0 23 rfl rfl
theorem dksX3_answers_2 : cX3_answers.data.toList.drop 47 = dktX3_answers_2 := dk_seg dksX3_answers_1 24 rfl rfl
theorem dX3_answers_0 : decode cX3_answers 0 = .ok (.aload_n 0, 1) := dk_42 (dk_at dksX3_answers_0 0 rfl rfl)
theorem dX3_answers_1 : decode cX3_answers 1 = .ok (.invokevirtual 293, 3) := dk_182 1 37 (dk_at dksX3_answers_0 1 rfl rfl)
theorem dX3_answers_4 : decode cX3_answers 4 = .ok (.iload_n 1, 1) := dk_27 (dk_at dksX3_answers_0 4 rfl rfl)
theorem dX3_answers_5 : decode cX3_answers 5 = .ok (.if_icmp .ne 49, 3) := dk_160 0 49 (dk_at dksX3_answers_0 5 rfl rfl)
theorem dX3_answers_8 : decode cX3_answers 8 = .ok (.aload_n 0, 1) := dk_42 (dk_at dksX3_answers_0 8 rfl rfl)
theorem dX3_answers_9 : decode cX3_answers 9 = .ok (.getfield 218, 3) := dk_180 0 218 (dk_at dksX3_answers_0 9 rfl rfl)
theorem dX3_answers_12 : decode cX3_answers 12 = .ok (.ifCond .ne 42, 3) := dk_154 0 42 (dk_at dksX3_answers_0 12 rfl rfl)
theorem dX3_answers_15 : decode cX3_answers 15 = .ok (.aload_n 0, 1) := dk_42 (dk_at dksX3_answers_0 15 rfl rfl)
theorem dX3_answers_16 : decode cX3_answers 16 = .ok (.iload_n 1, 1) := dk_27 (dk_at dksX3_answers_0 16 rfl rfl)
theorem dX3_answers_17 : decode cX3_answers 17 = .ok (.iconst 0, 1) := dk_3 (dk_at dksX3_answers_0 17 rfl rfl)
theorem dX3_answers_18 : decode cX3_answers 18 = .ok (.invokevirtual 271, 3) := dk_182 1 15 (dk_at dksX3_answers_0 18 rfl rfl)
theorem dX3_answers_21 : decode cX3_answers 21 = .ok (.aload_n 0, 1) := dk_42 (dk_at dksX3_answers_0 21 rfl rfl)
theorem dX3_answers_22 : decode cX3_answers 22 = .ok (.dup, 1) := dk_89 (dk_at dksX3_answers_0 22 rfl rfl)
theorem dX3_answers_23 : decode cX3_answers 23 = .ok (.getfield 287, 3) := dk_180 1 31 (dk_at dksX3_answers_1 0 rfl rfl)
theorem dX3_answers_26 : decode cX3_answers 26 = .ok (.iconst 1, 1) := dk_4 (dk_at dksX3_answers_1 3 rfl rfl)
theorem dX3_answers_27 : decode cX3_answers 27 = .ok (.isub, 1) := dk_100 (dk_at dksX3_answers_1 4 rfl rfl)
theorem dX3_answers_28 : decode cX3_answers 28 = .ok (.putfield 287, 3) := dk_181 1 31 (dk_at dksX3_answers_1 5 rfl rfl)
theorem dX3_answers_31 : decode cX3_answers 31 = .ok (.aload_n 0, 1) := dk_42 (dk_at dksX3_answers_1 8 rfl rfl)
theorem dX3_answers_32 : decode cX3_answers 32 = .ok (.dup, 1) := dk_89 (dk_at dksX3_answers_1 9 rfl rfl)
theorem dX3_answers_33 : decode cX3_answers 33 = .ok (.getfield 290, 3) := dk_180 1 34 (dk_at dksX3_answers_1 10 rfl rfl)
theorem dX3_answers_36 : decode cX3_answers 36 = .ok (.iload_n 1, 1) := dk_27 (dk_at dksX3_answers_1 13 rfl rfl)
theorem dX3_answers_37 : decode cX3_answers 37 = .ok (.bipush 9, 2) := dk_16 9 (dk_at dksX3_answers_1 14 rfl rfl)
theorem dX3_answers_39 : decode cX3_answers 39 = .ok (.if_icmp .ne 7, 3) := dk_160 0 7 (dk_at dksX3_answers_1 16 rfl rfl)
theorem dX3_answers_42 : decode cX3_answers 42 = .ok (.iconst 1, 1) := dk_4 (dk_at dksX3_answers_1 19 rfl rfl)
theorem dX3_answers_43 : decode cX3_answers 43 = .ok (.goto 4, 3) := dk_167 0 4 (dk_at dksX3_answers_1 20 rfl rfl)
theorem dX3_answers_46 : decode cX3_answers 46 = .ok (.iconst 0, 1) := dk_3 (dk_at dksX3_answers_1 23 rfl rfl)
theorem dX3_answers_47 : decode cX3_answers 47 = .ok (.isub, 1) := dk_100 (dk_at dksX3_answers_2 0 rfl rfl)
theorem dX3_answers_48 : decode cX3_answers 48 = .ok (.putfield 290, 3) := dk_181 1 34 (dk_at dksX3_answers_2 1 rfl rfl)
theorem dX3_answers_51 : decode cX3_answers 51 = .ok (.goto (-51), 3) := dk_167 255 205 (dk_at dksX3_answers_2 4 rfl rfl)
theorem dX3_answers_54 : decode cX3_answers 54 = .ok (.return_, 1) := dk_177 (dk_at dksX3_answers_2 7 rfl rfl)
abbrev cX3_top : ByteArray := prog_21_method_30_code
def yX3_top : MethodName := ⟨RX3, "top", "()I"⟩
def dkwX3_top_0 : List UInt8 := [42, 180, 1, 31, 154, 0, 7, 2, 167, 0, 14, 42, 180, 0, 114, 42, 180, 1, 31, 4, 100, 46, 172]
abbrev dktX3_top_0 : List UInt8 := dkwX3_top_0 ++ []
theorem dksX3_top_0 : cX3_top.data.toList.drop 0 = dktX3_top_0 := by decide +kernel
theorem dX3_top_0 : decode cX3_top 0 = .ok (.aload_n 0, 1) := dk_42 (dk_at dksX3_top_0 0 rfl rfl)
theorem dX3_top_1 : decode cX3_top 1 = .ok (.getfield 287, 3) := dk_180 1 31 (dk_at dksX3_top_0 1 rfl rfl)
theorem dX3_top_4 : decode cX3_top 4 = .ok (.ifCond .ne 7, 3) := dk_154 0 7 (dk_at dksX3_top_0 4 rfl rfl)
theorem dX3_top_7 : decode cX3_top 7 = .ok (.iconst (-1), 1) := dk_2 (dk_at dksX3_top_0 7 rfl rfl)
theorem dX3_top_8 : decode cX3_top 8 = .ok (.goto 14, 3) := dk_167 0 14 (dk_at dksX3_top_0 8 rfl rfl)
theorem dX3_top_11 : decode cX3_top 11 = .ok (.aload_n 0, 1) := dk_42 (dk_at dksX3_top_0 11 rfl rfl)
theorem dX3_top_12 : decode cX3_top 12 = .ok (.getfield 114, 3) := dk_180 0 114 (dk_at dksX3_top_0 12 rfl rfl)
theorem dX3_top_15 : decode cX3_top 15 = .ok (.aload_n 0, 1) := dk_42 (dk_at dksX3_top_0 15 rfl rfl)
theorem dX3_top_16 : decode cX3_top 16 = .ok (.getfield 287, 3) := dk_180 1 31 (dk_at dksX3_top_0 16 rfl rfl)
theorem dX3_top_19 : decode cX3_top 19 = .ok (.iconst 1, 1) := dk_4 (dk_at dksX3_top_0 19 rfl rfl)
theorem dX3_top_20 : decode cX3_top 20 = .ok (.isub, 1) := dk_100 (dk_at dksX3_top_0 20 rfl rfl)
theorem dX3_top_21 : decode cX3_top 21 = .ok (.iaload, 1) := dk_46 (dk_at dksX3_top_0 21 rfl rfl)
theorem dX3_top_22 : decode cX3_top 22 = .ok (.ireturn, 1) := dk_172 (dk_at dksX3_top_0 22 rfl rfl)
abbrev cX3_person : ByteArray := prog_21_method_74_code
def yX3_person : MethodName := ⟨RX3, "person", "(II)I"⟩
def dkwX3_person_5 : List UInt8 := [21, 4, 120, 167, 0, 4, 3, 128, 62, 132, 4, 1, 167, 255, 221, 29, 172, 2, 172]
abbrev dktX3_person_5 : List UInt8 := dkwX3_person_5 ++ []
def dkwX3_person_4 : List UInt8 := [21, 4, 42, 180, 0, 9, 3, 46, 162, 0, 30, 29, 42, 27, 21, 4, 182, 1, 201, 153, 0, 10, 4]
abbrev dktX3_person_4 : List UInt8 := dkwX3_person_4 ++ dktX3_person_5
def dkwX3_person_3 : List UInt8 := [180, 0, 22, 27, 46, 172, 42, 180, 0, 25, 27, 46, 172, 42, 27, 182, 1, 198, 172, 3, 62, 3, 54, 4]
abbrev dktX3_person_3 : List UInt8 := dkwX3_person_3 ++ dktX3_person_4
def dkwX3_person_2 : List UInt8 := [42, 180, 0, 13, 27, 46, 172, 42, 180, 0, 16, 27, 46, 172, 42, 180, 0, 19, 27, 46, 172, 42]
abbrev dktX3_person_2 : List UInt8 := dkwX3_person_2 ++ dktX3_person_3
def dkwX3_person_1 : List UInt8 := [170, 0, 0, 0, 127, 0, 0, 0, 0, 0, 0, 0, 6, 0, 0, 0, 41, 0, 0, 0, 48, 0, 0, 0, 55, 0, 0, 0, 62, 0, 0, 0, 69, 0, 0, 0, 76, 0, 0, 0, 82]
abbrev dktX3_person_1 : List UInt8 := dkwX3_person_1 ++ dktX3_person_2
def dkwX3_person_0 : List UInt8 := [42, 27, 182, 1, 194, 154, 0, 5, 2, 172, 28]
abbrev dktX3_person_0 : List UInt8 := dkwX3_person_0 ++ dktX3_person_1
theorem dksX3_person_0 : cX3_person.data.toList.drop 0 = dktX3_person_0 := by decide +kernel
theorem dksX3_person_1 : cX3_person.data.toList.drop 11 = dktX3_person_1 := dk_seg dksX3_person_0 11 rfl rfl
theorem dksX3_person_2 : cX3_person.data.toList.drop 52 = dktX3_person_2 := dk_seg dksX3_person_1 41 rfl rfl
theorem dksX3_person_3 : cX3_person.data.toList.drop 74 = dktX3_person_3 := dk_seg dksX3_person_2 22 rfl rfl
theorem dksX3_person_4 : cX3_person.data.toList.drop 98 = dktX3_person_4 := dk_seg dksX3_person_3 24 rfl rfl
theorem dksX3_person_5 : cX3_person.data.toList.drop 121 = dktX3_person_5 := dk_seg dksX3_person_4 23 rfl rfl
theorem dX3_person_0 : decode cX3_person 0 = .ok (.aload_n 0, 1) := dk_42 (dk_at dksX3_person_0 0 rfl rfl)
theorem dX3_person_1 : decode cX3_person 1 = .ok (.iload_n 1, 1) := dk_27 (dk_at dksX3_person_0 1 rfl rfl)
theorem dX3_person_2 : decode cX3_person 2 = .ok (.invokevirtual 450, 3) := dk_182 1 194 (dk_at dksX3_person_0 2 rfl rfl)
theorem dX3_person_5 : decode cX3_person 5 = .ok (.ifCond .ne 5, 3) := dk_154 0 5 (dk_at dksX3_person_0 5 rfl rfl)
theorem dX3_person_8 : decode cX3_person 8 = .ok (.iconst (-1), 1) := dk_2 (dk_at dksX3_person_0 8 rfl rfl)
theorem dX3_person_9 : decode cX3_person 9 = .ok (.ireturn, 1) := dk_172 (dk_at dksX3_person_0 9 rfl rfl)
theorem dX3_person_10 : decode cX3_person 10 = .ok (.iload_n 2, 1) := dk_28 (dk_at dksX3_person_0 10 rfl rfl)
theorem dX3_person_11 : decode cX3_person 11 = .ok (.tableswitch 127 0 6 #[41, 48, 55, 62, 69, 76, 82], 41) := by decide +kernel
theorem dX3_person_52 : decode cX3_person 52 = .ok (.aload_n 0, 1) := dk_42 (dk_at dksX3_person_2 0 rfl rfl)
theorem dX3_person_53 : decode cX3_person 53 = .ok (.getfield 13, 3) := dk_180 0 13 (dk_at dksX3_person_2 1 rfl rfl)
theorem dX3_person_56 : decode cX3_person 56 = .ok (.iload_n 1, 1) := dk_27 (dk_at dksX3_person_2 4 rfl rfl)
theorem dX3_person_57 : decode cX3_person 57 = .ok (.iaload, 1) := dk_46 (dk_at dksX3_person_2 5 rfl rfl)
theorem dX3_person_58 : decode cX3_person 58 = .ok (.ireturn, 1) := dk_172 (dk_at dksX3_person_2 6 rfl rfl)
theorem dX3_person_59 : decode cX3_person 59 = .ok (.aload_n 0, 1) := dk_42 (dk_at dksX3_person_2 7 rfl rfl)
theorem dX3_person_60 : decode cX3_person 60 = .ok (.getfield 16, 3) := dk_180 0 16 (dk_at dksX3_person_2 8 rfl rfl)
theorem dX3_person_63 : decode cX3_person 63 = .ok (.iload_n 1, 1) := dk_27 (dk_at dksX3_person_2 11 rfl rfl)
theorem dX3_person_64 : decode cX3_person 64 = .ok (.iaload, 1) := dk_46 (dk_at dksX3_person_2 12 rfl rfl)
theorem dX3_person_65 : decode cX3_person 65 = .ok (.ireturn, 1) := dk_172 (dk_at dksX3_person_2 13 rfl rfl)
theorem dX3_person_66 : decode cX3_person 66 = .ok (.aload_n 0, 1) := dk_42 (dk_at dksX3_person_2 14 rfl rfl)
theorem dX3_person_67 : decode cX3_person 67 = .ok (.getfield 19, 3) := dk_180 0 19 (dk_at dksX3_person_2 15 rfl rfl)
theorem dX3_person_70 : decode cX3_person 70 = .ok (.iload_n 1, 1) := dk_27 (dk_at dksX3_person_2 18 rfl rfl)
theorem dX3_person_71 : decode cX3_person 71 = .ok (.iaload, 1) := dk_46 (dk_at dksX3_person_2 19 rfl rfl)
theorem dX3_person_72 : decode cX3_person 72 = .ok (.ireturn, 1) := dk_172 (dk_at dksX3_person_2 20 rfl rfl)
theorem dX3_person_73 : decode cX3_person 73 = .ok (.aload_n 0, 1) := dk_42 (dk_at dksX3_person_2 21 rfl rfl)
theorem dX3_person_74 : decode cX3_person 74 = .ok (.getfield 22, 3) := dk_180 0 22 (dk_at dksX3_person_3 0 rfl rfl)
theorem dX3_person_77 : decode cX3_person 77 = .ok (.iload_n 1, 1) := dk_27 (dk_at dksX3_person_3 3 rfl rfl)
theorem dX3_person_78 : decode cX3_person 78 = .ok (.iaload, 1) := dk_46 (dk_at dksX3_person_3 4 rfl rfl)
theorem dX3_person_79 : decode cX3_person 79 = .ok (.ireturn, 1) := dk_172 (dk_at dksX3_person_3 5 rfl rfl)
theorem dX3_person_80 : decode cX3_person 80 = .ok (.aload_n 0, 1) := dk_42 (dk_at dksX3_person_3 6 rfl rfl)
theorem dX3_person_81 : decode cX3_person 81 = .ok (.getfield 25, 3) := dk_180 0 25 (dk_at dksX3_person_3 7 rfl rfl)
theorem dX3_person_84 : decode cX3_person 84 = .ok (.iload_n 1, 1) := dk_27 (dk_at dksX3_person_3 10 rfl rfl)
theorem dX3_person_85 : decode cX3_person 85 = .ok (.iaload, 1) := dk_46 (dk_at dksX3_person_3 11 rfl rfl)
theorem dX3_person_86 : decode cX3_person 86 = .ok (.ireturn, 1) := dk_172 (dk_at dksX3_person_3 12 rfl rfl)
theorem dX3_person_87 : decode cX3_person 87 = .ok (.aload_n 0, 1) := dk_42 (dk_at dksX3_person_3 13 rfl rfl)
theorem dX3_person_88 : decode cX3_person 88 = .ok (.iload_n 1, 1) := dk_27 (dk_at dksX3_person_3 14 rfl rfl)
theorem dX3_person_89 : decode cX3_person 89 = .ok (.invokevirtual 454, 3) := dk_182 1 198 (dk_at dksX3_person_3 15 rfl rfl)
theorem dX3_person_92 : decode cX3_person 92 = .ok (.ireturn, 1) := dk_172 (dk_at dksX3_person_3 18 rfl rfl)
theorem dX3_person_93 : decode cX3_person 93 = .ok (.iconst 0, 1) := dk_3 (dk_at dksX3_person_3 19 rfl rfl)
theorem dX3_person_94 : decode cX3_person 94 = .ok (.istore_n 3, 1) := dk_62 (dk_at dksX3_person_3 20 rfl rfl)
theorem dX3_person_95 : decode cX3_person 95 = .ok (.iconst 0, 1) := dk_3 (dk_at dksX3_person_3 21 rfl rfl)
theorem dX3_person_96 : decode cX3_person 96 = .ok (.istore 4, 2) := dk_54 4 (dk_at dksX3_person_3 22 rfl rfl)
theorem dX3_person_98 : decode cX3_person 98 = .ok (.iload 4, 2) := dk_21 4 (dk_at dksX3_person_4 0 rfl rfl)
theorem dX3_person_100 : decode cX3_person 100 = .ok (.aload_n 0, 1) := dk_42 (dk_at dksX3_person_4 2 rfl rfl)
theorem dX3_person_101 : decode cX3_person 101 = .ok (.getfield 9, 3) := dk_180 0 9 (dk_at dksX3_person_4 3 rfl rfl)
theorem dX3_person_104 : decode cX3_person 104 = .ok (.iconst 0, 1) := dk_3 (dk_at dksX3_person_4 6 rfl rfl)
theorem dX3_person_105 : decode cX3_person 105 = .ok (.iaload, 1) := dk_46 (dk_at dksX3_person_4 7 rfl rfl)
theorem dX3_person_106 : decode cX3_person 106 = .ok (.if_icmp .ge 30, 3) := dk_162 0 30 (dk_at dksX3_person_4 8 rfl rfl)
theorem dX3_person_109 : decode cX3_person 109 = .ok (.iload_n 3, 1) := dk_29 (dk_at dksX3_person_4 11 rfl rfl)
theorem dX3_person_110 : decode cX3_person 110 = .ok (.aload_n 0, 1) := dk_42 (dk_at dksX3_person_4 12 rfl rfl)
theorem dX3_person_111 : decode cX3_person 111 = .ok (.iload_n 1, 1) := dk_27 (dk_at dksX3_person_4 13 rfl rfl)
theorem dX3_person_112 : decode cX3_person 112 = .ok (.iload 4, 2) := dk_21 4 (dk_at dksX3_person_4 14 rfl rfl)
theorem dX3_person_114 : decode cX3_person 114 = .ok (.invokevirtual 457, 3) := dk_182 1 201 (dk_at dksX3_person_4 16 rfl rfl)
theorem dX3_person_117 : decode cX3_person 117 = .ok (.ifCond .eq 10, 3) := dk_153 0 10 (dk_at dksX3_person_4 19 rfl rfl)
theorem dX3_person_120 : decode cX3_person 120 = .ok (.iconst 1, 1) := dk_4 (dk_at dksX3_person_4 22 rfl rfl)
theorem dX3_person_121 : decode cX3_person 121 = .ok (.iload 4, 2) := dk_21 4 (dk_at dksX3_person_5 0 rfl rfl)
theorem dX3_person_123 : decode cX3_person 123 = .ok (.ishl, 1) := dk_120 (dk_at dksX3_person_5 2 rfl rfl)
theorem dX3_person_124 : decode cX3_person 124 = .ok (.goto 4, 3) := dk_167 0 4 (dk_at dksX3_person_5 3 rfl rfl)
theorem dX3_person_127 : decode cX3_person 127 = .ok (.iconst 0, 1) := dk_3 (dk_at dksX3_person_5 6 rfl rfl)
theorem dX3_person_128 : decode cX3_person 128 = .ok (.ior, 1) := dk_128 (dk_at dksX3_person_5 7 rfl rfl)
theorem dX3_person_129 : decode cX3_person 129 = .ok (.istore_n 3, 1) := dk_62 (dk_at dksX3_person_5 8 rfl rfl)
theorem dX3_person_130 : decode cX3_person 130 = .ok (.iinc 4 1, 3) := dk_132 4 1 (dk_at dksX3_person_5 9 rfl rfl)
theorem dX3_person_133 : decode cX3_person 133 = .ok (.goto (-35), 3) := dk_167 255 221 (dk_at dksX3_person_5 12 rfl rfl)
theorem dX3_person_136 : decode cX3_person 136 = .ok (.iload_n 3, 1) := dk_29 (dk_at dksX3_person_5 15 rfl rfl)
theorem dX3_person_137 : decode cX3_person 137 = .ok (.ireturn, 1) := dk_172 (dk_at dksX3_person_5 16 rfl rfl)
theorem dX3_person_138 : decode cX3_person 138 = .ok (.iconst (-1), 1) := dk_2 (dk_at dksX3_person_5 17 rfl rfl)
theorem dX3_person_139 : decode cX3_person 139 = .ok (.ireturn, 1) := dk_172 (dk_at dksX3_person_5 18 rfl rfl)
abbrev cX3_isPerson : ByteArray := prog_21_method_7_code
def yX3_isPerson : MethodName := ⟨RX3, "isPerson", "(I)Z"⟩
def dkwX3_isPerson_0 : List UInt8 := [27, 133, 9, 42, 180, 0, 9, 5, 46, 4, 100, 133, 184, 0, 179, 172]
abbrev dktX3_isPerson_0 : List UInt8 := dkwX3_isPerson_0 ++ []
theorem dksX3_isPerson_0 : cX3_isPerson.data.toList.drop 0 = dktX3_isPerson_0 := by decide +kernel
theorem dX3_isPerson_0 : decode cX3_isPerson 0 = .ok (.iload_n 1, 1) := dk_27 (dk_at dksX3_isPerson_0 0 rfl rfl)
theorem dX3_isPerson_1 : decode cX3_isPerson 1 = .ok (.i2l, 1) := dk_133 (dk_at dksX3_isPerson_0 1 rfl rfl)
theorem dX3_isPerson_2 : decode cX3_isPerson 2 = .ok (.lconst 0, 1) := dk_9 (dk_at dksX3_isPerson_0 2 rfl rfl)
theorem dX3_isPerson_3 : decode cX3_isPerson 3 = .ok (.aload_n 0, 1) := dk_42 (dk_at dksX3_isPerson_0 3 rfl rfl)
theorem dX3_isPerson_4 : decode cX3_isPerson 4 = .ok (.getfield 9, 3) := dk_180 0 9 (dk_at dksX3_isPerson_0 4 rfl rfl)
theorem dX3_isPerson_7 : decode cX3_isPerson 7 = .ok (.iconst 2, 1) := dk_5 (dk_at dksX3_isPerson_0 7 rfl rfl)
theorem dX3_isPerson_8 : decode cX3_isPerson 8 = .ok (.iaload, 1) := dk_46 (dk_at dksX3_isPerson_0 8 rfl rfl)
theorem dX3_isPerson_9 : decode cX3_isPerson 9 = .ok (.iconst 1, 1) := dk_4 (dk_at dksX3_isPerson_0 9 rfl rfl)
theorem dX3_isPerson_10 : decode cX3_isPerson 10 = .ok (.isub, 1) := dk_100 (dk_at dksX3_isPerson_0 10 rfl rfl)
theorem dX3_isPerson_11 : decode cX3_isPerson 11 = .ok (.i2l, 1) := dk_133 (dk_at dksX3_isPerson_0 11 rfl rfl)
theorem dX3_isPerson_12 : decode cX3_isPerson 12 = .ok (.invokestatic 179, 3) := dk_184 0 179 (dk_at dksX3_isPerson_0 12 rfl rfl)
theorem dX3_isPerson_15 : decode cX3_isPerson 15 = .ok (.ireturn, 1) := dk_172 (dk_at dksX3_isPerson_0 15 rfl rfl)
abbrev cX3_manyHeld : ByteArray := prog_21_method_66_code
def yX3_manyHeld : MethodName := ⟨RX3, "manyHeld", "(I)I"⟩
def dkwX3_manyHeld_1 : List UInt8 := [184, 1, 188, 96, 61, 132, 3, 1, 167, 255, 230, 28, 172]
abbrev dktX3_manyHeld_1 : List UInt8 := dkwX3_manyHeld_1 ++ []
def dkwX3_manyHeld_0 : List UInt8 := [3, 61, 3, 62, 29, 16, 8, 162, 0, 26, 28, 42, 180, 0, 52, 16, 8, 27, 104, 29, 96, 46]
abbrev dktX3_manyHeld_0 : List UInt8 := dkwX3_manyHeld_0 ++ dktX3_manyHeld_1
theorem dksX3_manyHeld_0 : cX3_manyHeld.data.toList.drop 0 = dktX3_manyHeld_0 := by decide +kernel
theorem dksX3_manyHeld_1 : cX3_manyHeld.data.toList.drop 22 = dktX3_manyHeld_1 := dk_seg dksX3_manyHeld_0 22 rfl rfl
theorem dX3_manyHeld_0 : decode cX3_manyHeld 0 = .ok (.iconst 0, 1) := dk_3 (dk_at dksX3_manyHeld_0 0 rfl rfl)
theorem dX3_manyHeld_1 : decode cX3_manyHeld 1 = .ok (.istore_n 2, 1) := dk_61 (dk_at dksX3_manyHeld_0 1 rfl rfl)
theorem dX3_manyHeld_2 : decode cX3_manyHeld 2 = .ok (.iconst 0, 1) := dk_3 (dk_at dksX3_manyHeld_0 2 rfl rfl)
theorem dX3_manyHeld_3 : decode cX3_manyHeld 3 = .ok (.istore_n 3, 1) := dk_62 (dk_at dksX3_manyHeld_0 3 rfl rfl)
theorem dX3_manyHeld_4 : decode cX3_manyHeld 4 = .ok (.iload_n 3, 1) := dk_29 (dk_at dksX3_manyHeld_0 4 rfl rfl)
theorem dX3_manyHeld_5 : decode cX3_manyHeld 5 = .ok (.bipush 8, 2) := dk_16 8 (dk_at dksX3_manyHeld_0 5 rfl rfl)
theorem dX3_manyHeld_7 : decode cX3_manyHeld 7 = .ok (.if_icmp .ge 26, 3) := dk_162 0 26 (dk_at dksX3_manyHeld_0 7 rfl rfl)
theorem dX3_manyHeld_10 : decode cX3_manyHeld 10 = .ok (.iload_n 2, 1) := dk_28 (dk_at dksX3_manyHeld_0 10 rfl rfl)
theorem dX3_manyHeld_11 : decode cX3_manyHeld 11 = .ok (.aload_n 0, 1) := dk_42 (dk_at dksX3_manyHeld_0 11 rfl rfl)
theorem dX3_manyHeld_12 : decode cX3_manyHeld 12 = .ok (.getfield 52, 3) := dk_180 0 52 (dk_at dksX3_manyHeld_0 12 rfl rfl)
theorem dX3_manyHeld_15 : decode cX3_manyHeld 15 = .ok (.bipush 8, 2) := dk_16 8 (dk_at dksX3_manyHeld_0 15 rfl rfl)
theorem dX3_manyHeld_17 : decode cX3_manyHeld 17 = .ok (.iload_n 1, 1) := dk_27 (dk_at dksX3_manyHeld_0 17 rfl rfl)
theorem dX3_manyHeld_18 : decode cX3_manyHeld 18 = .ok (.imul, 1) := dk_104 (dk_at dksX3_manyHeld_0 18 rfl rfl)
theorem dX3_manyHeld_19 : decode cX3_manyHeld 19 = .ok (.iload_n 3, 1) := dk_29 (dk_at dksX3_manyHeld_0 19 rfl rfl)
theorem dX3_manyHeld_20 : decode cX3_manyHeld 20 = .ok (.iadd, 1) := dk_96 (dk_at dksX3_manyHeld_0 20 rfl rfl)
theorem dX3_manyHeld_21 : decode cX3_manyHeld 21 = .ok (.iaload, 1) := dk_46 (dk_at dksX3_manyHeld_0 21 rfl rfl)
theorem dX3_manyHeld_22 : decode cX3_manyHeld 22 = .ok (.invokestatic 444, 3) := dk_184 1 188 (dk_at dksX3_manyHeld_1 0 rfl rfl)
theorem dX3_manyHeld_25 : decode cX3_manyHeld 25 = .ok (.iadd, 1) := dk_96 (dk_at dksX3_manyHeld_1 3 rfl rfl)
theorem dX3_manyHeld_26 : decode cX3_manyHeld 26 = .ok (.istore_n 2, 1) := dk_61 (dk_at dksX3_manyHeld_1 4 rfl rfl)
theorem dX3_manyHeld_27 : decode cX3_manyHeld 27 = .ok (.iinc 3 1, 3) := dk_132 3 1 (dk_at dksX3_manyHeld_1 5 rfl rfl)
theorem dX3_manyHeld_30 : decode cX3_manyHeld 30 = .ok (.goto (-26), 3) := dk_167 255 230 (dk_at dksX3_manyHeld_1 8 rfl rfl)
theorem dX3_manyHeld_33 : decode cX3_manyHeld 33 = .ok (.iload_n 2, 1) := dk_28 (dk_at dksX3_manyHeld_1 11 rfl rfl)
theorem dX3_manyHeld_34 : decode cX3_manyHeld 34 = .ok (.ireturn, 1) := dk_172 (dk_at dksX3_manyHeld_1 12 rfl rfl)
abbrev cX3_bits : ByteArray := prog_21_method_4_code
def yX3_bits : MethodName := ⟨RX3, "bits", "(I)I"⟩
def dkwX3_bits_1 : List UInt8 := [27, 172]
abbrev dktX3_bits_1 : List UInt8 := dkwX3_bits_1 ++ []
def dkwX3_bits_0 : List UInt8 := [3, 60, 3, 61, 28, 16, 32, 162, 0, 17, 27, 26, 28, 124, 4, 126, 96, 60, 132, 2, 1, 167, 255, 239]
abbrev dktX3_bits_0 : List UInt8 := dkwX3_bits_0 ++ dktX3_bits_1
theorem dksX3_bits_0 : cX3_bits.data.toList.drop 0 = dktX3_bits_0 := by decide +kernel
theorem dksX3_bits_1 : cX3_bits.data.toList.drop 24 = dktX3_bits_1 := dk_seg dksX3_bits_0 24 rfl rfl
theorem dX3_bits_0 : decode cX3_bits 0 = .ok (.iconst 0, 1) := dk_3 (dk_at dksX3_bits_0 0 rfl rfl)
theorem dX3_bits_1 : decode cX3_bits 1 = .ok (.istore_n 1, 1) := dk_60 (dk_at dksX3_bits_0 1 rfl rfl)
theorem dX3_bits_2 : decode cX3_bits 2 = .ok (.iconst 0, 1) := dk_3 (dk_at dksX3_bits_0 2 rfl rfl)
theorem dX3_bits_3 : decode cX3_bits 3 = .ok (.istore_n 2, 1) := dk_61 (dk_at dksX3_bits_0 3 rfl rfl)
theorem dX3_bits_4 : decode cX3_bits 4 = .ok (.iload_n 2, 1) := dk_28 (dk_at dksX3_bits_0 4 rfl rfl)
theorem dX3_bits_5 : decode cX3_bits 5 = .ok (.bipush 32, 2) := dk_16 32 (dk_at dksX3_bits_0 5 rfl rfl)
theorem dX3_bits_7 : decode cX3_bits 7 = .ok (.if_icmp .ge 17, 3) := dk_162 0 17 (dk_at dksX3_bits_0 7 rfl rfl)
theorem dX3_bits_10 : decode cX3_bits 10 = .ok (.iload_n 1, 1) := dk_27 (dk_at dksX3_bits_0 10 rfl rfl)
theorem dX3_bits_11 : decode cX3_bits 11 = .ok (.iload_n 0, 1) := dk_26 (dk_at dksX3_bits_0 11 rfl rfl)
theorem dX3_bits_12 : decode cX3_bits 12 = .ok (.iload_n 2, 1) := dk_28 (dk_at dksX3_bits_0 12 rfl rfl)
theorem dX3_bits_13 : decode cX3_bits 13 = .ok (.iushr, 1) := dk_124 (dk_at dksX3_bits_0 13 rfl rfl)
theorem dX3_bits_14 : decode cX3_bits 14 = .ok (.iconst 1, 1) := dk_4 (dk_at dksX3_bits_0 14 rfl rfl)
theorem dX3_bits_15 : decode cX3_bits 15 = .ok (.iand, 1) := dk_126 (dk_at dksX3_bits_0 15 rfl rfl)
theorem dX3_bits_16 : decode cX3_bits 16 = .ok (.iadd, 1) := dk_96 (dk_at dksX3_bits_0 16 rfl rfl)
theorem dX3_bits_17 : decode cX3_bits 17 = .ok (.istore_n 1, 1) := dk_60 (dk_at dksX3_bits_0 17 rfl rfl)
theorem dX3_bits_18 : decode cX3_bits 18 = .ok (.iinc 2 1, 3) := dk_132 2 1 (dk_at dksX3_bits_0 18 rfl rfl)
theorem dX3_bits_21 : decode cX3_bits 21 = .ok (.goto (-17), 3) := dk_167 255 239 (dk_at dksX3_bits_0 21 rfl rfl)
theorem dX3_bits_24 : decode cX3_bits 24 = .ok (.iload_n 1, 1) := dk_27 (dk_at dksX3_bits_1 0 rfl rfl)
theorem dX3_bits_25 : decode cX3_bits 25 = .ok (.ireturn, 1) := dk_172 (dk_at dksX3_bits_1 1 rfl rfl)
abbrev cX3_knowsFact : ByteArray := prog_21_method_72_code
def yX3_knowsFact : MethodName := ⟨RX3, "knowsFact", "(II)Z"⟩
def dkwX3_knowsFact_2 : List UInt8 := [160, 0, 7, 4, 167, 0, 4, 3, 62, 132, 4, 1, 167, 255, 205, 29, 172]
abbrev dktX3_knowsFact_2 : List UInt8 := dkwX3_knowsFact_2 ++ []
def dkwX3_knowsFact_1 : List UInt8 := [182, 1, 191, 153, 0, 22, 21, 4, 28, 184, 1, 112, 42, 180, 0, 9, 4, 46, 28, 184, 1, 112]
abbrev dktX3_knowsFact_1 : List UInt8 := dkwX3_knowsFact_1 ++ dktX3_knowsFact_2
def dkwX3_knowsFact_0 : List UInt8 := [4, 62, 3, 54, 4, 21, 4, 42, 182, 0, 190, 162, 0, 48, 29, 153, 0, 36, 42, 27, 21, 4]
abbrev dktX3_knowsFact_0 : List UInt8 := dkwX3_knowsFact_0 ++ dktX3_knowsFact_1
theorem dksX3_knowsFact_0 : cX3_knowsFact.data.toList.drop 0 = dktX3_knowsFact_0 := by decide +kernel
theorem dksX3_knowsFact_1 : cX3_knowsFact.data.toList.drop 22 = dktX3_knowsFact_1 := dk_seg dksX3_knowsFact_0 22 rfl rfl
theorem dksX3_knowsFact_2 : cX3_knowsFact.data.toList.drop 44 = dktX3_knowsFact_2 := dk_seg dksX3_knowsFact_1 22 rfl rfl
theorem dX3_knowsFact_0 : decode cX3_knowsFact 0 = .ok (.iconst 1, 1) := dk_4 (dk_at dksX3_knowsFact_0 0 rfl rfl)
theorem dX3_knowsFact_1 : decode cX3_knowsFact 1 = .ok (.istore_n 3, 1) := dk_62 (dk_at dksX3_knowsFact_0 1 rfl rfl)
theorem dX3_knowsFact_2 : decode cX3_knowsFact 2 = .ok (.iconst 0, 1) := dk_3 (dk_at dksX3_knowsFact_0 2 rfl rfl)
theorem dX3_knowsFact_3 : decode cX3_knowsFact 3 = .ok (.istore 4, 2) := dk_54 4 (dk_at dksX3_knowsFact_0 3 rfl rfl)
theorem dX3_knowsFact_5 : decode cX3_knowsFact 5 = .ok (.iload 4, 2) := dk_21 4 (dk_at dksX3_knowsFact_0 5 rfl rfl)
theorem dX3_knowsFact_7 : decode cX3_knowsFact 7 = .ok (.aload_n 0, 1) := dk_42 (dk_at dksX3_knowsFact_0 7 rfl rfl)
theorem dX3_knowsFact_8 : decode cX3_knowsFact 8 = .ok (.invokevirtual 190, 3) := dk_182 0 190 (dk_at dksX3_knowsFact_0 8 rfl rfl)
theorem dX3_knowsFact_11 : decode cX3_knowsFact 11 = .ok (.if_icmp .ge 48, 3) := dk_162 0 48 (dk_at dksX3_knowsFact_0 11 rfl rfl)
theorem dX3_knowsFact_14 : decode cX3_knowsFact 14 = .ok (.iload_n 3, 1) := dk_29 (dk_at dksX3_knowsFact_0 14 rfl rfl)
theorem dX3_knowsFact_15 : decode cX3_knowsFact 15 = .ok (.ifCond .eq 36, 3) := dk_153 0 36 (dk_at dksX3_knowsFact_0 15 rfl rfl)
theorem dX3_knowsFact_18 : decode cX3_knowsFact 18 = .ok (.aload_n 0, 1) := dk_42 (dk_at dksX3_knowsFact_0 18 rfl rfl)
theorem dX3_knowsFact_19 : decode cX3_knowsFact 19 = .ok (.iload_n 1, 1) := dk_27 (dk_at dksX3_knowsFact_0 19 rfl rfl)
theorem dX3_knowsFact_20 : decode cX3_knowsFact 20 = .ok (.iload 4, 2) := dk_21 4 (dk_at dksX3_knowsFact_0 20 rfl rfl)
theorem dX3_knowsFact_22 : decode cX3_knowsFact 22 = .ok (.invokevirtual 447, 3) := dk_182 1 191 (dk_at dksX3_knowsFact_1 0 rfl rfl)
theorem dX3_knowsFact_25 : decode cX3_knowsFact 25 = .ok (.ifCond .eq 22, 3) := dk_153 0 22 (dk_at dksX3_knowsFact_1 3 rfl rfl)
theorem dX3_knowsFact_28 : decode cX3_knowsFact 28 = .ok (.iload 4, 2) := dk_21 4 (dk_at dksX3_knowsFact_1 6 rfl rfl)
theorem dX3_knowsFact_30 : decode cX3_knowsFact 30 = .ok (.iload_n 2, 1) := dk_28 (dk_at dksX3_knowsFact_1 8 rfl rfl)
theorem dX3_knowsFact_31 : decode cX3_knowsFact 31 = .ok (.invokestatic 368, 3) := dk_184 1 112 (dk_at dksX3_knowsFact_1 9 rfl rfl)
theorem dX3_knowsFact_34 : decode cX3_knowsFact 34 = .ok (.aload_n 0, 1) := dk_42 (dk_at dksX3_knowsFact_1 12 rfl rfl)
theorem dX3_knowsFact_35 : decode cX3_knowsFact 35 = .ok (.getfield 9, 3) := dk_180 0 9 (dk_at dksX3_knowsFact_1 13 rfl rfl)
theorem dX3_knowsFact_38 : decode cX3_knowsFact 38 = .ok (.iconst 1, 1) := dk_4 (dk_at dksX3_knowsFact_1 16 rfl rfl)
theorem dX3_knowsFact_39 : decode cX3_knowsFact 39 = .ok (.iaload, 1) := dk_46 (dk_at dksX3_knowsFact_1 17 rfl rfl)
theorem dX3_knowsFact_40 : decode cX3_knowsFact 40 = .ok (.iload_n 2, 1) := dk_28 (dk_at dksX3_knowsFact_1 18 rfl rfl)
theorem dX3_knowsFact_41 : decode cX3_knowsFact 41 = .ok (.invokestatic 368, 3) := dk_184 1 112 (dk_at dksX3_knowsFact_1 19 rfl rfl)
theorem dX3_knowsFact_44 : decode cX3_knowsFact 44 = .ok (.if_icmp .ne 7, 3) := dk_160 0 7 (dk_at dksX3_knowsFact_2 0 rfl rfl)
theorem dX3_knowsFact_47 : decode cX3_knowsFact 47 = .ok (.iconst 1, 1) := dk_4 (dk_at dksX3_knowsFact_2 3 rfl rfl)
theorem dX3_knowsFact_48 : decode cX3_knowsFact 48 = .ok (.goto 4, 3) := dk_167 0 4 (dk_at dksX3_knowsFact_2 4 rfl rfl)
theorem dX3_knowsFact_51 : decode cX3_knowsFact 51 = .ok (.iconst 0, 1) := dk_3 (dk_at dksX3_knowsFact_2 7 rfl rfl)
theorem dX3_knowsFact_52 : decode cX3_knowsFact 52 = .ok (.istore_n 3, 1) := dk_62 (dk_at dksX3_knowsFact_2 8 rfl rfl)
theorem dX3_knowsFact_53 : decode cX3_knowsFact 53 = .ok (.iinc 4 1, 3) := dk_132 4 1 (dk_at dksX3_knowsFact_2 9 rfl rfl)
theorem dX3_knowsFact_56 : decode cX3_knowsFact 56 = .ok (.goto (-51), 3) := dk_167 255 205 (dk_at dksX3_knowsFact_2 12 rfl rfl)
theorem dX3_knowsFact_59 : decode cX3_knowsFact 59 = .ok (.iload_n 3, 1) := dk_29 (dk_at dksX3_knowsFact_2 15 rfl rfl)
theorem dX3_knowsFact_60 : decode cX3_knowsFact 60 = .ok (.ireturn, 1) := dk_172 (dk_at dksX3_knowsFact_2 16 rfl rfl)
abbrev cX3_isHeld : ByteArray := prog_21_method_71_code
def yX3_isHeld : MethodName := ⟨RX3, "isHeld", "(II)Z"⟩
def dkwX3_isHeld_0 : List UInt8 := [42, 180, 0, 52, 16, 8, 27, 104, 28, 16, 32, 108, 96, 46, 28, 16, 32, 112, 184, 1, 112, 172]
abbrev dktX3_isHeld_0 : List UInt8 := dkwX3_isHeld_0 ++ []
theorem dksX3_isHeld_0 : cX3_isHeld.data.toList.drop 0 = dktX3_isHeld_0 := by decide +kernel
theorem dX3_isHeld_0 : decode cX3_isHeld 0 = .ok (.aload_n 0, 1) := dk_42 (dk_at dksX3_isHeld_0 0 rfl rfl)
theorem dX3_isHeld_1 : decode cX3_isHeld 1 = .ok (.getfield 52, 3) := dk_180 0 52 (dk_at dksX3_isHeld_0 1 rfl rfl)
theorem dX3_isHeld_4 : decode cX3_isHeld 4 = .ok (.bipush 8, 2) := dk_16 8 (dk_at dksX3_isHeld_0 4 rfl rfl)
theorem dX3_isHeld_6 : decode cX3_isHeld 6 = .ok (.iload_n 1, 1) := dk_27 (dk_at dksX3_isHeld_0 6 rfl rfl)
theorem dX3_isHeld_7 : decode cX3_isHeld 7 = .ok (.imul, 1) := dk_104 (dk_at dksX3_isHeld_0 7 rfl rfl)
theorem dX3_isHeld_8 : decode cX3_isHeld 8 = .ok (.iload_n 2, 1) := dk_28 (dk_at dksX3_isHeld_0 8 rfl rfl)
theorem dX3_isHeld_9 : decode cX3_isHeld 9 = .ok (.bipush 32, 2) := dk_16 32 (dk_at dksX3_isHeld_0 9 rfl rfl)
theorem dX3_isHeld_11 : decode cX3_isHeld 11 = .ok (.idiv, 1) := dk_108 (dk_at dksX3_isHeld_0 11 rfl rfl)
theorem dX3_isHeld_12 : decode cX3_isHeld 12 = .ok (.iadd, 1) := dk_96 (dk_at dksX3_isHeld_0 12 rfl rfl)
theorem dX3_isHeld_13 : decode cX3_isHeld 13 = .ok (.iaload, 1) := dk_46 (dk_at dksX3_isHeld_0 13 rfl rfl)
theorem dX3_isHeld_14 : decode cX3_isHeld 14 = .ok (.iload_n 2, 1) := dk_28 (dk_at dksX3_isHeld_0 14 rfl rfl)
theorem dX3_isHeld_15 : decode cX3_isHeld 15 = .ok (.bipush 32, 2) := dk_16 32 (dk_at dksX3_isHeld_0 15 rfl rfl)
theorem dX3_isHeld_17 : decode cX3_isHeld 17 = .ok (.irem, 1) := dk_112 (dk_at dksX3_isHeld_0 17 rfl rfl)
theorem dX3_isHeld_18 : decode cX3_isHeld 18 = .ok (.invokestatic 368, 3) := dk_184 1 112 (dk_at dksX3_isHeld_0 18 rfl rfl)
theorem dX3_isHeld_21 : decode cX3_isHeld 21 = .ok (.ireturn, 1) := dk_172 (dk_at dksX3_isHeld_0 21 rfl rfl)
abbrev cX3_fact_2 : ByteArray := prog_21_method_75_code
def yX3_fact_2 : MethodName := ⟨RX3, "fact", "(I)I"⟩
def dkwX3_fact_2_0 : List UInt8 := [42, 27, 182, 1, 204, 153, 0, 16, 42, 180, 0, 9, 4, 46, 27, 122, 4, 126, 167, 0, 4, 2, 172]
abbrev dktX3_fact_2_0 : List UInt8 := dkwX3_fact_2_0 ++ []
theorem dksX3_fact_2_0 : cX3_fact_2.data.toList.drop 0 = dktX3_fact_2_0 := by decide +kernel
theorem dX3_fact_2_0 : decode cX3_fact_2 0 = .ok (.aload_n 0, 1) := dk_42 (dk_at dksX3_fact_2_0 0 rfl rfl)
theorem dX3_fact_2_1 : decode cX3_fact_2 1 = .ok (.iload_n 1, 1) := dk_27 (dk_at dksX3_fact_2_0 1 rfl rfl)
theorem dX3_fact_2_2 : decode cX3_fact_2 2 = .ok (.invokevirtual 460, 3) := dk_182 1 204 (dk_at dksX3_fact_2_0 2 rfl rfl)
theorem dX3_fact_2_5 : decode cX3_fact_2 5 = .ok (.ifCond .eq 16, 3) := dk_153 0 16 (dk_at dksX3_fact_2_0 5 rfl rfl)
theorem dX3_fact_2_8 : decode cX3_fact_2 8 = .ok (.aload_n 0, 1) := dk_42 (dk_at dksX3_fact_2_0 8 rfl rfl)
theorem dX3_fact_2_9 : decode cX3_fact_2 9 = .ok (.getfield 9, 3) := dk_180 0 9 (dk_at dksX3_fact_2_0 9 rfl rfl)
theorem dX3_fact_2_12 : decode cX3_fact_2 12 = .ok (.iconst 1, 1) := dk_4 (dk_at dksX3_fact_2_0 12 rfl rfl)
theorem dX3_fact_2_13 : decode cX3_fact_2 13 = .ok (.iaload, 1) := dk_46 (dk_at dksX3_fact_2_0 13 rfl rfl)
theorem dX3_fact_2_14 : decode cX3_fact_2 14 = .ok (.iload_n 1, 1) := dk_27 (dk_at dksX3_fact_2_0 14 rfl rfl)
theorem dX3_fact_2_15 : decode cX3_fact_2 15 = .ok (.ishr, 1) := dk_122 (dk_at dksX3_fact_2_0 15 rfl rfl)
theorem dX3_fact_2_16 : decode cX3_fact_2 16 = .ok (.iconst 1, 1) := dk_4 (dk_at dksX3_fact_2_0 16 rfl rfl)
theorem dX3_fact_2_17 : decode cX3_fact_2 17 = .ok (.iand, 1) := dk_126 (dk_at dksX3_fact_2_0 17 rfl rfl)
theorem dX3_fact_2_18 : decode cX3_fact_2 18 = .ok (.goto 4, 3) := dk_167 0 4 (dk_at dksX3_fact_2_0 18 rfl rfl)
theorem dX3_fact_2_21 : decode cX3_fact_2 21 = .ok (.iconst (-1), 1) := dk_2 (dk_at dksX3_fact_2_0 21 rfl rfl)
theorem dX3_fact_2_22 : decode cX3_fact_2 22 = .ok (.ireturn, 1) := dk_172 (dk_at dksX3_fact_2_0 22 rfl rfl)
abbrev cX3_isFact : ByteArray := prog_21_method_9_code
def yX3_isFact : MethodName := ⟨RX3, "isFact", "(I)Z"⟩
def dkwX3_isFact_0 : List UInt8 := [27, 133, 9, 42, 180, 0, 9, 3, 46, 4, 100, 133, 184, 0, 179, 172]
abbrev dktX3_isFact_0 : List UInt8 := dkwX3_isFact_0 ++ []
theorem dksX3_isFact_0 : cX3_isFact.data.toList.drop 0 = dktX3_isFact_0 := by decide +kernel
theorem dX3_isFact_0 : decode cX3_isFact 0 = .ok (.iload_n 1, 1) := dk_27 (dk_at dksX3_isFact_0 0 rfl rfl)
theorem dX3_isFact_1 : decode cX3_isFact 1 = .ok (.i2l, 1) := dk_133 (dk_at dksX3_isFact_0 1 rfl rfl)
theorem dX3_isFact_2 : decode cX3_isFact 2 = .ok (.lconst 0, 1) := dk_9 (dk_at dksX3_isFact_0 2 rfl rfl)
theorem dX3_isFact_3 : decode cX3_isFact 3 = .ok (.aload_n 0, 1) := dk_42 (dk_at dksX3_isFact_0 3 rfl rfl)
theorem dX3_isFact_4 : decode cX3_isFact 4 = .ok (.getfield 9, 3) := dk_180 0 9 (dk_at dksX3_isFact_0 4 rfl rfl)
theorem dX3_isFact_7 : decode cX3_isFact 7 = .ok (.iconst 0, 1) := dk_3 (dk_at dksX3_isFact_0 7 rfl rfl)
theorem dX3_isFact_8 : decode cX3_isFact 8 = .ok (.iaload, 1) := dk_46 (dk_at dksX3_isFact_0 8 rfl rfl)
theorem dX3_isFact_9 : decode cX3_isFact 9 = .ok (.iconst 1, 1) := dk_4 (dk_at dksX3_isFact_0 9 rfl rfl)
theorem dX3_isFact_10 : decode cX3_isFact 10 = .ok (.isub, 1) := dk_100 (dk_at dksX3_isFact_0 10 rfl rfl)
theorem dX3_isFact_11 : decode cX3_isFact 11 = .ok (.i2l, 1) := dk_133 (dk_at dksX3_isFact_0 11 rfl rfl)
theorem dX3_isFact_12 : decode cX3_isFact 12 = .ok (.invokestatic 179, 3) := dk_184 0 179 (dk_at dksX3_isFact_0 12 rfl rfl)
theorem dX3_isFact_15 : decode cX3_isFact 15 = .ok (.ireturn, 1) := dk_172 (dk_at dksX3_isFact_0 15 rfl rfl)
abbrev cX3_place : ByteArray := prog_21_method_76_code
def yX3_place : MethodName := ⟨RX3, "place", "(I)I"⟩
def dkwX3_place_0 : List UInt8 := [42, 27, 182, 1, 207, 153, 0, 12, 42, 180, 0, 28, 27, 46, 167, 0, 4, 2, 172]
abbrev dktX3_place_0 : List UInt8 := dkwX3_place_0 ++ []
theorem dksX3_place_0 : cX3_place.data.toList.drop 0 = dktX3_place_0 := by decide +kernel
theorem dX3_place_0 : decode cX3_place 0 = .ok (.aload_n 0, 1) := dk_42 (dk_at dksX3_place_0 0 rfl rfl)
theorem dX3_place_1 : decode cX3_place 1 = .ok (.iload_n 1, 1) := dk_27 (dk_at dksX3_place_0 1 rfl rfl)
theorem dX3_place_2 : decode cX3_place 2 = .ok (.invokevirtual 463, 3) := dk_182 1 207 (dk_at dksX3_place_0 2 rfl rfl)
theorem dX3_place_5 : decode cX3_place 5 = .ok (.ifCond .eq 12, 3) := dk_153 0 12 (dk_at dksX3_place_0 5 rfl rfl)
theorem dX3_place_8 : decode cX3_place 8 = .ok (.aload_n 0, 1) := dk_42 (dk_at dksX3_place_0 8 rfl rfl)
theorem dX3_place_9 : decode cX3_place 9 = .ok (.getfield 28, 3) := dk_180 0 28 (dk_at dksX3_place_0 9 rfl rfl)
theorem dX3_place_12 : decode cX3_place 12 = .ok (.iload_n 1, 1) := dk_27 (dk_at dksX3_place_0 12 rfl rfl)
theorem dX3_place_13 : decode cX3_place 13 = .ok (.iaload, 1) := dk_46 (dk_at dksX3_place_0 13 rfl rfl)
theorem dX3_place_14 : decode cX3_place 14 = .ok (.goto 4, 3) := dk_167 0 4 (dk_at dksX3_place_0 14 rfl rfl)
theorem dX3_place_17 : decode cX3_place 17 = .ok (.iconst (-1), 1) := dk_2 (dk_at dksX3_place_0 17 rfl rfl)
theorem dX3_place_18 : decode cX3_place 18 = .ok (.ireturn, 1) := dk_172 (dk_at dksX3_place_0 18 rfl rfl)
abbrev cX3_isPlace : ByteArray := prog_21_method_8_code
def yX3_isPlace : MethodName := ⟨RX3, "isPlace", "(I)Z"⟩
def dkwX3_isPlace_0 : List UInt8 := [27, 133, 9, 42, 180, 0, 9, 6, 46, 4, 100, 133, 184, 0, 179, 172]
abbrev dktX3_isPlace_0 : List UInt8 := dkwX3_isPlace_0 ++ []
theorem dksX3_isPlace_0 : cX3_isPlace.data.toList.drop 0 = dktX3_isPlace_0 := by decide +kernel
theorem dX3_isPlace_0 : decode cX3_isPlace 0 = .ok (.iload_n 1, 1) := dk_27 (dk_at dksX3_isPlace_0 0 rfl rfl)
theorem dX3_isPlace_1 : decode cX3_isPlace 1 = .ok (.i2l, 1) := dk_133 (dk_at dksX3_isPlace_0 1 rfl rfl)
theorem dX3_isPlace_2 : decode cX3_isPlace 2 = .ok (.lconst 0, 1) := dk_9 (dk_at dksX3_isPlace_0 2 rfl rfl)
theorem dX3_isPlace_3 : decode cX3_isPlace 3 = .ok (.aload_n 0, 1) := dk_42 (dk_at dksX3_isPlace_0 3 rfl rfl)
theorem dX3_isPlace_4 : decode cX3_isPlace 4 = .ok (.getfield 9, 3) := dk_180 0 9 (dk_at dksX3_isPlace_0 4 rfl rfl)
theorem dX3_isPlace_7 : decode cX3_isPlace 7 = .ok (.iconst 3, 1) := dk_6 (dk_at dksX3_isPlace_0 7 rfl rfl)
theorem dX3_isPlace_8 : decode cX3_isPlace 8 = .ok (.iaload, 1) := dk_46 (dk_at dksX3_isPlace_0 8 rfl rfl)
theorem dX3_isPlace_9 : decode cX3_isPlace 9 = .ok (.iconst 1, 1) := dk_4 (dk_at dksX3_isPlace_0 9 rfl rfl)
theorem dX3_isPlace_10 : decode cX3_isPlace 10 = .ok (.isub, 1) := dk_100 (dk_at dksX3_isPlace_0 10 rfl rfl)
theorem dX3_isPlace_11 : decode cX3_isPlace 11 = .ok (.i2l, 1) := dk_133 (dk_at dksX3_isPlace_0 11 rfl rfl)
theorem dX3_isPlace_12 : decode cX3_isPlace 12 = .ok (.invokestatic 179, 3) := dk_184 0 179 (dk_at dksX3_isPlace_0 12 rfl rfl)
theorem dX3_isPlace_15 : decode cX3_isPlace 15 = .ok (.ireturn, 1) := dk_172 (dk_at dksX3_isPlace_0 15 rfl rfl)
abbrev cX3_way : ByteArray := prog_21_method_79_code
def yX3_way : MethodName := ⟨RX3, "way", "(II)I"⟩
def dkwX3_way_1 : List UInt8 := [28, 182, 1, 214, 19, 1, 210, 160, 0, 8, 16, 254, 167, 0, 9, 42, 27, 28, 182, 1, 214, 172]
abbrev dktX3_way_1 : List UInt8 := dkwX3_way_1 ++ []
def dkwX3_way_0 : List UInt8 := [42, 27, 182, 1, 207, 153, 0, 11, 42, 28, 182, 1, 207, 154, 0, 5, 2, 172, 42, 182, 1, 211, 42, 27]
abbrev dktX3_way_0 : List UInt8 := dkwX3_way_0 ++ dktX3_way_1
theorem dksX3_way_0 : cX3_way.data.toList.drop 0 = dktX3_way_0 := by decide +kernel
theorem dksX3_way_1 : cX3_way.data.toList.drop 24 = dktX3_way_1 := dk_seg dksX3_way_0 24 rfl rfl
theorem dX3_way_0 : decode cX3_way 0 = .ok (.aload_n 0, 1) := dk_42 (dk_at dksX3_way_0 0 rfl rfl)
theorem dX3_way_1 : decode cX3_way 1 = .ok (.iload_n 1, 1) := dk_27 (dk_at dksX3_way_0 1 rfl rfl)
theorem dX3_way_2 : decode cX3_way 2 = .ok (.invokevirtual 463, 3) := dk_182 1 207 (dk_at dksX3_way_0 2 rfl rfl)
theorem dX3_way_5 : decode cX3_way 5 = .ok (.ifCond .eq 11, 3) := dk_153 0 11 (dk_at dksX3_way_0 5 rfl rfl)
theorem dX3_way_8 : decode cX3_way 8 = .ok (.aload_n 0, 1) := dk_42 (dk_at dksX3_way_0 8 rfl rfl)
theorem dX3_way_9 : decode cX3_way 9 = .ok (.iload_n 2, 1) := dk_28 (dk_at dksX3_way_0 9 rfl rfl)
theorem dX3_way_10 : decode cX3_way 10 = .ok (.invokevirtual 463, 3) := dk_182 1 207 (dk_at dksX3_way_0 10 rfl rfl)
theorem dX3_way_13 : decode cX3_way 13 = .ok (.ifCond .ne 5, 3) := dk_154 0 5 (dk_at dksX3_way_0 13 rfl rfl)
theorem dX3_way_16 : decode cX3_way 16 = .ok (.iconst (-1), 1) := dk_2 (dk_at dksX3_way_0 16 rfl rfl)
theorem dX3_way_17 : decode cX3_way 17 = .ok (.ireturn, 1) := dk_172 (dk_at dksX3_way_0 17 rfl rfl)
theorem dX3_way_18 : decode cX3_way 18 = .ok (.aload_n 0, 1) := dk_42 (dk_at dksX3_way_0 18 rfl rfl)
theorem dX3_way_19 : decode cX3_way 19 = .ok (.invokevirtual 467, 3) := dk_182 1 211 (dk_at dksX3_way_0 19 rfl rfl)
theorem dX3_way_22 : decode cX3_way 22 = .ok (.aload_n 0, 1) := dk_42 (dk_at dksX3_way_0 22 rfl rfl)
theorem dX3_way_23 : decode cX3_way 23 = .ok (.iload_n 1, 1) := dk_27 (dk_at dksX3_way_0 23 rfl rfl)
theorem dX3_way_24 : decode cX3_way 24 = .ok (.iload_n 2, 1) := dk_28 (dk_at dksX3_way_1 0 rfl rfl)
theorem dX3_way_25 : decode cX3_way 25 = .ok (.invokevirtual 470, 3) := dk_182 1 214 (dk_at dksX3_way_1 1 rfl rfl)
theorem dX3_way_28 : decode cX3_way 28 = .ok (.ldc_w 466, 3) := dk_19 1 210 (dk_at dksX3_way_1 4 rfl rfl)
theorem dX3_way_31 : decode cX3_way 31 = .ok (.if_icmp .ne 8, 3) := dk_160 0 8 (dk_at dksX3_way_1 7 rfl rfl)
theorem dX3_way_34 : decode cX3_way 34 = .ok (.bipush (-2), 2) := dk_16 254 (dk_at dksX3_way_1 10 rfl rfl)
theorem dX3_way_36 : decode cX3_way 36 = .ok (.goto 9, 3) := dk_167 0 9 (dk_at dksX3_way_1 12 rfl rfl)
theorem dX3_way_39 : decode cX3_way 39 = .ok (.aload_n 0, 1) := dk_42 (dk_at dksX3_way_1 15 rfl rfl)
theorem dX3_way_40 : decode cX3_way 40 = .ok (.iload_n 1, 1) := dk_27 (dk_at dksX3_way_1 16 rfl rfl)
theorem dX3_way_41 : decode cX3_way 41 = .ok (.iload_n 2, 1) := dk_28 (dk_at dksX3_way_1 17 rfl rfl)
theorem dX3_way_42 : decode cX3_way 42 = .ok (.invokevirtual 470, 3) := dk_182 1 214 (dk_at dksX3_way_1 18 rfl rfl)
theorem dX3_way_45 : decode cX3_way 45 = .ok (.ireturn, 1) := dk_172 (dk_at dksX3_way_1 21 rfl rfl)
abbrev cX3_laysWays : ByteArray := prog_21_method_77_code
def yX3_laysWays : MethodName := ⟨RX3, "laysWays", "()V"⟩
def dkwX3_laysWays_11 : List UInt8 := [132, 1, 1, 167, 255, 151, 177]
abbrev dktX3_laysWays_11 : List UInt8 := dkwX3_laysWays_11 ++ []
def dkwX3_laysWays_10 : List UInt8 := [180, 0, 139, 16, 6, 28, 104, 29, 96, 46, 79, 132, 3, 1, 167, 255, 179, 132, 2, 1, 167, 255, 165]
abbrev dktX3_laysWays_10 : List UInt8 := dkwX3_laysWays_10 ++ dktX3_laysWays_11
def dkwX3_laysWays_9 : List UInt8 := [21, 4, 42, 180, 0, 139, 16, 6, 28, 104, 29, 96, 46, 162, 0, 8, 21, 4, 167, 0, 14, 42]
abbrev dktX3_laysWays_9 : List UInt8 := dkwX3_laysWays_9 ++ dktX3_laysWays_10
def dkwX3_laysWays_8 : List UInt8 := [180, 0, 139, 16, 6, 27, 104, 29, 96, 46, 96, 54, 4, 42, 180, 0, 139, 16, 6, 28, 104, 29, 96]
abbrev dktX3_laysWays_8 : List UInt8 := dkwX3_laysWays_8 ++ dktX3_laysWays_9
def dkwX3_laysWays_7 : List UInt8 := [162, 0, 91, 3, 62, 29, 16, 6, 162, 0, 77, 42, 180, 0, 139, 16, 6, 28, 104, 27, 96, 46, 42]
abbrev dktX3_laysWays_7 : List UInt8 := dkwX3_laysWays_7 ++ dktX3_laysWays_8
def dkwX3_laysWays_6 : List UInt8 := [28, 46, 79, 132, 1, 1, 167, 255, 161, 3, 60, 27, 16, 6, 162, 0, 105, 3, 61, 28, 16, 6]
abbrev dktX3_laysWays_6 : List UInt8 := dkwX3_laysWays_6 ++ dktX3_laysWays_7
def dkwX3_laysWays_5 : List UInt8 := [180, 0, 37, 27, 46, 167, 0, 9, 42, 180, 0, 139, 28, 46, 79, 42, 180, 0, 139, 29, 42, 180, 0, 139]
abbrev dktX3_laysWays_5 : List UInt8 := dkwX3_laysWays_5 ++ dktX3_laysWays_6
def dkwX3_laysWays_4 : List UInt8 := [62, 42, 180, 0, 139, 28, 42, 180, 0, 37, 27, 46, 42, 180, 0, 139, 28, 46, 162, 0, 12, 42]
abbrev dktX3_laysWays_4 : List UInt8 := dkwX3_laysWays_4 ++ dktX3_laysWays_5
def dkwX3_laysWays_3 : List UInt8 := [42, 180, 0, 34, 27, 46, 96, 61, 16, 6, 42, 180, 0, 34, 27, 46, 104, 42, 180, 0, 31, 27, 46, 96]
abbrev dktX3_laysWays_3 : List UInt8 := dkwX3_laysWays_3 ++ dktX3_laysWays_4
def dkwX3_laysWays_2 : List UInt8 := [167, 255, 210, 3, 60, 27, 42, 180, 0, 9, 7, 46, 162, 0, 91, 16, 6, 42, 180, 0, 31, 27, 46, 104]
abbrev dktX3_laysWays_2 : List UInt8 := dkwX3_laysWays_2 ++ dktX3_laysWays_3
def dkwX3_laysWays_1 : List UInt8 := [28, 96, 27, 28, 160, 0, 7, 3, 167, 0, 6, 19, 1, 210, 79, 132, 2, 1, 167, 255, 224, 132, 1, 1]
abbrev dktX3_laysWays_1 : List UInt8 := dkwX3_laysWays_1 ++ dktX3_laysWays_2
def dkwX3_laysWays_0 : List UInt8 := [3, 60, 27, 16, 6, 162, 0, 46, 3, 61, 28, 16, 6, 162, 0, 32, 42, 180, 0, 139, 16, 6, 27, 104]
abbrev dktX3_laysWays_0 : List UInt8 := dkwX3_laysWays_0 ++ dktX3_laysWays_1
theorem dksX3_laysWays_0 : cX3_laysWays.data.toList.drop 0 = dktX3_laysWays_0 := by decide +kernel
theorem dksX3_laysWays_1 : cX3_laysWays.data.toList.drop 24 = dktX3_laysWays_1 := dk_seg dksX3_laysWays_0 24 rfl rfl
theorem dksX3_laysWays_2 : cX3_laysWays.data.toList.drop 48 = dktX3_laysWays_2 := dk_seg dksX3_laysWays_1 24 rfl rfl
theorem dksX3_laysWays_3 : cX3_laysWays.data.toList.drop 72 = dktX3_laysWays_3 := dk_seg dksX3_laysWays_2 24 rfl rfl
theorem dksX3_laysWays_4 : cX3_laysWays.data.toList.drop 96 = dktX3_laysWays_4 := dk_seg dksX3_laysWays_3 24 rfl rfl
theorem dksX3_laysWays_5 : cX3_laysWays.data.toList.drop 118 = dktX3_laysWays_5 := dk_seg dksX3_laysWays_4 22 rfl rfl
theorem dksX3_laysWays_6 : cX3_laysWays.data.toList.drop 142 = dktX3_laysWays_6 := dk_seg dksX3_laysWays_5 24 rfl rfl
theorem dksX3_laysWays_7 : cX3_laysWays.data.toList.drop 164 = dktX3_laysWays_7 := dk_seg dksX3_laysWays_6 22 rfl rfl
theorem dksX3_laysWays_8 : cX3_laysWays.data.toList.drop 187 = dktX3_laysWays_8 := dk_seg dksX3_laysWays_7 23 rfl rfl
theorem dksX3_laysWays_9 : cX3_laysWays.data.toList.drop 210 = dktX3_laysWays_9 := dk_seg dksX3_laysWays_8 23 rfl rfl
theorem dksX3_laysWays_10 : cX3_laysWays.data.toList.drop 232 = dktX3_laysWays_10 := dk_seg dksX3_laysWays_9 22 rfl rfl
theorem dksX3_laysWays_11 : cX3_laysWays.data.toList.drop 255 = dktX3_laysWays_11 := dk_seg dksX3_laysWays_10 23 rfl rfl
theorem dX3_laysWays_0 : decode cX3_laysWays 0 = .ok (.iconst 0, 1) := dk_3 (dk_at dksX3_laysWays_0 0 rfl rfl)
theorem dX3_laysWays_1 : decode cX3_laysWays 1 = .ok (.istore_n 1, 1) := dk_60 (dk_at dksX3_laysWays_0 1 rfl rfl)
theorem dX3_laysWays_2 : decode cX3_laysWays 2 = .ok (.iload_n 1, 1) := dk_27 (dk_at dksX3_laysWays_0 2 rfl rfl)
theorem dX3_laysWays_3 : decode cX3_laysWays 3 = .ok (.bipush 6, 2) := dk_16 6 (dk_at dksX3_laysWays_0 3 rfl rfl)
theorem dX3_laysWays_5 : decode cX3_laysWays 5 = .ok (.if_icmp .ge 46, 3) := dk_162 0 46 (dk_at dksX3_laysWays_0 5 rfl rfl)
theorem dX3_laysWays_8 : decode cX3_laysWays 8 = .ok (.iconst 0, 1) := dk_3 (dk_at dksX3_laysWays_0 8 rfl rfl)
theorem dX3_laysWays_9 : decode cX3_laysWays 9 = .ok (.istore_n 2, 1) := dk_61 (dk_at dksX3_laysWays_0 9 rfl rfl)
theorem dX3_laysWays_10 : decode cX3_laysWays 10 = .ok (.iload_n 2, 1) := dk_28 (dk_at dksX3_laysWays_0 10 rfl rfl)
theorem dX3_laysWays_11 : decode cX3_laysWays 11 = .ok (.bipush 6, 2) := dk_16 6 (dk_at dksX3_laysWays_0 11 rfl rfl)
theorem dX3_laysWays_13 : decode cX3_laysWays 13 = .ok (.if_icmp .ge 32, 3) := dk_162 0 32 (dk_at dksX3_laysWays_0 13 rfl rfl)
theorem dX3_laysWays_16 : decode cX3_laysWays 16 = .ok (.aload_n 0, 1) := dk_42 (dk_at dksX3_laysWays_0 16 rfl rfl)
theorem dX3_laysWays_17 : decode cX3_laysWays 17 = .ok (.getfield 139, 3) := dk_180 0 139 (dk_at dksX3_laysWays_0 17 rfl rfl)
theorem dX3_laysWays_20 : decode cX3_laysWays 20 = .ok (.bipush 6, 2) := dk_16 6 (dk_at dksX3_laysWays_0 20 rfl rfl)
theorem dX3_laysWays_22 : decode cX3_laysWays 22 = .ok (.iload_n 1, 1) := dk_27 (dk_at dksX3_laysWays_0 22 rfl rfl)
theorem dX3_laysWays_23 : decode cX3_laysWays 23 = .ok (.imul, 1) := dk_104 (dk_at dksX3_laysWays_0 23 rfl rfl)
theorem dX3_laysWays_24 : decode cX3_laysWays 24 = .ok (.iload_n 2, 1) := dk_28 (dk_at dksX3_laysWays_1 0 rfl rfl)
theorem dX3_laysWays_25 : decode cX3_laysWays 25 = .ok (.iadd, 1) := dk_96 (dk_at dksX3_laysWays_1 1 rfl rfl)
theorem dX3_laysWays_26 : decode cX3_laysWays 26 = .ok (.iload_n 1, 1) := dk_27 (dk_at dksX3_laysWays_1 2 rfl rfl)
theorem dX3_laysWays_27 : decode cX3_laysWays 27 = .ok (.iload_n 2, 1) := dk_28 (dk_at dksX3_laysWays_1 3 rfl rfl)
theorem dX3_laysWays_28 : decode cX3_laysWays 28 = .ok (.if_icmp .ne 7, 3) := dk_160 0 7 (dk_at dksX3_laysWays_1 4 rfl rfl)
theorem dX3_laysWays_31 : decode cX3_laysWays 31 = .ok (.iconst 0, 1) := dk_3 (dk_at dksX3_laysWays_1 7 rfl rfl)
theorem dX3_laysWays_32 : decode cX3_laysWays 32 = .ok (.goto 6, 3) := dk_167 0 6 (dk_at dksX3_laysWays_1 8 rfl rfl)
theorem dX3_laysWays_35 : decode cX3_laysWays 35 = .ok (.ldc_w 466, 3) := dk_19 1 210 (dk_at dksX3_laysWays_1 11 rfl rfl)
theorem dX3_laysWays_38 : decode cX3_laysWays 38 = .ok (.iastore, 1) := dk_79 (dk_at dksX3_laysWays_1 14 rfl rfl)
theorem dX3_laysWays_39 : decode cX3_laysWays 39 = .ok (.iinc 2 1, 3) := dk_132 2 1 (dk_at dksX3_laysWays_1 15 rfl rfl)
theorem dX3_laysWays_42 : decode cX3_laysWays 42 = .ok (.goto (-32), 3) := dk_167 255 224 (dk_at dksX3_laysWays_1 18 rfl rfl)
theorem dX3_laysWays_45 : decode cX3_laysWays 45 = .ok (.iinc 1 1, 3) := dk_132 1 1 (dk_at dksX3_laysWays_1 21 rfl rfl)
theorem dX3_laysWays_48 : decode cX3_laysWays 48 = .ok (.goto (-46), 3) := dk_167 255 210 (dk_at dksX3_laysWays_2 0 rfl rfl)
theorem dX3_laysWays_51 : decode cX3_laysWays 51 = .ok (.iconst 0, 1) := dk_3 (dk_at dksX3_laysWays_2 3 rfl rfl)
theorem dX3_laysWays_52 : decode cX3_laysWays 52 = .ok (.istore_n 1, 1) := dk_60 (dk_at dksX3_laysWays_2 4 rfl rfl)
theorem dX3_laysWays_53 : decode cX3_laysWays 53 = .ok (.iload_n 1, 1) := dk_27 (dk_at dksX3_laysWays_2 5 rfl rfl)
theorem dX3_laysWays_54 : decode cX3_laysWays 54 = .ok (.aload_n 0, 1) := dk_42 (dk_at dksX3_laysWays_2 6 rfl rfl)
theorem dX3_laysWays_55 : decode cX3_laysWays 55 = .ok (.getfield 9, 3) := dk_180 0 9 (dk_at dksX3_laysWays_2 7 rfl rfl)
theorem dX3_laysWays_58 : decode cX3_laysWays 58 = .ok (.iconst 4, 1) := dk_7 (dk_at dksX3_laysWays_2 10 rfl rfl)
theorem dX3_laysWays_59 : decode cX3_laysWays 59 = .ok (.iaload, 1) := dk_46 (dk_at dksX3_laysWays_2 11 rfl rfl)
theorem dX3_laysWays_60 : decode cX3_laysWays 60 = .ok (.if_icmp .ge 91, 3) := dk_162 0 91 (dk_at dksX3_laysWays_2 12 rfl rfl)
theorem dX3_laysWays_63 : decode cX3_laysWays 63 = .ok (.bipush 6, 2) := dk_16 6 (dk_at dksX3_laysWays_2 15 rfl rfl)
theorem dX3_laysWays_65 : decode cX3_laysWays 65 = .ok (.aload_n 0, 1) := dk_42 (dk_at dksX3_laysWays_2 17 rfl rfl)
theorem dX3_laysWays_66 : decode cX3_laysWays 66 = .ok (.getfield 31, 3) := dk_180 0 31 (dk_at dksX3_laysWays_2 18 rfl rfl)
theorem dX3_laysWays_69 : decode cX3_laysWays 69 = .ok (.iload_n 1, 1) := dk_27 (dk_at dksX3_laysWays_2 21 rfl rfl)
theorem dX3_laysWays_70 : decode cX3_laysWays 70 = .ok (.iaload, 1) := dk_46 (dk_at dksX3_laysWays_2 22 rfl rfl)
theorem dX3_laysWays_71 : decode cX3_laysWays 71 = .ok (.imul, 1) := dk_104 (dk_at dksX3_laysWays_2 23 rfl rfl)
theorem dX3_laysWays_72 : decode cX3_laysWays 72 = .ok (.aload_n 0, 1) := dk_42 (dk_at dksX3_laysWays_3 0 rfl rfl)
theorem dX3_laysWays_73 : decode cX3_laysWays 73 = .ok (.getfield 34, 3) := dk_180 0 34 (dk_at dksX3_laysWays_3 1 rfl rfl)
theorem dX3_laysWays_76 : decode cX3_laysWays 76 = .ok (.iload_n 1, 1) := dk_27 (dk_at dksX3_laysWays_3 4 rfl rfl)
theorem dX3_laysWays_77 : decode cX3_laysWays 77 = .ok (.iaload, 1) := dk_46 (dk_at dksX3_laysWays_3 5 rfl rfl)
theorem dX3_laysWays_78 : decode cX3_laysWays 78 = .ok (.iadd, 1) := dk_96 (dk_at dksX3_laysWays_3 6 rfl rfl)
theorem dX3_laysWays_79 : decode cX3_laysWays 79 = .ok (.istore_n 2, 1) := dk_61 (dk_at dksX3_laysWays_3 7 rfl rfl)
theorem dX3_laysWays_80 : decode cX3_laysWays 80 = .ok (.bipush 6, 2) := dk_16 6 (dk_at dksX3_laysWays_3 8 rfl rfl)
theorem dX3_laysWays_82 : decode cX3_laysWays 82 = .ok (.aload_n 0, 1) := dk_42 (dk_at dksX3_laysWays_3 10 rfl rfl)
theorem dX3_laysWays_83 : decode cX3_laysWays 83 = .ok (.getfield 34, 3) := dk_180 0 34 (dk_at dksX3_laysWays_3 11 rfl rfl)
theorem dX3_laysWays_86 : decode cX3_laysWays 86 = .ok (.iload_n 1, 1) := dk_27 (dk_at dksX3_laysWays_3 14 rfl rfl)
theorem dX3_laysWays_87 : decode cX3_laysWays 87 = .ok (.iaload, 1) := dk_46 (dk_at dksX3_laysWays_3 15 rfl rfl)
theorem dX3_laysWays_88 : decode cX3_laysWays 88 = .ok (.imul, 1) := dk_104 (dk_at dksX3_laysWays_3 16 rfl rfl)
theorem dX3_laysWays_89 : decode cX3_laysWays 89 = .ok (.aload_n 0, 1) := dk_42 (dk_at dksX3_laysWays_3 17 rfl rfl)
theorem dX3_laysWays_90 : decode cX3_laysWays 90 = .ok (.getfield 31, 3) := dk_180 0 31 (dk_at dksX3_laysWays_3 18 rfl rfl)
theorem dX3_laysWays_93 : decode cX3_laysWays 93 = .ok (.iload_n 1, 1) := dk_27 (dk_at dksX3_laysWays_3 21 rfl rfl)
theorem dX3_laysWays_94 : decode cX3_laysWays 94 = .ok (.iaload, 1) := dk_46 (dk_at dksX3_laysWays_3 22 rfl rfl)
theorem dX3_laysWays_95 : decode cX3_laysWays 95 = .ok (.iadd, 1) := dk_96 (dk_at dksX3_laysWays_3 23 rfl rfl)
theorem dX3_laysWays_96 : decode cX3_laysWays 96 = .ok (.istore_n 3, 1) := dk_62 (dk_at dksX3_laysWays_4 0 rfl rfl)
theorem dX3_laysWays_97 : decode cX3_laysWays 97 = .ok (.aload_n 0, 1) := dk_42 (dk_at dksX3_laysWays_4 1 rfl rfl)
theorem dX3_laysWays_98 : decode cX3_laysWays 98 = .ok (.getfield 139, 3) := dk_180 0 139 (dk_at dksX3_laysWays_4 2 rfl rfl)
theorem dX3_laysWays_101 : decode cX3_laysWays 101 = .ok (.iload_n 2, 1) := dk_28 (dk_at dksX3_laysWays_4 5 rfl rfl)
theorem dX3_laysWays_102 : decode cX3_laysWays 102 = .ok (.aload_n 0, 1) := dk_42 (dk_at dksX3_laysWays_4 6 rfl rfl)
theorem dX3_laysWays_103 : decode cX3_laysWays 103 = .ok (.getfield 37, 3) := dk_180 0 37 (dk_at dksX3_laysWays_4 7 rfl rfl)
theorem dX3_laysWays_106 : decode cX3_laysWays 106 = .ok (.iload_n 1, 1) := dk_27 (dk_at dksX3_laysWays_4 10 rfl rfl)
theorem dX3_laysWays_107 : decode cX3_laysWays 107 = .ok (.iaload, 1) := dk_46 (dk_at dksX3_laysWays_4 11 rfl rfl)
theorem dX3_laysWays_108 : decode cX3_laysWays 108 = .ok (.aload_n 0, 1) := dk_42 (dk_at dksX3_laysWays_4 12 rfl rfl)
theorem dX3_laysWays_109 : decode cX3_laysWays 109 = .ok (.getfield 139, 3) := dk_180 0 139 (dk_at dksX3_laysWays_4 13 rfl rfl)
theorem dX3_laysWays_112 : decode cX3_laysWays 112 = .ok (.iload_n 2, 1) := dk_28 (dk_at dksX3_laysWays_4 16 rfl rfl)
theorem dX3_laysWays_113 : decode cX3_laysWays 113 = .ok (.iaload, 1) := dk_46 (dk_at dksX3_laysWays_4 17 rfl rfl)
theorem dX3_laysWays_114 : decode cX3_laysWays 114 = .ok (.if_icmp .ge 12, 3) := dk_162 0 12 (dk_at dksX3_laysWays_4 18 rfl rfl)
theorem dX3_laysWays_117 : decode cX3_laysWays 117 = .ok (.aload_n 0, 1) := dk_42 (dk_at dksX3_laysWays_4 21 rfl rfl)
theorem dX3_laysWays_118 : decode cX3_laysWays 118 = .ok (.getfield 37, 3) := dk_180 0 37 (dk_at dksX3_laysWays_5 0 rfl rfl)
theorem dX3_laysWays_121 : decode cX3_laysWays 121 = .ok (.iload_n 1, 1) := dk_27 (dk_at dksX3_laysWays_5 3 rfl rfl)
theorem dX3_laysWays_122 : decode cX3_laysWays 122 = .ok (.iaload, 1) := dk_46 (dk_at dksX3_laysWays_5 4 rfl rfl)
theorem dX3_laysWays_123 : decode cX3_laysWays 123 = .ok (.goto 9, 3) := dk_167 0 9 (dk_at dksX3_laysWays_5 5 rfl rfl)
theorem dX3_laysWays_126 : decode cX3_laysWays 126 = .ok (.aload_n 0, 1) := dk_42 (dk_at dksX3_laysWays_5 8 rfl rfl)
theorem dX3_laysWays_127 : decode cX3_laysWays 127 = .ok (.getfield 139, 3) := dk_180 0 139 (dk_at dksX3_laysWays_5 9 rfl rfl)
theorem dX3_laysWays_130 : decode cX3_laysWays 130 = .ok (.iload_n 2, 1) := dk_28 (dk_at dksX3_laysWays_5 12 rfl rfl)
theorem dX3_laysWays_131 : decode cX3_laysWays 131 = .ok (.iaload, 1) := dk_46 (dk_at dksX3_laysWays_5 13 rfl rfl)
theorem dX3_laysWays_132 : decode cX3_laysWays 132 = .ok (.iastore, 1) := dk_79 (dk_at dksX3_laysWays_5 14 rfl rfl)
theorem dX3_laysWays_133 : decode cX3_laysWays 133 = .ok (.aload_n 0, 1) := dk_42 (dk_at dksX3_laysWays_5 15 rfl rfl)
theorem dX3_laysWays_134 : decode cX3_laysWays 134 = .ok (.getfield 139, 3) := dk_180 0 139 (dk_at dksX3_laysWays_5 16 rfl rfl)
theorem dX3_laysWays_137 : decode cX3_laysWays 137 = .ok (.iload_n 3, 1) := dk_29 (dk_at dksX3_laysWays_5 19 rfl rfl)
theorem dX3_laysWays_138 : decode cX3_laysWays 138 = .ok (.aload_n 0, 1) := dk_42 (dk_at dksX3_laysWays_5 20 rfl rfl)
theorem dX3_laysWays_139 : decode cX3_laysWays 139 = .ok (.getfield 139, 3) := dk_180 0 139 (dk_at dksX3_laysWays_5 21 rfl rfl)
theorem dX3_laysWays_142 : decode cX3_laysWays 142 = .ok (.iload_n 2, 1) := dk_28 (dk_at dksX3_laysWays_6 0 rfl rfl)
theorem dX3_laysWays_143 : decode cX3_laysWays 143 = .ok (.iaload, 1) := dk_46 (dk_at dksX3_laysWays_6 1 rfl rfl)
theorem dX3_laysWays_144 : decode cX3_laysWays 144 = .ok (.iastore, 1) := dk_79 (dk_at dksX3_laysWays_6 2 rfl rfl)
theorem dX3_laysWays_145 : decode cX3_laysWays 145 = .ok (.iinc 1 1, 3) := dk_132 1 1 (dk_at dksX3_laysWays_6 3 rfl rfl)
theorem dX3_laysWays_148 : decode cX3_laysWays 148 = .ok (.goto (-95), 3) := dk_167 255 161 (dk_at dksX3_laysWays_6 6 rfl rfl)
theorem dX3_laysWays_151 : decode cX3_laysWays 151 = .ok (.iconst 0, 1) := dk_3 (dk_at dksX3_laysWays_6 9 rfl rfl)
theorem dX3_laysWays_152 : decode cX3_laysWays 152 = .ok (.istore_n 1, 1) := dk_60 (dk_at dksX3_laysWays_6 10 rfl rfl)
theorem dX3_laysWays_153 : decode cX3_laysWays 153 = .ok (.iload_n 1, 1) := dk_27 (dk_at dksX3_laysWays_6 11 rfl rfl)
theorem dX3_laysWays_154 : decode cX3_laysWays 154 = .ok (.bipush 6, 2) := dk_16 6 (dk_at dksX3_laysWays_6 12 rfl rfl)
theorem dX3_laysWays_156 : decode cX3_laysWays 156 = .ok (.if_icmp .ge 105, 3) := dk_162 0 105 (dk_at dksX3_laysWays_6 14 rfl rfl)
theorem dX3_laysWays_159 : decode cX3_laysWays 159 = .ok (.iconst 0, 1) := dk_3 (dk_at dksX3_laysWays_6 17 rfl rfl)
theorem dX3_laysWays_160 : decode cX3_laysWays 160 = .ok (.istore_n 2, 1) := dk_61 (dk_at dksX3_laysWays_6 18 rfl rfl)
theorem dX3_laysWays_161 : decode cX3_laysWays 161 = .ok (.iload_n 2, 1) := dk_28 (dk_at dksX3_laysWays_6 19 rfl rfl)
theorem dX3_laysWays_162 : decode cX3_laysWays 162 = .ok (.bipush 6, 2) := dk_16 6 (dk_at dksX3_laysWays_6 20 rfl rfl)
theorem dX3_laysWays_164 : decode cX3_laysWays 164 = .ok (.if_icmp .ge 91, 3) := dk_162 0 91 (dk_at dksX3_laysWays_7 0 rfl rfl)
theorem dX3_laysWays_167 : decode cX3_laysWays 167 = .ok (.iconst 0, 1) := dk_3 (dk_at dksX3_laysWays_7 3 rfl rfl)
theorem dX3_laysWays_168 : decode cX3_laysWays 168 = .ok (.istore_n 3, 1) := dk_62 (dk_at dksX3_laysWays_7 4 rfl rfl)
theorem dX3_laysWays_169 : decode cX3_laysWays 169 = .ok (.iload_n 3, 1) := dk_29 (dk_at dksX3_laysWays_7 5 rfl rfl)
theorem dX3_laysWays_170 : decode cX3_laysWays 170 = .ok (.bipush 6, 2) := dk_16 6 (dk_at dksX3_laysWays_7 6 rfl rfl)
theorem dX3_laysWays_172 : decode cX3_laysWays 172 = .ok (.if_icmp .ge 77, 3) := dk_162 0 77 (dk_at dksX3_laysWays_7 8 rfl rfl)
theorem dX3_laysWays_175 : decode cX3_laysWays 175 = .ok (.aload_n 0, 1) := dk_42 (dk_at dksX3_laysWays_7 11 rfl rfl)
theorem dX3_laysWays_176 : decode cX3_laysWays 176 = .ok (.getfield 139, 3) := dk_180 0 139 (dk_at dksX3_laysWays_7 12 rfl rfl)
theorem dX3_laysWays_179 : decode cX3_laysWays 179 = .ok (.bipush 6, 2) := dk_16 6 (dk_at dksX3_laysWays_7 15 rfl rfl)
theorem dX3_laysWays_181 : decode cX3_laysWays 181 = .ok (.iload_n 2, 1) := dk_28 (dk_at dksX3_laysWays_7 17 rfl rfl)
theorem dX3_laysWays_182 : decode cX3_laysWays 182 = .ok (.imul, 1) := dk_104 (dk_at dksX3_laysWays_7 18 rfl rfl)
theorem dX3_laysWays_183 : decode cX3_laysWays 183 = .ok (.iload_n 1, 1) := dk_27 (dk_at dksX3_laysWays_7 19 rfl rfl)
theorem dX3_laysWays_184 : decode cX3_laysWays 184 = .ok (.iadd, 1) := dk_96 (dk_at dksX3_laysWays_7 20 rfl rfl)
theorem dX3_laysWays_185 : decode cX3_laysWays 185 = .ok (.iaload, 1) := dk_46 (dk_at dksX3_laysWays_7 21 rfl rfl)
theorem dX3_laysWays_186 : decode cX3_laysWays 186 = .ok (.aload_n 0, 1) := dk_42 (dk_at dksX3_laysWays_7 22 rfl rfl)
theorem dX3_laysWays_187 : decode cX3_laysWays 187 = .ok (.getfield 139, 3) := dk_180 0 139 (dk_at dksX3_laysWays_8 0 rfl rfl)
theorem dX3_laysWays_190 : decode cX3_laysWays 190 = .ok (.bipush 6, 2) := dk_16 6 (dk_at dksX3_laysWays_8 3 rfl rfl)
theorem dX3_laysWays_192 : decode cX3_laysWays 192 = .ok (.iload_n 1, 1) := dk_27 (dk_at dksX3_laysWays_8 5 rfl rfl)
theorem dX3_laysWays_193 : decode cX3_laysWays 193 = .ok (.imul, 1) := dk_104 (dk_at dksX3_laysWays_8 6 rfl rfl)
theorem dX3_laysWays_194 : decode cX3_laysWays 194 = .ok (.iload_n 3, 1) := dk_29 (dk_at dksX3_laysWays_8 7 rfl rfl)
theorem dX3_laysWays_195 : decode cX3_laysWays 195 = .ok (.iadd, 1) := dk_96 (dk_at dksX3_laysWays_8 8 rfl rfl)
theorem dX3_laysWays_196 : decode cX3_laysWays 196 = .ok (.iaload, 1) := dk_46 (dk_at dksX3_laysWays_8 9 rfl rfl)
theorem dX3_laysWays_197 : decode cX3_laysWays 197 = .ok (.iadd, 1) := dk_96 (dk_at dksX3_laysWays_8 10 rfl rfl)
theorem dX3_laysWays_198 : decode cX3_laysWays 198 = .ok (.istore 4, 2) := dk_54 4 (dk_at dksX3_laysWays_8 11 rfl rfl)
theorem dX3_laysWays_200 : decode cX3_laysWays 200 = .ok (.aload_n 0, 1) := dk_42 (dk_at dksX3_laysWays_8 13 rfl rfl)
theorem dX3_laysWays_201 : decode cX3_laysWays 201 = .ok (.getfield 139, 3) := dk_180 0 139 (dk_at dksX3_laysWays_8 14 rfl rfl)
theorem dX3_laysWays_204 : decode cX3_laysWays 204 = .ok (.bipush 6, 2) := dk_16 6 (dk_at dksX3_laysWays_8 17 rfl rfl)
theorem dX3_laysWays_206 : decode cX3_laysWays 206 = .ok (.iload_n 2, 1) := dk_28 (dk_at dksX3_laysWays_8 19 rfl rfl)
theorem dX3_laysWays_207 : decode cX3_laysWays 207 = .ok (.imul, 1) := dk_104 (dk_at dksX3_laysWays_8 20 rfl rfl)
theorem dX3_laysWays_208 : decode cX3_laysWays 208 = .ok (.iload_n 3, 1) := dk_29 (dk_at dksX3_laysWays_8 21 rfl rfl)
theorem dX3_laysWays_209 : decode cX3_laysWays 209 = .ok (.iadd, 1) := dk_96 (dk_at dksX3_laysWays_8 22 rfl rfl)
theorem dX3_laysWays_210 : decode cX3_laysWays 210 = .ok (.iload 4, 2) := dk_21 4 (dk_at dksX3_laysWays_9 0 rfl rfl)
theorem dX3_laysWays_212 : decode cX3_laysWays 212 = .ok (.aload_n 0, 1) := dk_42 (dk_at dksX3_laysWays_9 2 rfl rfl)
theorem dX3_laysWays_213 : decode cX3_laysWays 213 = .ok (.getfield 139, 3) := dk_180 0 139 (dk_at dksX3_laysWays_9 3 rfl rfl)
theorem dX3_laysWays_216 : decode cX3_laysWays 216 = .ok (.bipush 6, 2) := dk_16 6 (dk_at dksX3_laysWays_9 6 rfl rfl)
theorem dX3_laysWays_218 : decode cX3_laysWays 218 = .ok (.iload_n 2, 1) := dk_28 (dk_at dksX3_laysWays_9 8 rfl rfl)
theorem dX3_laysWays_219 : decode cX3_laysWays 219 = .ok (.imul, 1) := dk_104 (dk_at dksX3_laysWays_9 9 rfl rfl)
theorem dX3_laysWays_220 : decode cX3_laysWays 220 = .ok (.iload_n 3, 1) := dk_29 (dk_at dksX3_laysWays_9 10 rfl rfl)
theorem dX3_laysWays_221 : decode cX3_laysWays 221 = .ok (.iadd, 1) := dk_96 (dk_at dksX3_laysWays_9 11 rfl rfl)
theorem dX3_laysWays_222 : decode cX3_laysWays 222 = .ok (.iaload, 1) := dk_46 (dk_at dksX3_laysWays_9 12 rfl rfl)
theorem dX3_laysWays_223 : decode cX3_laysWays 223 = .ok (.if_icmp .ge 8, 3) := dk_162 0 8 (dk_at dksX3_laysWays_9 13 rfl rfl)
theorem dX3_laysWays_226 : decode cX3_laysWays 226 = .ok (.iload 4, 2) := dk_21 4 (dk_at dksX3_laysWays_9 16 rfl rfl)
theorem dX3_laysWays_228 : decode cX3_laysWays 228 = .ok (.goto 14, 3) := dk_167 0 14 (dk_at dksX3_laysWays_9 18 rfl rfl)
theorem dX3_laysWays_231 : decode cX3_laysWays 231 = .ok (.aload_n 0, 1) := dk_42 (dk_at dksX3_laysWays_9 21 rfl rfl)
theorem dX3_laysWays_232 : decode cX3_laysWays 232 = .ok (.getfield 139, 3) := dk_180 0 139 (dk_at dksX3_laysWays_10 0 rfl rfl)
theorem dX3_laysWays_235 : decode cX3_laysWays 235 = .ok (.bipush 6, 2) := dk_16 6 (dk_at dksX3_laysWays_10 3 rfl rfl)
theorem dX3_laysWays_237 : decode cX3_laysWays 237 = .ok (.iload_n 2, 1) := dk_28 (dk_at dksX3_laysWays_10 5 rfl rfl)
theorem dX3_laysWays_238 : decode cX3_laysWays 238 = .ok (.imul, 1) := dk_104 (dk_at dksX3_laysWays_10 6 rfl rfl)
theorem dX3_laysWays_239 : decode cX3_laysWays 239 = .ok (.iload_n 3, 1) := dk_29 (dk_at dksX3_laysWays_10 7 rfl rfl)
theorem dX3_laysWays_240 : decode cX3_laysWays 240 = .ok (.iadd, 1) := dk_96 (dk_at dksX3_laysWays_10 8 rfl rfl)
theorem dX3_laysWays_241 : decode cX3_laysWays 241 = .ok (.iaload, 1) := dk_46 (dk_at dksX3_laysWays_10 9 rfl rfl)
theorem dX3_laysWays_242 : decode cX3_laysWays 242 = .ok (.iastore, 1) := dk_79 (dk_at dksX3_laysWays_10 10 rfl rfl)
theorem dX3_laysWays_243 : decode cX3_laysWays 243 = .ok (.iinc 3 1, 3) := dk_132 3 1 (dk_at dksX3_laysWays_10 11 rfl rfl)
theorem dX3_laysWays_246 : decode cX3_laysWays 246 = .ok (.goto (-77), 3) := dk_167 255 179 (dk_at dksX3_laysWays_10 14 rfl rfl)
theorem dX3_laysWays_249 : decode cX3_laysWays 249 = .ok (.iinc 2 1, 3) := dk_132 2 1 (dk_at dksX3_laysWays_10 17 rfl rfl)
theorem dX3_laysWays_252 : decode cX3_laysWays 252 = .ok (.goto (-91), 3) := dk_167 255 165 (dk_at dksX3_laysWays_10 20 rfl rfl)
theorem dX3_laysWays_255 : decode cX3_laysWays 255 = .ok (.iinc 1 1, 3) := dk_132 1 1 (dk_at dksX3_laysWays_11 0 rfl rfl)
theorem dX3_laysWays_258 : decode cX3_laysWays 258 = .ok (.goto (-105), 3) := dk_167 255 151 (dk_at dksX3_laysWays_11 3 rfl rfl)
theorem dX3_laysWays_261 : decode cX3_laysWays 261 = .ok (.return_, 1) := dk_177 (dk_at dksX3_laysWays_11 6 rfl rfl)
abbrev cX3_wayOf : ByteArray := prog_21_method_78_code
def yX3_wayOf : MethodName := ⟨RX3, "wayOf", "(II)I"⟩
def dkwX3_wayOf_1 : List UInt8 := [104, 28, 96, 46, 167, 0, 6, 19, 1, 210, 172]
abbrev dktX3_wayOf_1 : List UInt8 := dkwX3_wayOf_1 ++ []
def dkwX3_wayOf_0 : List UInt8 := [42, 180, 0, 139, 16, 6, 27, 104, 28, 96, 46, 19, 1, 210, 162, 0, 17, 42, 180, 0, 139, 16, 6, 27]
abbrev dktX3_wayOf_0 : List UInt8 := dkwX3_wayOf_0 ++ dktX3_wayOf_1
theorem dksX3_wayOf_0 : cX3_wayOf.data.toList.drop 0 = dktX3_wayOf_0 := by decide +kernel
theorem dksX3_wayOf_1 : cX3_wayOf.data.toList.drop 24 = dktX3_wayOf_1 := dk_seg dksX3_wayOf_0 24 rfl rfl
theorem dX3_wayOf_0 : decode cX3_wayOf 0 = .ok (.aload_n 0, 1) := dk_42 (dk_at dksX3_wayOf_0 0 rfl rfl)
theorem dX3_wayOf_1 : decode cX3_wayOf 1 = .ok (.getfield 139, 3) := dk_180 0 139 (dk_at dksX3_wayOf_0 1 rfl rfl)
theorem dX3_wayOf_4 : decode cX3_wayOf 4 = .ok (.bipush 6, 2) := dk_16 6 (dk_at dksX3_wayOf_0 4 rfl rfl)
theorem dX3_wayOf_6 : decode cX3_wayOf 6 = .ok (.iload_n 1, 1) := dk_27 (dk_at dksX3_wayOf_0 6 rfl rfl)
theorem dX3_wayOf_7 : decode cX3_wayOf 7 = .ok (.imul, 1) := dk_104 (dk_at dksX3_wayOf_0 7 rfl rfl)
theorem dX3_wayOf_8 : decode cX3_wayOf 8 = .ok (.iload_n 2, 1) := dk_28 (dk_at dksX3_wayOf_0 8 rfl rfl)
theorem dX3_wayOf_9 : decode cX3_wayOf 9 = .ok (.iadd, 1) := dk_96 (dk_at dksX3_wayOf_0 9 rfl rfl)
theorem dX3_wayOf_10 : decode cX3_wayOf 10 = .ok (.iaload, 1) := dk_46 (dk_at dksX3_wayOf_0 10 rfl rfl)
theorem dX3_wayOf_11 : decode cX3_wayOf 11 = .ok (.ldc_w 466, 3) := dk_19 1 210 (dk_at dksX3_wayOf_0 11 rfl rfl)
theorem dX3_wayOf_14 : decode cX3_wayOf 14 = .ok (.if_icmp .ge 17, 3) := dk_162 0 17 (dk_at dksX3_wayOf_0 14 rfl rfl)
theorem dX3_wayOf_17 : decode cX3_wayOf 17 = .ok (.aload_n 0, 1) := dk_42 (dk_at dksX3_wayOf_0 17 rfl rfl)
theorem dX3_wayOf_18 : decode cX3_wayOf 18 = .ok (.getfield 139, 3) := dk_180 0 139 (dk_at dksX3_wayOf_0 18 rfl rfl)
theorem dX3_wayOf_21 : decode cX3_wayOf 21 = .ok (.bipush 6, 2) := dk_16 6 (dk_at dksX3_wayOf_0 21 rfl rfl)
theorem dX3_wayOf_23 : decode cX3_wayOf 23 = .ok (.iload_n 1, 1) := dk_27 (dk_at dksX3_wayOf_0 23 rfl rfl)
theorem dX3_wayOf_24 : decode cX3_wayOf 24 = .ok (.imul, 1) := dk_104 (dk_at dksX3_wayOf_1 0 rfl rfl)
theorem dX3_wayOf_25 : decode cX3_wayOf 25 = .ok (.iload_n 2, 1) := dk_28 (dk_at dksX3_wayOf_1 1 rfl rfl)
theorem dX3_wayOf_26 : decode cX3_wayOf 26 = .ok (.iadd, 1) := dk_96 (dk_at dksX3_wayOf_1 2 rfl rfl)
theorem dX3_wayOf_27 : decode cX3_wayOf 27 = .ok (.iaload, 1) := dk_46 (dk_at dksX3_wayOf_1 3 rfl rfl)
theorem dX3_wayOf_28 : decode cX3_wayOf 28 = .ok (.goto 6, 3) := dk_167 0 6 (dk_at dksX3_wayOf_1 4 rfl rfl)
theorem dX3_wayOf_31 : decode cX3_wayOf 31 = .ok (.ldc_w 466, 3) := dk_19 1 210 (dk_at dksX3_wayOf_1 7 rfl rfl)
theorem dX3_wayOf_34 : decode cX3_wayOf 34 = .ok (.ireturn, 1) := dk_172 (dk_at dksX3_wayOf_1 10 rfl rfl)
abbrev cX3_so : ByteArray := prog_21_method_80_code
def yX3_so : MethodName := ⟨RX3, "so", "(II)I"⟩
def dkwX3_so_1 : List UInt8 := [153, 0, 7, 4, 167, 0, 8, 3, 167, 0, 4, 2, 172]
abbrev dktX3_so_1 : List UInt8 := dkwX3_so_1 ++ []
def dkwX3_so_0 : List UInt8 := [42, 27, 182, 1, 217, 153, 0, 28, 42, 28, 182, 1, 220, 153, 0, 20, 42, 27, 28, 182, 1, 223]
abbrev dktX3_so_0 : List UInt8 := dkwX3_so_0 ++ dktX3_so_1
theorem dksX3_so_0 : cX3_so.data.toList.drop 0 = dktX3_so_0 := by decide +kernel
theorem dksX3_so_1 : cX3_so.data.toList.drop 22 = dktX3_so_1 := dk_seg dksX3_so_0 22 rfl rfl
theorem dX3_so_0 : decode cX3_so 0 = .ok (.aload_n 0, 1) := dk_42 (dk_at dksX3_so_0 0 rfl rfl)
theorem dX3_so_1 : decode cX3_so 1 = .ok (.iload_n 1, 1) := dk_27 (dk_at dksX3_so_0 1 rfl rfl)
theorem dX3_so_2 : decode cX3_so 2 = .ok (.invokevirtual 473, 3) := dk_182 1 217 (dk_at dksX3_so_0 2 rfl rfl)
theorem dX3_so_5 : decode cX3_so 5 = .ok (.ifCond .eq 28, 3) := dk_153 0 28 (dk_at dksX3_so_0 5 rfl rfl)
theorem dX3_so_8 : decode cX3_so 8 = .ok (.aload_n 0, 1) := dk_42 (dk_at dksX3_so_0 8 rfl rfl)
theorem dX3_so_9 : decode cX3_so 9 = .ok (.iload_n 2, 1) := dk_28 (dk_at dksX3_so_0 9 rfl rfl)
theorem dX3_so_10 : decode cX3_so 10 = .ok (.invokevirtual 476, 3) := dk_182 1 220 (dk_at dksX3_so_0 10 rfl rfl)
theorem dX3_so_13 : decode cX3_so 13 = .ok (.ifCond .eq 20, 3) := dk_153 0 20 (dk_at dksX3_so_0 13 rfl rfl)
theorem dX3_so_16 : decode cX3_so 16 = .ok (.aload_n 0, 1) := dk_42 (dk_at dksX3_so_0 16 rfl rfl)
theorem dX3_so_17 : decode cX3_so 17 = .ok (.iload_n 1, 1) := dk_27 (dk_at dksX3_so_0 17 rfl rfl)
theorem dX3_so_18 : decode cX3_so 18 = .ok (.iload_n 2, 1) := dk_28 (dk_at dksX3_so_0 18 rfl rfl)
theorem dX3_so_19 : decode cX3_so 19 = .ok (.invokevirtual 479, 3) := dk_182 1 223 (dk_at dksX3_so_0 19 rfl rfl)
theorem dX3_so_22 : decode cX3_so 22 = .ok (.ifCond .eq 7, 3) := dk_153 0 7 (dk_at dksX3_so_1 0 rfl rfl)
theorem dX3_so_25 : decode cX3_so 25 = .ok (.iconst 1, 1) := dk_4 (dk_at dksX3_so_1 3 rfl rfl)
theorem dX3_so_26 : decode cX3_so 26 = .ok (.goto 8, 3) := dk_167 0 8 (dk_at dksX3_so_1 4 rfl rfl)
theorem dX3_so_29 : decode cX3_so 29 = .ok (.iconst 0, 1) := dk_3 (dk_at dksX3_so_1 7 rfl rfl)
theorem dX3_so_30 : decode cX3_so 30 = .ok (.goto 4, 3) := dk_167 0 4 (dk_at dksX3_so_1 8 rfl rfl)
theorem dX3_so_33 : decode cX3_so 33 = .ok (.iconst (-1), 1) := dk_2 (dk_at dksX3_so_1 11 rfl rfl)
theorem dX3_so_34 : decode cX3_so 34 = .ok (.ireturn, 1) := dk_172 (dk_at dksX3_so_1 12 rfl rfl)
abbrev cX3_isSaying : ByteArray := prog_21_method_10_code
def yX3_isSaying : MethodName := ⟨RX3, "isSaying", "(I)Z"⟩
def dkwX3_isSaying_0 : List UInt8 := [27, 133, 9, 42, 180, 0, 183, 4, 100, 133, 184, 0, 179, 172]
abbrev dktX3_isSaying_0 : List UInt8 := dkwX3_isSaying_0 ++ []
theorem dksX3_isSaying_0 : cX3_isSaying.data.toList.drop 0 = dktX3_isSaying_0 := by decide +kernel
theorem dX3_isSaying_0 : decode cX3_isSaying 0 = .ok (.iload_n 1, 1) := dk_27 (dk_at dksX3_isSaying_0 0 rfl rfl)
theorem dX3_isSaying_1 : decode cX3_isSaying 1 = .ok (.i2l, 1) := dk_133 (dk_at dksX3_isSaying_0 1 rfl rfl)
theorem dX3_isSaying_2 : decode cX3_isSaying 2 = .ok (.lconst 0, 1) := dk_9 (dk_at dksX3_isSaying_0 2 rfl rfl)
theorem dX3_isSaying_3 : decode cX3_isSaying 3 = .ok (.aload_n 0, 1) := dk_42 (dk_at dksX3_isSaying_0 3 rfl rfl)
theorem dX3_isSaying_4 : decode cX3_isSaying 4 = .ok (.getfield 183, 3) := dk_180 0 183 (dk_at dksX3_isSaying_0 4 rfl rfl)
theorem dX3_isSaying_7 : decode cX3_isSaying 7 = .ok (.iconst 1, 1) := dk_4 (dk_at dksX3_isSaying_0 7 rfl rfl)
theorem dX3_isSaying_8 : decode cX3_isSaying 8 = .ok (.isub, 1) := dk_100 (dk_at dksX3_isSaying_0 8 rfl rfl)
theorem dX3_isSaying_9 : decode cX3_isSaying 9 = .ok (.i2l, 1) := dk_133 (dk_at dksX3_isSaying_0 9 rfl rfl)
theorem dX3_isSaying_10 : decode cX3_isSaying 10 = .ok (.invokestatic 179, 3) := dk_184 0 179 (dk_at dksX3_isSaying_0 10 rfl rfl)
theorem dX3_isSaying_13 : decode cX3_isSaying 13 = .ok (.ireturn, 1) := dk_172 (dk_at dksX3_isSaying_0 13 rfl rfl)
abbrev cX3_isWorld : ByteArray := prog_21_method_12_code
def yX3_isWorld : MethodName := ⟨RX3, "isWorld", "(I)Z"⟩
def dkwX3_isWorld_1 : List UInt8 := [167, 0, 4, 3, 172]
abbrev dktX3_isWorld_1 : List UInt8 := dkwX3_isWorld_1 ++ []
def dkwX3_isWorld_0 : List UInt8 := [42, 182, 0, 186, 153, 0, 23, 27, 133, 9, 42, 182, 0, 190, 4, 100, 133, 184, 0, 179, 153, 0, 7, 4]
abbrev dktX3_isWorld_0 : List UInt8 := dkwX3_isWorld_0 ++ dktX3_isWorld_1
theorem dksX3_isWorld_0 : cX3_isWorld.data.toList.drop 0 = dktX3_isWorld_0 := by decide +kernel
theorem dksX3_isWorld_1 : cX3_isWorld.data.toList.drop 24 = dktX3_isWorld_1 := dk_seg dksX3_isWorld_0 24 rfl rfl
theorem dX3_isWorld_0 : decode cX3_isWorld 0 = .ok (.aload_n 0, 1) := dk_42 (dk_at dksX3_isWorld_0 0 rfl rfl)
theorem dX3_isWorld_1 : decode cX3_isWorld 1 = .ok (.invokevirtual 186, 3) := dk_182 0 186 (dk_at dksX3_isWorld_0 1 rfl rfl)
theorem dX3_isWorld_4 : decode cX3_isWorld 4 = .ok (.ifCond .eq 23, 3) := dk_153 0 23 (dk_at dksX3_isWorld_0 4 rfl rfl)
theorem dX3_isWorld_7 : decode cX3_isWorld 7 = .ok (.iload_n 1, 1) := dk_27 (dk_at dksX3_isWorld_0 7 rfl rfl)
theorem dX3_isWorld_8 : decode cX3_isWorld 8 = .ok (.i2l, 1) := dk_133 (dk_at dksX3_isWorld_0 8 rfl rfl)
theorem dX3_isWorld_9 : decode cX3_isWorld 9 = .ok (.lconst 0, 1) := dk_9 (dk_at dksX3_isWorld_0 9 rfl rfl)
theorem dX3_isWorld_10 : decode cX3_isWorld 10 = .ok (.aload_n 0, 1) := dk_42 (dk_at dksX3_isWorld_0 10 rfl rfl)
theorem dX3_isWorld_11 : decode cX3_isWorld 11 = .ok (.invokevirtual 190, 3) := dk_182 0 190 (dk_at dksX3_isWorld_0 11 rfl rfl)
theorem dX3_isWorld_14 : decode cX3_isWorld 14 = .ok (.iconst 1, 1) := dk_4 (dk_at dksX3_isWorld_0 14 rfl rfl)
theorem dX3_isWorld_15 : decode cX3_isWorld 15 = .ok (.isub, 1) := dk_100 (dk_at dksX3_isWorld_0 15 rfl rfl)
theorem dX3_isWorld_16 : decode cX3_isWorld 16 = .ok (.i2l, 1) := dk_133 (dk_at dksX3_isWorld_0 16 rfl rfl)
theorem dX3_isWorld_17 : decode cX3_isWorld 17 = .ok (.invokestatic 179, 3) := dk_184 0 179 (dk_at dksX3_isWorld_0 17 rfl rfl)
theorem dX3_isWorld_20 : decode cX3_isWorld 20 = .ok (.ifCond .eq 7, 3) := dk_153 0 7 (dk_at dksX3_isWorld_0 20 rfl rfl)
theorem dX3_isWorld_23 : decode cX3_isWorld 23 = .ok (.iconst 1, 1) := dk_4 (dk_at dksX3_isWorld_0 23 rfl rfl)
theorem dX3_isWorld_24 : decode cX3_isWorld 24 = .ok (.goto 4, 3) := dk_167 0 4 (dk_at dksX3_isWorld_1 0 rfl rfl)
theorem dX3_isWorld_27 : decode cX3_isWorld 27 = .ok (.iconst 0, 1) := dk_3 (dk_at dksX3_isWorld_1 3 rfl rfl)
theorem dX3_isWorld_28 : decode cX3_isWorld 28 = .ok (.ireturn, 1) := dk_172 (dk_at dksX3_isWorld_1 4 rfl rfl)
abbrev cX3_isLand : ByteArray := prog_21_method_6_code
def yX3_isLand : MethodName := ⟨RX3, "isLand", "()Z"⟩
def dkwX3_isLand_0 : List UInt8 := [42, 180, 0, 9, 3, 46, 158, 0, 7, 4, 167, 0, 4, 3, 172]
abbrev dktX3_isLand_0 : List UInt8 := dkwX3_isLand_0 ++ []
theorem dksX3_isLand_0 : cX3_isLand.data.toList.drop 0 = dktX3_isLand_0 := by decide +kernel
theorem dX3_isLand_0 : decode cX3_isLand 0 = .ok (.aload_n 0, 1) := dk_42 (dk_at dksX3_isLand_0 0 rfl rfl)
theorem dX3_isLand_1 : decode cX3_isLand 1 = .ok (.getfield 9, 3) := dk_180 0 9 (dk_at dksX3_isLand_0 1 rfl rfl)
theorem dX3_isLand_4 : decode cX3_isLand 4 = .ok (.iconst 0, 1) := dk_3 (dk_at dksX3_isLand_0 4 rfl rfl)
theorem dX3_isLand_5 : decode cX3_isLand 5 = .ok (.iaload, 1) := dk_46 (dk_at dksX3_isLand_0 5 rfl rfl)
theorem dX3_isLand_6 : decode cX3_isLand 6 = .ok (.ifCond .le 7, 3) := dk_158 0 7 (dk_at dksX3_isLand_0 6 rfl rfl)
theorem dX3_isLand_9 : decode cX3_isLand 9 = .ok (.iconst 1, 1) := dk_4 (dk_at dksX3_isLand_0 9 rfl rfl)
theorem dX3_isLand_10 : decode cX3_isLand 10 = .ok (.goto 4, 3) := dk_167 0 4 (dk_at dksX3_isLand_0 10 rfl rfl)
theorem dX3_isLand_13 : decode cX3_isLand 13 = .ok (.iconst 0, 1) := dk_3 (dk_at dksX3_isLand_0 13 rfl rfl)
theorem dX3_isLand_14 : decode cX3_isLand 14 = .ok (.ireturn, 1) := dk_172 (dk_at dksX3_isLand_0 14 rfl rfl)
abbrev cX3_isSo : ByteArray := prog_21_method_70_code
def yX3_isSo : MethodName := ⟨RX3, "isSo", "(II)Z"⟩
def dkwX3_isSo_0 : List UInt8 := [42, 180, 0, 117, 16, 8, 27, 104, 28, 16, 32, 108, 96, 46, 28, 16, 32, 112, 184, 1, 112, 172]
abbrev dktX3_isSo_0 : List UInt8 := dkwX3_isSo_0 ++ []
theorem dksX3_isSo_0 : cX3_isSo.data.toList.drop 0 = dktX3_isSo_0 := by decide +kernel
theorem dX3_isSo_0 : decode cX3_isSo 0 = .ok (.aload_n 0, 1) := dk_42 (dk_at dksX3_isSo_0 0 rfl rfl)
theorem dX3_isSo_1 : decode cX3_isSo 1 = .ok (.getfield 117, 3) := dk_180 0 117 (dk_at dksX3_isSo_0 1 rfl rfl)
theorem dX3_isSo_4 : decode cX3_isSo 4 = .ok (.bipush 8, 2) := dk_16 8 (dk_at dksX3_isSo_0 4 rfl rfl)
theorem dX3_isSo_6 : decode cX3_isSo 6 = .ok (.iload_n 1, 1) := dk_27 (dk_at dksX3_isSo_0 6 rfl rfl)
theorem dX3_isSo_7 : decode cX3_isSo 7 = .ok (.imul, 1) := dk_104 (dk_at dksX3_isSo_0 7 rfl rfl)
theorem dX3_isSo_8 : decode cX3_isSo 8 = .ok (.iload_n 2, 1) := dk_28 (dk_at dksX3_isSo_0 8 rfl rfl)
theorem dX3_isSo_9 : decode cX3_isSo 9 = .ok (.bipush 32, 2) := dk_16 32 (dk_at dksX3_isSo_0 9 rfl rfl)
theorem dX3_isSo_11 : decode cX3_isSo 11 = .ok (.idiv, 1) := dk_108 (dk_at dksX3_isSo_0 11 rfl rfl)
theorem dX3_isSo_12 : decode cX3_isSo 12 = .ok (.iadd, 1) := dk_96 (dk_at dksX3_isSo_0 12 rfl rfl)
theorem dX3_isSo_13 : decode cX3_isSo 13 = .ok (.iaload, 1) := dk_46 (dk_at dksX3_isSo_0 13 rfl rfl)
theorem dX3_isSo_14 : decode cX3_isSo 14 = .ok (.iload_n 2, 1) := dk_28 (dk_at dksX3_isSo_0 14 rfl rfl)
theorem dX3_isSo_15 : decode cX3_isSo 15 = .ok (.bipush 32, 2) := dk_16 32 (dk_at dksX3_isSo_0 15 rfl rfl)
theorem dX3_isSo_17 : decode cX3_isSo 17 = .ok (.irem, 1) := dk_112 (dk_at dksX3_isSo_0 17 rfl rfl)
theorem dX3_isSo_18 : decode cX3_isSo 18 = .ok (.invokestatic 368, 3) := dk_184 1 112 (dk_at dksX3_isSo_0 18 rfl rfl)
theorem dX3_isSo_21 : decode cX3_isSo 21 = .ok (.ireturn, 1) := dk_172 (dk_at dksX3_isSo_0 21 rfl rfl)
abbrev cX3_isTrue : ByteArray := prog_21_method_81_code
def yX3_isTrue : MethodName := ⟨RX3, "isTrue", "(I)I"⟩
def dkwX3_isTrue_1 : List UInt8 := [182, 1, 223, 153, 0, 7, 4, 167, 0, 8, 3, 167, 0, 4, 2, 172]
abbrev dktX3_isTrue_1 : List UInt8 := dkwX3_isTrue_1 ++ []
def dkwX3_isTrue_0 : List UInt8 := [42, 27, 182, 1, 217, 153, 0, 32, 42, 182, 0, 186, 153, 0, 25, 42, 27, 42, 180, 0, 9, 4, 46]
abbrev dktX3_isTrue_0 : List UInt8 := dkwX3_isTrue_0 ++ dktX3_isTrue_1
theorem dksX3_isTrue_0 : cX3_isTrue.data.toList.drop 0 = dktX3_isTrue_0 := by decide +kernel
theorem dksX3_isTrue_1 : cX3_isTrue.data.toList.drop 23 = dktX3_isTrue_1 := dk_seg dksX3_isTrue_0 23 rfl rfl
theorem dX3_isTrue_0 : decode cX3_isTrue 0 = .ok (.aload_n 0, 1) := dk_42 (dk_at dksX3_isTrue_0 0 rfl rfl)
theorem dX3_isTrue_1 : decode cX3_isTrue 1 = .ok (.iload_n 1, 1) := dk_27 (dk_at dksX3_isTrue_0 1 rfl rfl)
theorem dX3_isTrue_2 : decode cX3_isTrue 2 = .ok (.invokevirtual 473, 3) := dk_182 1 217 (dk_at dksX3_isTrue_0 2 rfl rfl)
theorem dX3_isTrue_5 : decode cX3_isTrue 5 = .ok (.ifCond .eq 32, 3) := dk_153 0 32 (dk_at dksX3_isTrue_0 5 rfl rfl)
theorem dX3_isTrue_8 : decode cX3_isTrue 8 = .ok (.aload_n 0, 1) := dk_42 (dk_at dksX3_isTrue_0 8 rfl rfl)
theorem dX3_isTrue_9 : decode cX3_isTrue 9 = .ok (.invokevirtual 186, 3) := dk_182 0 186 (dk_at dksX3_isTrue_0 9 rfl rfl)
theorem dX3_isTrue_12 : decode cX3_isTrue 12 = .ok (.ifCond .eq 25, 3) := dk_153 0 25 (dk_at dksX3_isTrue_0 12 rfl rfl)
theorem dX3_isTrue_15 : decode cX3_isTrue 15 = .ok (.aload_n 0, 1) := dk_42 (dk_at dksX3_isTrue_0 15 rfl rfl)
theorem dX3_isTrue_16 : decode cX3_isTrue 16 = .ok (.iload_n 1, 1) := dk_27 (dk_at dksX3_isTrue_0 16 rfl rfl)
theorem dX3_isTrue_17 : decode cX3_isTrue 17 = .ok (.aload_n 0, 1) := dk_42 (dk_at dksX3_isTrue_0 17 rfl rfl)
theorem dX3_isTrue_18 : decode cX3_isTrue 18 = .ok (.getfield 9, 3) := dk_180 0 9 (dk_at dksX3_isTrue_0 18 rfl rfl)
theorem dX3_isTrue_21 : decode cX3_isTrue 21 = .ok (.iconst 1, 1) := dk_4 (dk_at dksX3_isTrue_0 21 rfl rfl)
theorem dX3_isTrue_22 : decode cX3_isTrue 22 = .ok (.iaload, 1) := dk_46 (dk_at dksX3_isTrue_0 22 rfl rfl)
theorem dX3_isTrue_23 : decode cX3_isTrue 23 = .ok (.invokevirtual 479, 3) := dk_182 1 223 (dk_at dksX3_isTrue_1 0 rfl rfl)
theorem dX3_isTrue_26 : decode cX3_isTrue 26 = .ok (.ifCond .eq 7, 3) := dk_153 0 7 (dk_at dksX3_isTrue_1 3 rfl rfl)
theorem dX3_isTrue_29 : decode cX3_isTrue 29 = .ok (.iconst 1, 1) := dk_4 (dk_at dksX3_isTrue_1 6 rfl rfl)
theorem dX3_isTrue_30 : decode cX3_isTrue 30 = .ok (.goto 8, 3) := dk_167 0 8 (dk_at dksX3_isTrue_1 7 rfl rfl)
theorem dX3_isTrue_33 : decode cX3_isTrue 33 = .ok (.iconst 0, 1) := dk_3 (dk_at dksX3_isTrue_1 10 rfl rfl)
theorem dX3_isTrue_34 : decode cX3_isTrue 34 = .ok (.goto 4, 3) := dk_167 0 4 (dk_at dksX3_isTrue_1 11 rfl rfl)
theorem dX3_isTrue_37 : decode cX3_isTrue 37 = .ok (.iconst (-1), 1) := dk_2 (dk_at dksX3_isTrue_1 14 rfl rfl)
theorem dX3_isTrue_38 : decode cX3_isTrue 38 = .ok (.ireturn, 1) := dk_172 (dk_at dksX3_isTrue_1 15 rfl rfl)
abbrev cX3_knows : ByteArray := prog_21_method_83_code
def yX3_knows : MethodName := ⟨RX3, "knows", "(II)I"⟩
def dkwX3_knows_1 : List UInt8 := [182, 1, 232, 153, 0, 7, 4, 167, 0, 9, 3, 167, 0, 5, 16, 254, 172]
abbrev dktX3_knows_1 : List UInt8 := dkwX3_knows_1 ++ []
def dkwX3_knows_0 : List UInt8 := [42, 27, 182, 1, 226, 153, 0, 32, 42, 28, 182, 1, 217, 153, 0, 24, 42, 42, 27, 182, 1, 229, 28]
abbrev dktX3_knows_0 : List UInt8 := dkwX3_knows_0 ++ dktX3_knows_1
theorem dksX3_knows_0 : cX3_knows.data.toList.drop 0 = dktX3_knows_0 := by decide +kernel
theorem dksX3_knows_1 : cX3_knows.data.toList.drop 23 = dktX3_knows_1 := dk_seg dksX3_knows_0 23 rfl rfl
theorem dX3_knows_0 : decode cX3_knows 0 = .ok (.aload_n 0, 1) := dk_42 (dk_at dksX3_knows_0 0 rfl rfl)
theorem dX3_knows_1 : decode cX3_knows 1 = .ok (.iload_n 1, 1) := dk_27 (dk_at dksX3_knows_0 1 rfl rfl)
theorem dX3_knows_2 : decode cX3_knows 2 = .ok (.invokevirtual 482, 3) := dk_182 1 226 (dk_at dksX3_knows_0 2 rfl rfl)
theorem dX3_knows_5 : decode cX3_knows 5 = .ok (.ifCond .eq 32, 3) := dk_153 0 32 (dk_at dksX3_knows_0 5 rfl rfl)
theorem dX3_knows_8 : decode cX3_knows 8 = .ok (.aload_n 0, 1) := dk_42 (dk_at dksX3_knows_0 8 rfl rfl)
theorem dX3_knows_9 : decode cX3_knows 9 = .ok (.iload_n 2, 1) := dk_28 (dk_at dksX3_knows_0 9 rfl rfl)
theorem dX3_knows_10 : decode cX3_knows 10 = .ok (.invokevirtual 473, 3) := dk_182 1 217 (dk_at dksX3_knows_0 10 rfl rfl)
theorem dX3_knows_13 : decode cX3_knows 13 = .ok (.ifCond .eq 24, 3) := dk_153 0 24 (dk_at dksX3_knows_0 13 rfl rfl)
theorem dX3_knows_16 : decode cX3_knows 16 = .ok (.aload_n 0, 1) := dk_42 (dk_at dksX3_knows_0 16 rfl rfl)
theorem dX3_knows_17 : decode cX3_knows 17 = .ok (.aload_n 0, 1) := dk_42 (dk_at dksX3_knows_0 17 rfl rfl)
theorem dX3_knows_18 : decode cX3_knows 18 = .ok (.iload_n 1, 1) := dk_27 (dk_at dksX3_knows_0 18 rfl rfl)
theorem dX3_knows_19 : decode cX3_knows 19 = .ok (.invokevirtual 485, 3) := dk_182 1 229 (dk_at dksX3_knows_0 19 rfl rfl)
theorem dX3_knows_22 : decode cX3_knows 22 = .ok (.iload_n 2, 1) := dk_28 (dk_at dksX3_knows_0 22 rfl rfl)
theorem dX3_knows_23 : decode cX3_knows 23 = .ok (.invokevirtual 488, 3) := dk_182 1 232 (dk_at dksX3_knows_1 0 rfl rfl)
theorem dX3_knows_26 : decode cX3_knows 26 = .ok (.ifCond .eq 7, 3) := dk_153 0 7 (dk_at dksX3_knows_1 3 rfl rfl)
theorem dX3_knows_29 : decode cX3_knows 29 = .ok (.iconst 1, 1) := dk_4 (dk_at dksX3_knows_1 6 rfl rfl)
theorem dX3_knows_30 : decode cX3_knows 30 = .ok (.goto 9, 3) := dk_167 0 9 (dk_at dksX3_knows_1 7 rfl rfl)
theorem dX3_knows_33 : decode cX3_knows 33 = .ok (.iconst 0, 1) := dk_3 (dk_at dksX3_knows_1 10 rfl rfl)
theorem dX3_knows_34 : decode cX3_knows 34 = .ok (.goto 5, 3) := dk_167 0 5 (dk_at dksX3_knows_1 11 rfl rfl)
theorem dX3_knows_37 : decode cX3_knows 37 = .ok (.bipush (-2), 2) := dk_16 254 (dk_at dksX3_knows_1 14 rfl rfl)
theorem dX3_knows_39 : decode cX3_knows 39 = .ok (.ireturn, 1) := dk_172 (dk_at dksX3_knows_1 16 rfl rfl)
abbrev cX3_isHolder : ByteArray := prog_21_method_82_code
def yX3_isHolder : MethodName := ⟨RX3, "isHolder", "(I)Z"⟩
def dkwX3_isHolder_1 : List UInt8 := [3, 172]
abbrev dktX3_isHolder_1 : List UInt8 := dkwX3_isHolder_1 ++ []
def dkwX3_isHolder_0 : List UInt8 := [42, 182, 0, 186, 153, 0, 20, 27, 2, 159, 0, 11, 42, 27, 182, 1, 194, 153, 0, 7, 4, 167, 0, 4]
abbrev dktX3_isHolder_0 : List UInt8 := dkwX3_isHolder_0 ++ dktX3_isHolder_1
theorem dksX3_isHolder_0 : cX3_isHolder.data.toList.drop 0 = dktX3_isHolder_0 := by decide +kernel
theorem dksX3_isHolder_1 : cX3_isHolder.data.toList.drop 24 = dktX3_isHolder_1 := dk_seg dksX3_isHolder_0 24 rfl rfl
theorem dX3_isHolder_0 : decode cX3_isHolder 0 = .ok (.aload_n 0, 1) := dk_42 (dk_at dksX3_isHolder_0 0 rfl rfl)
theorem dX3_isHolder_1 : decode cX3_isHolder 1 = .ok (.invokevirtual 186, 3) := dk_182 0 186 (dk_at dksX3_isHolder_0 1 rfl rfl)
theorem dX3_isHolder_4 : decode cX3_isHolder 4 = .ok (.ifCond .eq 20, 3) := dk_153 0 20 (dk_at dksX3_isHolder_0 4 rfl rfl)
theorem dX3_isHolder_7 : decode cX3_isHolder 7 = .ok (.iload_n 1, 1) := dk_27 (dk_at dksX3_isHolder_0 7 rfl rfl)
theorem dX3_isHolder_8 : decode cX3_isHolder 8 = .ok (.iconst (-1), 1) := dk_2 (dk_at dksX3_isHolder_0 8 rfl rfl)
theorem dX3_isHolder_9 : decode cX3_isHolder 9 = .ok (.if_icmp .eq 11, 3) := dk_159 0 11 (dk_at dksX3_isHolder_0 9 rfl rfl)
theorem dX3_isHolder_12 : decode cX3_isHolder 12 = .ok (.aload_n 0, 1) := dk_42 (dk_at dksX3_isHolder_0 12 rfl rfl)
theorem dX3_isHolder_13 : decode cX3_isHolder 13 = .ok (.iload_n 1, 1) := dk_27 (dk_at dksX3_isHolder_0 13 rfl rfl)
theorem dX3_isHolder_14 : decode cX3_isHolder 14 = .ok (.invokevirtual 450, 3) := dk_182 1 194 (dk_at dksX3_isHolder_0 14 rfl rfl)
theorem dX3_isHolder_17 : decode cX3_isHolder 17 = .ok (.ifCond .eq 7, 3) := dk_153 0 7 (dk_at dksX3_isHolder_0 17 rfl rfl)
theorem dX3_isHolder_20 : decode cX3_isHolder 20 = .ok (.iconst 1, 1) := dk_4 (dk_at dksX3_isHolder_0 20 rfl rfl)
theorem dX3_isHolder_21 : decode cX3_isHolder 21 = .ok (.goto 4, 3) := dk_167 0 4 (dk_at dksX3_isHolder_0 21 rfl rfl)
theorem dX3_isHolder_24 : decode cX3_isHolder 24 = .ok (.iconst 0, 1) := dk_3 (dk_at dksX3_isHolder_1 0 rfl rfl)
theorem dX3_isHolder_25 : decode cX3_isHolder 25 = .ok (.ireturn, 1) := dk_172 (dk_at dksX3_isHolder_1 1 rfl rfl)
abbrev cX3_heldBy : ByteArray := prog_21_method_65_code
def yX3_heldBy : MethodName := ⟨RX3, "heldBy", "(I)I"⟩
def dkwX3_heldBy_0 : List UInt8 := [27, 2, 160, 0, 8, 16, 6, 167, 0, 4, 27, 172]
abbrev dktX3_heldBy_0 : List UInt8 := dkwX3_heldBy_0 ++ []
theorem dksX3_heldBy_0 : cX3_heldBy.data.toList.drop 0 = dktX3_heldBy_0 := by decide +kernel
theorem dX3_heldBy_0 : decode cX3_heldBy 0 = .ok (.iload_n 1, 1) := dk_27 (dk_at dksX3_heldBy_0 0 rfl rfl)
theorem dX3_heldBy_1 : decode cX3_heldBy 1 = .ok (.iconst (-1), 1) := dk_2 (dk_at dksX3_heldBy_0 1 rfl rfl)
theorem dX3_heldBy_2 : decode cX3_heldBy 2 = .ok (.if_icmp .ne 8, 3) := dk_160 0 8 (dk_at dksX3_heldBy_0 2 rfl rfl)
theorem dX3_heldBy_5 : decode cX3_heldBy 5 = .ok (.bipush 6, 2) := dk_16 6 (dk_at dksX3_heldBy_0 5 rfl rfl)
theorem dX3_heldBy_7 : decode cX3_heldBy 7 = .ok (.goto 4, 3) := dk_167 0 4 (dk_at dksX3_heldBy_0 7 rfl rfl)
theorem dX3_heldBy_10 : decode cX3_heldBy 10 = .ok (.iload_n 1, 1) := dk_27 (dk_at dksX3_heldBy_0 10 rfl rfl)
theorem dX3_heldBy_11 : decode cX3_heldBy 11 = .ok (.ireturn, 1) := dk_172 (dk_at dksX3_heldBy_0 11 rfl rfl)
abbrev cX3_isKnown : ByteArray := prog_21_method_67_code
def yX3_isKnown : MethodName := ⟨RX3, "isKnown", "(II)Z"⟩
def dkwX3_isKnown_2 : List UInt8 := [167, 0, 4, 3, 62, 132, 4, 1, 167, 255, 206, 29, 172]
abbrev dktX3_isKnown_2 : List UInt8 := dkwX3_isKnown_2 ++ []
def dkwX3_isKnown_1 : List UInt8 := [21, 4, 96, 46, 42, 180, 0, 117, 16, 8, 28, 104, 21, 4, 96, 46, 2, 130, 126, 154, 0, 7, 4]
abbrev dktX3_isKnown_1 : List UInt8 := dkwX3_isKnown_1 ++ dktX3_isKnown_2
def dkwX3_isKnown_0 : List UInt8 := [4, 62, 3, 54, 4, 21, 4, 16, 8, 162, 0, 49, 29, 153, 0, 37, 42, 180, 0, 52, 16, 8, 27, 104]
abbrev dktX3_isKnown_0 : List UInt8 := dkwX3_isKnown_0 ++ dktX3_isKnown_1
theorem dksX3_isKnown_0 : cX3_isKnown.data.toList.drop 0 = dktX3_isKnown_0 := by decide +kernel
theorem dksX3_isKnown_1 : cX3_isKnown.data.toList.drop 24 = dktX3_isKnown_1 := dk_seg dksX3_isKnown_0 24 rfl rfl
theorem dksX3_isKnown_2 : cX3_isKnown.data.toList.drop 47 = dktX3_isKnown_2 := dk_seg dksX3_isKnown_1 23 rfl rfl
theorem dX3_isKnown_0 : decode cX3_isKnown 0 = .ok (.iconst 1, 1) := dk_4 (dk_at dksX3_isKnown_0 0 rfl rfl)
theorem dX3_isKnown_1 : decode cX3_isKnown 1 = .ok (.istore_n 3, 1) := dk_62 (dk_at dksX3_isKnown_0 1 rfl rfl)
theorem dX3_isKnown_2 : decode cX3_isKnown 2 = .ok (.iconst 0, 1) := dk_3 (dk_at dksX3_isKnown_0 2 rfl rfl)
theorem dX3_isKnown_3 : decode cX3_isKnown 3 = .ok (.istore 4, 2) := dk_54 4 (dk_at dksX3_isKnown_0 3 rfl rfl)
theorem dX3_isKnown_5 : decode cX3_isKnown 5 = .ok (.iload 4, 2) := dk_21 4 (dk_at dksX3_isKnown_0 5 rfl rfl)
theorem dX3_isKnown_7 : decode cX3_isKnown 7 = .ok (.bipush 8, 2) := dk_16 8 (dk_at dksX3_isKnown_0 7 rfl rfl)
theorem dX3_isKnown_9 : decode cX3_isKnown 9 = .ok (.if_icmp .ge 49, 3) := dk_162 0 49 (dk_at dksX3_isKnown_0 9 rfl rfl)
theorem dX3_isKnown_12 : decode cX3_isKnown 12 = .ok (.iload_n 3, 1) := dk_29 (dk_at dksX3_isKnown_0 12 rfl rfl)
theorem dX3_isKnown_13 : decode cX3_isKnown 13 = .ok (.ifCond .eq 37, 3) := dk_153 0 37 (dk_at dksX3_isKnown_0 13 rfl rfl)
theorem dX3_isKnown_16 : decode cX3_isKnown 16 = .ok (.aload_n 0, 1) := dk_42 (dk_at dksX3_isKnown_0 16 rfl rfl)
theorem dX3_isKnown_17 : decode cX3_isKnown 17 = .ok (.getfield 52, 3) := dk_180 0 52 (dk_at dksX3_isKnown_0 17 rfl rfl)
theorem dX3_isKnown_20 : decode cX3_isKnown 20 = .ok (.bipush 8, 2) := dk_16 8 (dk_at dksX3_isKnown_0 20 rfl rfl)
theorem dX3_isKnown_22 : decode cX3_isKnown 22 = .ok (.iload_n 1, 1) := dk_27 (dk_at dksX3_isKnown_0 22 rfl rfl)
theorem dX3_isKnown_23 : decode cX3_isKnown 23 = .ok (.imul, 1) := dk_104 (dk_at dksX3_isKnown_0 23 rfl rfl)
theorem dX3_isKnown_24 : decode cX3_isKnown 24 = .ok (.iload 4, 2) := dk_21 4 (dk_at dksX3_isKnown_1 0 rfl rfl)
theorem dX3_isKnown_26 : decode cX3_isKnown 26 = .ok (.iadd, 1) := dk_96 (dk_at dksX3_isKnown_1 2 rfl rfl)
theorem dX3_isKnown_27 : decode cX3_isKnown 27 = .ok (.iaload, 1) := dk_46 (dk_at dksX3_isKnown_1 3 rfl rfl)
theorem dX3_isKnown_28 : decode cX3_isKnown 28 = .ok (.aload_n 0, 1) := dk_42 (dk_at dksX3_isKnown_1 4 rfl rfl)
theorem dX3_isKnown_29 : decode cX3_isKnown 29 = .ok (.getfield 117, 3) := dk_180 0 117 (dk_at dksX3_isKnown_1 5 rfl rfl)
theorem dX3_isKnown_32 : decode cX3_isKnown 32 = .ok (.bipush 8, 2) := dk_16 8 (dk_at dksX3_isKnown_1 8 rfl rfl)
theorem dX3_isKnown_34 : decode cX3_isKnown 34 = .ok (.iload_n 2, 1) := dk_28 (dk_at dksX3_isKnown_1 10 rfl rfl)
theorem dX3_isKnown_35 : decode cX3_isKnown 35 = .ok (.imul, 1) := dk_104 (dk_at dksX3_isKnown_1 11 rfl rfl)
theorem dX3_isKnown_36 : decode cX3_isKnown 36 = .ok (.iload 4, 2) := dk_21 4 (dk_at dksX3_isKnown_1 12 rfl rfl)
theorem dX3_isKnown_38 : decode cX3_isKnown 38 = .ok (.iadd, 1) := dk_96 (dk_at dksX3_isKnown_1 14 rfl rfl)
theorem dX3_isKnown_39 : decode cX3_isKnown 39 = .ok (.iaload, 1) := dk_46 (dk_at dksX3_isKnown_1 15 rfl rfl)
theorem dX3_isKnown_40 : decode cX3_isKnown 40 = .ok (.iconst (-1), 1) := dk_2 (dk_at dksX3_isKnown_1 16 rfl rfl)
theorem dX3_isKnown_41 : decode cX3_isKnown 41 = .ok (.ixor, 1) := dk_130 (dk_at dksX3_isKnown_1 17 rfl rfl)
theorem dX3_isKnown_42 : decode cX3_isKnown 42 = .ok (.iand, 1) := dk_126 (dk_at dksX3_isKnown_1 18 rfl rfl)
theorem dX3_isKnown_43 : decode cX3_isKnown 43 = .ok (.ifCond .ne 7, 3) := dk_154 0 7 (dk_at dksX3_isKnown_1 19 rfl rfl)
theorem dX3_isKnown_46 : decode cX3_isKnown 46 = .ok (.iconst 1, 1) := dk_4 (dk_at dksX3_isKnown_1 22 rfl rfl)
theorem dX3_isKnown_47 : decode cX3_isKnown 47 = .ok (.goto 4, 3) := dk_167 0 4 (dk_at dksX3_isKnown_2 0 rfl rfl)
theorem dX3_isKnown_50 : decode cX3_isKnown 50 = .ok (.iconst 0, 1) := dk_3 (dk_at dksX3_isKnown_2 3 rfl rfl)
theorem dX3_isKnown_51 : decode cX3_isKnown 51 = .ok (.istore_n 3, 1) := dk_62 (dk_at dksX3_isKnown_2 4 rfl rfl)
theorem dX3_isKnown_52 : decode cX3_isKnown 52 = .ok (.iinc 4 1, 3) := dk_132 4 1 (dk_at dksX3_isKnown_2 5 rfl rfl)
theorem dX3_isKnown_55 : decode cX3_isKnown 55 = .ok (.goto (-50), 3) := dk_167 255 206 (dk_at dksX3_isKnown_2 8 rfl rfl)
theorem dX3_isKnown_58 : decode cX3_isKnown 58 = .ok (.iload_n 3, 1) := dk_29 (dk_at dksX3_isKnown_2 11 rfl rfl)
theorem dX3_isKnown_59 : decode cX3_isKnown 59 = .ok (.ireturn, 1) := dk_172 (dk_at dksX3_isKnown_2 12 rfl rfl)
abbrev cX3_possible : ByteArray := prog_21_method_84_code
def yX3_possible : MethodName := ⟨RX3, "possible", "(II)I"⟩
def dkwX3_possible_1 : List UInt8 := [182, 1, 191, 153, 0, 7, 4, 167, 0, 9, 3, 167, 0, 5, 16, 254, 172]
abbrev dktX3_possible_1 : List UInt8 := dkwX3_possible_1 ++ []
def dkwX3_possible_0 : List UInt8 := [42, 27, 182, 1, 226, 153, 0, 32, 42, 28, 182, 1, 220, 153, 0, 24, 42, 42, 27, 182, 1, 229, 28]
abbrev dktX3_possible_0 : List UInt8 := dkwX3_possible_0 ++ dktX3_possible_1
theorem dksX3_possible_0 : cX3_possible.data.toList.drop 0 = dktX3_possible_0 := by decide +kernel
theorem dksX3_possible_1 : cX3_possible.data.toList.drop 23 = dktX3_possible_1 := dk_seg dksX3_possible_0 23 rfl rfl
theorem dX3_possible_0 : decode cX3_possible 0 = .ok (.aload_n 0, 1) := dk_42 (dk_at dksX3_possible_0 0 rfl rfl)
theorem dX3_possible_1 : decode cX3_possible 1 = .ok (.iload_n 1, 1) := dk_27 (dk_at dksX3_possible_0 1 rfl rfl)
theorem dX3_possible_2 : decode cX3_possible 2 = .ok (.invokevirtual 482, 3) := dk_182 1 226 (dk_at dksX3_possible_0 2 rfl rfl)
theorem dX3_possible_5 : decode cX3_possible 5 = .ok (.ifCond .eq 32, 3) := dk_153 0 32 (dk_at dksX3_possible_0 5 rfl rfl)
theorem dX3_possible_8 : decode cX3_possible 8 = .ok (.aload_n 0, 1) := dk_42 (dk_at dksX3_possible_0 8 rfl rfl)
theorem dX3_possible_9 : decode cX3_possible 9 = .ok (.iload_n 2, 1) := dk_28 (dk_at dksX3_possible_0 9 rfl rfl)
theorem dX3_possible_10 : decode cX3_possible 10 = .ok (.invokevirtual 476, 3) := dk_182 1 220 (dk_at dksX3_possible_0 10 rfl rfl)
theorem dX3_possible_13 : decode cX3_possible 13 = .ok (.ifCond .eq 24, 3) := dk_153 0 24 (dk_at dksX3_possible_0 13 rfl rfl)
theorem dX3_possible_16 : decode cX3_possible 16 = .ok (.aload_n 0, 1) := dk_42 (dk_at dksX3_possible_0 16 rfl rfl)
theorem dX3_possible_17 : decode cX3_possible 17 = .ok (.aload_n 0, 1) := dk_42 (dk_at dksX3_possible_0 17 rfl rfl)
theorem dX3_possible_18 : decode cX3_possible 18 = .ok (.iload_n 1, 1) := dk_27 (dk_at dksX3_possible_0 18 rfl rfl)
theorem dX3_possible_19 : decode cX3_possible 19 = .ok (.invokevirtual 485, 3) := dk_182 1 229 (dk_at dksX3_possible_0 19 rfl rfl)
theorem dX3_possible_22 : decode cX3_possible 22 = .ok (.iload_n 2, 1) := dk_28 (dk_at dksX3_possible_0 22 rfl rfl)
theorem dX3_possible_23 : decode cX3_possible 23 = .ok (.invokevirtual 447, 3) := dk_182 1 191 (dk_at dksX3_possible_1 0 rfl rfl)
theorem dX3_possible_26 : decode cX3_possible 26 = .ok (.ifCond .eq 7, 3) := dk_153 0 7 (dk_at dksX3_possible_1 3 rfl rfl)
theorem dX3_possible_29 : decode cX3_possible 29 = .ok (.iconst 1, 1) := dk_4 (dk_at dksX3_possible_1 6 rfl rfl)
theorem dX3_possible_30 : decode cX3_possible 30 = .ok (.goto 9, 3) := dk_167 0 9 (dk_at dksX3_possible_1 7 rfl rfl)
theorem dX3_possible_33 : decode cX3_possible 33 = .ok (.iconst 0, 1) := dk_3 (dk_at dksX3_possible_1 10 rfl rfl)
theorem dX3_possible_34 : decode cX3_possible 34 = .ok (.goto 5, 3) := dk_167 0 5 (dk_at dksX3_possible_1 11 rfl rfl)
theorem dX3_possible_37 : decode cX3_possible 37 = .ok (.bipush (-2), 2) := dk_16 254 (dk_at dksX3_possible_1 14 rfl rfl)
theorem dX3_possible_39 : decode cX3_possible 39 = .ok (.ireturn, 1) := dk_172 (dk_at dksX3_possible_1 16 rfl rfl)
abbrev cX3_gain : ByteArray := prog_21_method_85_code
def yX3_gain : MethodName := ⟨RX3, "gain", "(I)I"⟩
def dkwX3_gain_1 : List UInt8 := [172]
abbrev dktX3_gain_1 : List UInt8 := dkwX3_gain_1 ++ []
def dkwX3_gain_0 : List UInt8 := [42, 27, 182, 1, 217, 153, 0, 18, 42, 182, 0, 186, 153, 0, 11, 42, 27, 182, 1, 235, 167, 0, 4, 2]
abbrev dktX3_gain_0 : List UInt8 := dkwX3_gain_0 ++ dktX3_gain_1
theorem dksX3_gain_0 : cX3_gain.data.toList.drop 0 = dktX3_gain_0 := by decide +kernel
theorem dksX3_gain_1 : cX3_gain.data.toList.drop 24 = dktX3_gain_1 := dk_seg dksX3_gain_0 24 rfl rfl
theorem dX3_gain_0 : decode cX3_gain 0 = .ok (.aload_n 0, 1) := dk_42 (dk_at dksX3_gain_0 0 rfl rfl)
theorem dX3_gain_1 : decode cX3_gain 1 = .ok (.iload_n 1, 1) := dk_27 (dk_at dksX3_gain_0 1 rfl rfl)
theorem dX3_gain_2 : decode cX3_gain 2 = .ok (.invokevirtual 473, 3) := dk_182 1 217 (dk_at dksX3_gain_0 2 rfl rfl)
theorem dX3_gain_5 : decode cX3_gain 5 = .ok (.ifCond .eq 18, 3) := dk_153 0 18 (dk_at dksX3_gain_0 5 rfl rfl)
theorem dX3_gain_8 : decode cX3_gain 8 = .ok (.aload_n 0, 1) := dk_42 (dk_at dksX3_gain_0 8 rfl rfl)
theorem dX3_gain_9 : decode cX3_gain 9 = .ok (.invokevirtual 186, 3) := dk_182 0 186 (dk_at dksX3_gain_0 9 rfl rfl)
theorem dX3_gain_12 : decode cX3_gain 12 = .ok (.ifCond .eq 11, 3) := dk_153 0 11 (dk_at dksX3_gain_0 12 rfl rfl)
theorem dX3_gain_15 : decode cX3_gain 15 = .ok (.aload_n 0, 1) := dk_42 (dk_at dksX3_gain_0 15 rfl rfl)
theorem dX3_gain_16 : decode cX3_gain 16 = .ok (.iload_n 1, 1) := dk_27 (dk_at dksX3_gain_0 16 rfl rfl)
theorem dX3_gain_17 : decode cX3_gain 17 = .ok (.invokevirtual 491, 3) := dk_182 1 235 (dk_at dksX3_gain_0 17 rfl rfl)
theorem dX3_gain_20 : decode cX3_gain 20 = .ok (.goto 4, 3) := dk_167 0 4 (dk_at dksX3_gain_0 20 rfl rfl)
theorem dX3_gain_23 : decode cX3_gain 23 = .ok (.iconst (-1), 1) := dk_2 (dk_at dksX3_gain_0 23 rfl rfl)
theorem dX3_gain_24 : decode cX3_gain 24 = .ok (.ireturn, 1) := dk_172 (dk_at dksX3_gain_1 0 rfl rfl)
abbrev cX3_gainOf : ByteArray := prog_21_method_68_code
def yX3_gainOf : MethodName := ⟨RX3, "gainOf", "(I)I"⟩
def dkwX3_gainOf_1 : List UInt8 := [16, 8, 27, 104, 29, 96, 46, 2, 130, 126, 184, 1, 188, 96, 61, 132, 3, 1, 167, 255, 218, 28, 172]
abbrev dktX3_gainOf_1 : List UInt8 := dkwX3_gainOf_1 ++ []
def dkwX3_gainOf_0 : List UInt8 := [3, 61, 3, 62, 29, 16, 8, 162, 0, 38, 28, 42, 180, 0, 52, 16, 48, 29, 96, 46, 42, 180, 0, 117]
abbrev dktX3_gainOf_0 : List UInt8 := dkwX3_gainOf_0 ++ dktX3_gainOf_1
theorem dksX3_gainOf_0 : cX3_gainOf.data.toList.drop 0 = dktX3_gainOf_0 := by decide +kernel
theorem dksX3_gainOf_1 : cX3_gainOf.data.toList.drop 24 = dktX3_gainOf_1 := dk_seg dksX3_gainOf_0 24 rfl rfl
theorem dX3_gainOf_0 : decode cX3_gainOf 0 = .ok (.iconst 0, 1) := dk_3 (dk_at dksX3_gainOf_0 0 rfl rfl)
theorem dX3_gainOf_1 : decode cX3_gainOf 1 = .ok (.istore_n 2, 1) := dk_61 (dk_at dksX3_gainOf_0 1 rfl rfl)
theorem dX3_gainOf_2 : decode cX3_gainOf 2 = .ok (.iconst 0, 1) := dk_3 (dk_at dksX3_gainOf_0 2 rfl rfl)
theorem dX3_gainOf_3 : decode cX3_gainOf 3 = .ok (.istore_n 3, 1) := dk_62 (dk_at dksX3_gainOf_0 3 rfl rfl)
theorem dX3_gainOf_4 : decode cX3_gainOf 4 = .ok (.iload_n 3, 1) := dk_29 (dk_at dksX3_gainOf_0 4 rfl rfl)
theorem dX3_gainOf_5 : decode cX3_gainOf 5 = .ok (.bipush 8, 2) := dk_16 8 (dk_at dksX3_gainOf_0 5 rfl rfl)
theorem dX3_gainOf_7 : decode cX3_gainOf 7 = .ok (.if_icmp .ge 38, 3) := dk_162 0 38 (dk_at dksX3_gainOf_0 7 rfl rfl)
theorem dX3_gainOf_10 : decode cX3_gainOf 10 = .ok (.iload_n 2, 1) := dk_28 (dk_at dksX3_gainOf_0 10 rfl rfl)
theorem dX3_gainOf_11 : decode cX3_gainOf 11 = .ok (.aload_n 0, 1) := dk_42 (dk_at dksX3_gainOf_0 11 rfl rfl)
theorem dX3_gainOf_12 : decode cX3_gainOf 12 = .ok (.getfield 52, 3) := dk_180 0 52 (dk_at dksX3_gainOf_0 12 rfl rfl)
theorem dX3_gainOf_15 : decode cX3_gainOf 15 = .ok (.bipush 48, 2) := dk_16 48 (dk_at dksX3_gainOf_0 15 rfl rfl)
theorem dX3_gainOf_17 : decode cX3_gainOf 17 = .ok (.iload_n 3, 1) := dk_29 (dk_at dksX3_gainOf_0 17 rfl rfl)
theorem dX3_gainOf_18 : decode cX3_gainOf 18 = .ok (.iadd, 1) := dk_96 (dk_at dksX3_gainOf_0 18 rfl rfl)
theorem dX3_gainOf_19 : decode cX3_gainOf 19 = .ok (.iaload, 1) := dk_46 (dk_at dksX3_gainOf_0 19 rfl rfl)
theorem dX3_gainOf_20 : decode cX3_gainOf 20 = .ok (.aload_n 0, 1) := dk_42 (dk_at dksX3_gainOf_0 20 rfl rfl)
theorem dX3_gainOf_21 : decode cX3_gainOf 21 = .ok (.getfield 117, 3) := dk_180 0 117 (dk_at dksX3_gainOf_0 21 rfl rfl)
theorem dX3_gainOf_24 : decode cX3_gainOf 24 = .ok (.bipush 8, 2) := dk_16 8 (dk_at dksX3_gainOf_1 0 rfl rfl)
theorem dX3_gainOf_26 : decode cX3_gainOf 26 = .ok (.iload_n 1, 1) := dk_27 (dk_at dksX3_gainOf_1 2 rfl rfl)
theorem dX3_gainOf_27 : decode cX3_gainOf 27 = .ok (.imul, 1) := dk_104 (dk_at dksX3_gainOf_1 3 rfl rfl)
theorem dX3_gainOf_28 : decode cX3_gainOf 28 = .ok (.iload_n 3, 1) := dk_29 (dk_at dksX3_gainOf_1 4 rfl rfl)
theorem dX3_gainOf_29 : decode cX3_gainOf 29 = .ok (.iadd, 1) := dk_96 (dk_at dksX3_gainOf_1 5 rfl rfl)
theorem dX3_gainOf_30 : decode cX3_gainOf 30 = .ok (.iaload, 1) := dk_46 (dk_at dksX3_gainOf_1 6 rfl rfl)
theorem dX3_gainOf_31 : decode cX3_gainOf 31 = .ok (.iconst (-1), 1) := dk_2 (dk_at dksX3_gainOf_1 7 rfl rfl)
theorem dX3_gainOf_32 : decode cX3_gainOf 32 = .ok (.ixor, 1) := dk_130 (dk_at dksX3_gainOf_1 8 rfl rfl)
theorem dX3_gainOf_33 : decode cX3_gainOf 33 = .ok (.iand, 1) := dk_126 (dk_at dksX3_gainOf_1 9 rfl rfl)
theorem dX3_gainOf_34 : decode cX3_gainOf 34 = .ok (.invokestatic 444, 3) := dk_184 1 188 (dk_at dksX3_gainOf_1 10 rfl rfl)
theorem dX3_gainOf_37 : decode cX3_gainOf 37 = .ok (.iadd, 1) := dk_96 (dk_at dksX3_gainOf_1 13 rfl rfl)
theorem dX3_gainOf_38 : decode cX3_gainOf 38 = .ok (.istore_n 2, 1) := dk_61 (dk_at dksX3_gainOf_1 14 rfl rfl)
theorem dX3_gainOf_39 : decode cX3_gainOf 39 = .ok (.iinc 3 1, 3) := dk_132 3 1 (dk_at dksX3_gainOf_1 15 rfl rfl)
theorem dX3_gainOf_42 : decode cX3_gainOf 42 = .ok (.goto (-38), 3) := dk_167 255 218 (dk_at dksX3_gainOf_1 18 rfl rfl)
theorem dX3_gainOf_45 : decode cX3_gainOf 45 = .ok (.iload_n 2, 1) := dk_28 (dk_at dksX3_gainOf_1 21 rfl rfl)
theorem dX3_gainOf_46 : decode cX3_gainOf 46 = .ok (.ireturn, 1) := dk_172 (dk_at dksX3_gainOf_1 22 rfl rfl)
abbrev cX3_shown : ByteArray := prog_21_method_86_code
def yX3_shown : MethodName := ⟨RX3, "shown", "(I)I"⟩
def dkwX3_shown_2 : List UInt8 := [132, 2, 1, 167, 255, 224, 16, 254, 172]
abbrev dktX3_shown_2 : List UInt8 := dkwX3_shown_2 ++ []
def dkwX3_shown_1 : List UInt8 := [162, 0, 30, 42, 16, 6, 28, 182, 1, 191, 153, 0, 14, 42, 27, 28, 182, 1, 223, 154, 0, 5, 28, 172]
abbrev dktX3_shown_1 : List UInt8 := dkwX3_shown_1 ++ dktX3_shown_2
def dkwX3_shown_0 : List UInt8 := [42, 27, 182, 1, 217, 153, 0, 10, 42, 182, 0, 186, 154, 0, 5, 2, 172, 3, 61, 28, 42, 182, 0, 190]
abbrev dktX3_shown_0 : List UInt8 := dkwX3_shown_0 ++ dktX3_shown_1
theorem dksX3_shown_0 : cX3_shown.data.toList.drop 0 = dktX3_shown_0 := by decide +kernel
theorem dksX3_shown_1 : cX3_shown.data.toList.drop 24 = dktX3_shown_1 := dk_seg dksX3_shown_0 24 rfl rfl
theorem dksX3_shown_2 : cX3_shown.data.toList.drop 48 = dktX3_shown_2 := dk_seg dksX3_shown_1 24 rfl rfl
theorem dX3_shown_0 : decode cX3_shown 0 = .ok (.aload_n 0, 1) := dk_42 (dk_at dksX3_shown_0 0 rfl rfl)
theorem dX3_shown_1 : decode cX3_shown 1 = .ok (.iload_n 1, 1) := dk_27 (dk_at dksX3_shown_0 1 rfl rfl)
theorem dX3_shown_2 : decode cX3_shown 2 = .ok (.invokevirtual 473, 3) := dk_182 1 217 (dk_at dksX3_shown_0 2 rfl rfl)
theorem dX3_shown_5 : decode cX3_shown 5 = .ok (.ifCond .eq 10, 3) := dk_153 0 10 (dk_at dksX3_shown_0 5 rfl rfl)
theorem dX3_shown_8 : decode cX3_shown 8 = .ok (.aload_n 0, 1) := dk_42 (dk_at dksX3_shown_0 8 rfl rfl)
theorem dX3_shown_9 : decode cX3_shown 9 = .ok (.invokevirtual 186, 3) := dk_182 0 186 (dk_at dksX3_shown_0 9 rfl rfl)
theorem dX3_shown_12 : decode cX3_shown 12 = .ok (.ifCond .ne 5, 3) := dk_154 0 5 (dk_at dksX3_shown_0 12 rfl rfl)
theorem dX3_shown_15 : decode cX3_shown 15 = .ok (.iconst (-1), 1) := dk_2 (dk_at dksX3_shown_0 15 rfl rfl)
theorem dX3_shown_16 : decode cX3_shown 16 = .ok (.ireturn, 1) := dk_172 (dk_at dksX3_shown_0 16 rfl rfl)
theorem dX3_shown_17 : decode cX3_shown 17 = .ok (.iconst 0, 1) := dk_3 (dk_at dksX3_shown_0 17 rfl rfl)
theorem dX3_shown_18 : decode cX3_shown 18 = .ok (.istore_n 2, 1) := dk_61 (dk_at dksX3_shown_0 18 rfl rfl)
theorem dX3_shown_19 : decode cX3_shown 19 = .ok (.iload_n 2, 1) := dk_28 (dk_at dksX3_shown_0 19 rfl rfl)
theorem dX3_shown_20 : decode cX3_shown 20 = .ok (.aload_n 0, 1) := dk_42 (dk_at dksX3_shown_0 20 rfl rfl)
theorem dX3_shown_21 : decode cX3_shown 21 = .ok (.invokevirtual 190, 3) := dk_182 0 190 (dk_at dksX3_shown_0 21 rfl rfl)
theorem dX3_shown_24 : decode cX3_shown 24 = .ok (.if_icmp .ge 30, 3) := dk_162 0 30 (dk_at dksX3_shown_1 0 rfl rfl)
theorem dX3_shown_27 : decode cX3_shown 27 = .ok (.aload_n 0, 1) := dk_42 (dk_at dksX3_shown_1 3 rfl rfl)
theorem dX3_shown_28 : decode cX3_shown 28 = .ok (.bipush 6, 2) := dk_16 6 (dk_at dksX3_shown_1 4 rfl rfl)
theorem dX3_shown_30 : decode cX3_shown 30 = .ok (.iload_n 2, 1) := dk_28 (dk_at dksX3_shown_1 6 rfl rfl)
theorem dX3_shown_31 : decode cX3_shown 31 = .ok (.invokevirtual 447, 3) := dk_182 1 191 (dk_at dksX3_shown_1 7 rfl rfl)
theorem dX3_shown_34 : decode cX3_shown 34 = .ok (.ifCond .eq 14, 3) := dk_153 0 14 (dk_at dksX3_shown_1 10 rfl rfl)
theorem dX3_shown_37 : decode cX3_shown 37 = .ok (.aload_n 0, 1) := dk_42 (dk_at dksX3_shown_1 13 rfl rfl)
theorem dX3_shown_38 : decode cX3_shown 38 = .ok (.iload_n 1, 1) := dk_27 (dk_at dksX3_shown_1 14 rfl rfl)
theorem dX3_shown_39 : decode cX3_shown 39 = .ok (.iload_n 2, 1) := dk_28 (dk_at dksX3_shown_1 15 rfl rfl)
theorem dX3_shown_40 : decode cX3_shown 40 = .ok (.invokevirtual 479, 3) := dk_182 1 223 (dk_at dksX3_shown_1 16 rfl rfl)
theorem dX3_shown_43 : decode cX3_shown 43 = .ok (.ifCond .ne 5, 3) := dk_154 0 5 (dk_at dksX3_shown_1 19 rfl rfl)
theorem dX3_shown_46 : decode cX3_shown 46 = .ok (.iload_n 2, 1) := dk_28 (dk_at dksX3_shown_1 22 rfl rfl)
theorem dX3_shown_47 : decode cX3_shown 47 = .ok (.ireturn, 1) := dk_172 (dk_at dksX3_shown_1 23 rfl rfl)
theorem dX3_shown_48 : decode cX3_shown 48 = .ok (.iinc 2 1, 3) := dk_132 2 1 (dk_at dksX3_shown_2 0 rfl rfl)
theorem dX3_shown_51 : decode cX3_shown 51 = .ok (.goto (-32), 3) := dk_167 255 224 (dk_at dksX3_shown_2 3 rfl rfl)
theorem dX3_shown_54 : decode cX3_shown 54 = .ok (.bipush (-2), 2) := dk_16 254 (dk_at dksX3_shown_2 6 rfl rfl)
theorem dX3_shown_56 : decode cX3_shown 56 = .ok (.ireturn, 1) := dk_172 (dk_at dksX3_shown_2 8 rfl rfl)
abbrev cX3_undo : ByteArray := prog_21_method_91_code
def yX3_undo : MethodName := ⟨RX3, "undo", "()I"⟩
def dkwX3_undo_1 : List UInt8 := [180, 1, 100, 4, 182, 1, 252, 42, 180, 1, 100, 172]
abbrev dktX3_undo_1 : List UInt8 := dkwX3_undo_1 ++ []
def dkwX3_undo_0 : List UInt8 := [42, 180, 1, 100, 154, 0, 6, 16, 254, 172, 42, 89, 180, 1, 100, 4, 100, 181, 1, 100, 42, 42]
abbrev dktX3_undo_0 : List UInt8 := dkwX3_undo_0 ++ dktX3_undo_1
theorem dksX3_undo_0 : cX3_undo.data.toList.drop 0 = dktX3_undo_0 := by decide +kernel
theorem dksX3_undo_1 : cX3_undo.data.toList.drop 22 = dktX3_undo_1 := dk_seg dksX3_undo_0 22 rfl rfl
theorem dX3_undo_0 : decode cX3_undo 0 = .ok (.aload_n 0, 1) := dk_42 (dk_at dksX3_undo_0 0 rfl rfl)
theorem dX3_undo_1 : decode cX3_undo 1 = .ok (.getfield 356, 3) := dk_180 1 100 (dk_at dksX3_undo_0 1 rfl rfl)
theorem dX3_undo_4 : decode cX3_undo 4 = .ok (.ifCond .ne 6, 3) := dk_154 0 6 (dk_at dksX3_undo_0 4 rfl rfl)
theorem dX3_undo_7 : decode cX3_undo 7 = .ok (.bipush (-2), 2) := dk_16 254 (dk_at dksX3_undo_0 7 rfl rfl)
theorem dX3_undo_9 : decode cX3_undo 9 = .ok (.ireturn, 1) := dk_172 (dk_at dksX3_undo_0 9 rfl rfl)
theorem dX3_undo_10 : decode cX3_undo 10 = .ok (.aload_n 0, 1) := dk_42 (dk_at dksX3_undo_0 10 rfl rfl)
theorem dX3_undo_11 : decode cX3_undo 11 = .ok (.dup, 1) := dk_89 (dk_at dksX3_undo_0 11 rfl rfl)
theorem dX3_undo_12 : decode cX3_undo 12 = .ok (.getfield 356, 3) := dk_180 1 100 (dk_at dksX3_undo_0 12 rfl rfl)
theorem dX3_undo_15 : decode cX3_undo 15 = .ok (.iconst 1, 1) := dk_4 (dk_at dksX3_undo_0 15 rfl rfl)
theorem dX3_undo_16 : decode cX3_undo 16 = .ok (.isub, 1) := dk_100 (dk_at dksX3_undo_0 16 rfl rfl)
theorem dX3_undo_17 : decode cX3_undo 17 = .ok (.putfield 356, 3) := dk_181 1 100 (dk_at dksX3_undo_0 17 rfl rfl)
theorem dX3_undo_20 : decode cX3_undo 20 = .ok (.aload_n 0, 1) := dk_42 (dk_at dksX3_undo_0 20 rfl rfl)
theorem dX3_undo_21 : decode cX3_undo 21 = .ok (.aload_n 0, 1) := dk_42 (dk_at dksX3_undo_0 21 rfl rfl)
theorem dX3_undo_22 : decode cX3_undo 22 = .ok (.getfield 356, 3) := dk_180 1 100 (dk_at dksX3_undo_1 0 rfl rfl)
theorem dX3_undo_25 : decode cX3_undo 25 = .ok (.iconst 1, 1) := dk_4 (dk_at dksX3_undo_1 3 rfl rfl)
theorem dX3_undo_26 : decode cX3_undo 26 = .ok (.invokevirtual 508, 3) := dk_182 1 252 (dk_at dksX3_undo_1 4 rfl rfl)
theorem dX3_undo_29 : decode cX3_undo 29 = .ok (.aload_n 0, 1) := dk_42 (dk_at dksX3_undo_1 7 rfl rfl)
theorem dX3_undo_30 : decode cX3_undo 30 = .ok (.getfield 356, 3) := dk_180 1 100 (dk_at dksX3_undo_1 8 rfl rfl)
theorem dX3_undo_33 : decode cX3_undo 33 = .ok (.ireturn, 1) := dk_172 (dk_at dksX3_undo_1 11 rfl rfl)
abbrev cX3_movesAll : ByteArray := prog_21_method_89_code
def yX3_movesAll : MethodName := ⟨RX3, "movesAll", "(IZ)V"⟩
def dkwX3_movesAll_3 : List UInt8 := [42, 180, 0, 52, 182, 1, 248, 177]
abbrev dktX3_movesAll_3 : List UInt8 := dkwX3_movesAll_3 ++ []
def dkwX3_movesAll_2 : List UInt8 := [42, 180, 0, 13, 182, 1, 248, 42, 42, 180, 0, 22, 182, 1, 248, 42, 42, 180, 0, 25, 182, 1, 248, 42]
abbrev dktX3_movesAll_2 : List UInt8 := dkwX3_movesAll_2 ++ dktX3_movesAll_3
def dkwX3_movesAll_1 : List UInt8 := [16, 6, 46, 182, 1, 245, 79, 42, 180, 0, 9, 4, 42, 42, 180, 0, 9, 4, 46, 182, 1, 245, 79, 42]
abbrev dktX3_movesAll_1 : List UInt8 := dkwX3_movesAll_1 ++ dktX3_movesAll_2
def dkwX3_movesAll_0 : List UInt8 := [42, 16, 76, 27, 104, 181, 1, 242, 42, 28, 181, 1, 238, 42, 180, 0, 9, 16, 6, 42, 42, 180, 0, 9]
abbrev dktX3_movesAll_0 : List UInt8 := dkwX3_movesAll_0 ++ dktX3_movesAll_1
theorem dksX3_movesAll_0 : cX3_movesAll.data.toList.drop 0 = dktX3_movesAll_0 := by decide +kernel
theorem dksX3_movesAll_1 : cX3_movesAll.data.toList.drop 24 = dktX3_movesAll_1 := dk_seg dksX3_movesAll_0 24 rfl rfl
theorem dksX3_movesAll_2 : cX3_movesAll.data.toList.drop 48 = dktX3_movesAll_2 := dk_seg dksX3_movesAll_1 24 rfl rfl
theorem dksX3_movesAll_3 : cX3_movesAll.data.toList.drop 72 = dktX3_movesAll_3 := dk_seg dksX3_movesAll_2 24 rfl rfl
theorem dX3_movesAll_0 : decode cX3_movesAll 0 = .ok (.aload_n 0, 1) := dk_42 (dk_at dksX3_movesAll_0 0 rfl rfl)
theorem dX3_movesAll_1 : decode cX3_movesAll 1 = .ok (.bipush 76, 2) := dk_16 76 (dk_at dksX3_movesAll_0 1 rfl rfl)
theorem dX3_movesAll_3 : decode cX3_movesAll 3 = .ok (.iload_n 1, 1) := dk_27 (dk_at dksX3_movesAll_0 3 rfl rfl)
theorem dX3_movesAll_4 : decode cX3_movesAll 4 = .ok (.imul, 1) := dk_104 (dk_at dksX3_movesAll_0 4 rfl rfl)
theorem dX3_movesAll_5 : decode cX3_movesAll 5 = .ok (.putfield 498, 3) := dk_181 1 242 (dk_at dksX3_movesAll_0 5 rfl rfl)
theorem dX3_movesAll_8 : decode cX3_movesAll 8 = .ok (.aload_n 0, 1) := dk_42 (dk_at dksX3_movesAll_0 8 rfl rfl)
theorem dX3_movesAll_9 : decode cX3_movesAll 9 = .ok (.iload_n 2, 1) := dk_28 (dk_at dksX3_movesAll_0 9 rfl rfl)
theorem dX3_movesAll_10 : decode cX3_movesAll 10 = .ok (.putfield 494, 3) := dk_181 1 238 (dk_at dksX3_movesAll_0 10 rfl rfl)
theorem dX3_movesAll_13 : decode cX3_movesAll 13 = .ok (.aload_n 0, 1) := dk_42 (dk_at dksX3_movesAll_0 13 rfl rfl)
theorem dX3_movesAll_14 : decode cX3_movesAll 14 = .ok (.getfield 9, 3) := dk_180 0 9 (dk_at dksX3_movesAll_0 14 rfl rfl)
theorem dX3_movesAll_17 : decode cX3_movesAll 17 = .ok (.bipush 6, 2) := dk_16 6 (dk_at dksX3_movesAll_0 17 rfl rfl)
theorem dX3_movesAll_19 : decode cX3_movesAll 19 = .ok (.aload_n 0, 1) := dk_42 (dk_at dksX3_movesAll_0 19 rfl rfl)
theorem dX3_movesAll_20 : decode cX3_movesAll 20 = .ok (.aload_n 0, 1) := dk_42 (dk_at dksX3_movesAll_0 20 rfl rfl)
theorem dX3_movesAll_21 : decode cX3_movesAll 21 = .ok (.getfield 9, 3) := dk_180 0 9 (dk_at dksX3_movesAll_0 21 rfl rfl)
theorem dX3_movesAll_24 : decode cX3_movesAll 24 = .ok (.bipush 6, 2) := dk_16 6 (dk_at dksX3_movesAll_1 0 rfl rfl)
theorem dX3_movesAll_26 : decode cX3_movesAll 26 = .ok (.iaload, 1) := dk_46 (dk_at dksX3_movesAll_1 2 rfl rfl)
theorem dX3_movesAll_27 : decode cX3_movesAll 27 = .ok (.invokevirtual 501, 3) := dk_182 1 245 (dk_at dksX3_movesAll_1 3 rfl rfl)
theorem dX3_movesAll_30 : decode cX3_movesAll 30 = .ok (.iastore, 1) := dk_79 (dk_at dksX3_movesAll_1 6 rfl rfl)
theorem dX3_movesAll_31 : decode cX3_movesAll 31 = .ok (.aload_n 0, 1) := dk_42 (dk_at dksX3_movesAll_1 7 rfl rfl)
theorem dX3_movesAll_32 : decode cX3_movesAll 32 = .ok (.getfield 9, 3) := dk_180 0 9 (dk_at dksX3_movesAll_1 8 rfl rfl)
theorem dX3_movesAll_35 : decode cX3_movesAll 35 = .ok (.iconst 1, 1) := dk_4 (dk_at dksX3_movesAll_1 11 rfl rfl)
theorem dX3_movesAll_36 : decode cX3_movesAll 36 = .ok (.aload_n 0, 1) := dk_42 (dk_at dksX3_movesAll_1 12 rfl rfl)
theorem dX3_movesAll_37 : decode cX3_movesAll 37 = .ok (.aload_n 0, 1) := dk_42 (dk_at dksX3_movesAll_1 13 rfl rfl)
theorem dX3_movesAll_38 : decode cX3_movesAll 38 = .ok (.getfield 9, 3) := dk_180 0 9 (dk_at dksX3_movesAll_1 14 rfl rfl)
theorem dX3_movesAll_41 : decode cX3_movesAll 41 = .ok (.iconst 1, 1) := dk_4 (dk_at dksX3_movesAll_1 17 rfl rfl)
theorem dX3_movesAll_42 : decode cX3_movesAll 42 = .ok (.iaload, 1) := dk_46 (dk_at dksX3_movesAll_1 18 rfl rfl)
theorem dX3_movesAll_43 : decode cX3_movesAll 43 = .ok (.invokevirtual 501, 3) := dk_182 1 245 (dk_at dksX3_movesAll_1 19 rfl rfl)
theorem dX3_movesAll_46 : decode cX3_movesAll 46 = .ok (.iastore, 1) := dk_79 (dk_at dksX3_movesAll_1 22 rfl rfl)
theorem dX3_movesAll_47 : decode cX3_movesAll 47 = .ok (.aload_n 0, 1) := dk_42 (dk_at dksX3_movesAll_1 23 rfl rfl)
theorem dX3_movesAll_48 : decode cX3_movesAll 48 = .ok (.aload_n 0, 1) := dk_42 (dk_at dksX3_movesAll_2 0 rfl rfl)
theorem dX3_movesAll_49 : decode cX3_movesAll 49 = .ok (.getfield 13, 3) := dk_180 0 13 (dk_at dksX3_movesAll_2 1 rfl rfl)
theorem dX3_movesAll_52 : decode cX3_movesAll 52 = .ok (.invokevirtual 504, 3) := dk_182 1 248 (dk_at dksX3_movesAll_2 4 rfl rfl)
theorem dX3_movesAll_55 : decode cX3_movesAll 55 = .ok (.aload_n 0, 1) := dk_42 (dk_at dksX3_movesAll_2 7 rfl rfl)
theorem dX3_movesAll_56 : decode cX3_movesAll 56 = .ok (.aload_n 0, 1) := dk_42 (dk_at dksX3_movesAll_2 8 rfl rfl)
theorem dX3_movesAll_57 : decode cX3_movesAll 57 = .ok (.getfield 22, 3) := dk_180 0 22 (dk_at dksX3_movesAll_2 9 rfl rfl)
theorem dX3_movesAll_60 : decode cX3_movesAll 60 = .ok (.invokevirtual 504, 3) := dk_182 1 248 (dk_at dksX3_movesAll_2 12 rfl rfl)
theorem dX3_movesAll_63 : decode cX3_movesAll 63 = .ok (.aload_n 0, 1) := dk_42 (dk_at dksX3_movesAll_2 15 rfl rfl)
theorem dX3_movesAll_64 : decode cX3_movesAll 64 = .ok (.aload_n 0, 1) := dk_42 (dk_at dksX3_movesAll_2 16 rfl rfl)
theorem dX3_movesAll_65 : decode cX3_movesAll 65 = .ok (.getfield 25, 3) := dk_180 0 25 (dk_at dksX3_movesAll_2 17 rfl rfl)
theorem dX3_movesAll_68 : decode cX3_movesAll 68 = .ok (.invokevirtual 504, 3) := dk_182 1 248 (dk_at dksX3_movesAll_2 20 rfl rfl)
theorem dX3_movesAll_71 : decode cX3_movesAll 71 = .ok (.aload_n 0, 1) := dk_42 (dk_at dksX3_movesAll_2 23 rfl rfl)
theorem dX3_movesAll_72 : decode cX3_movesAll 72 = .ok (.aload_n 0, 1) := dk_42 (dk_at dksX3_movesAll_3 0 rfl rfl)
theorem dX3_movesAll_73 : decode cX3_movesAll 73 = .ok (.getfield 52, 3) := dk_180 0 52 (dk_at dksX3_movesAll_3 1 rfl rfl)
theorem dX3_movesAll_76 : decode cX3_movesAll 76 = .ok (.invokevirtual 504, 3) := dk_182 1 248 (dk_at dksX3_movesAll_3 4 rfl rfl)
theorem dX3_movesAll_79 : decode cX3_movesAll 79 = .ok (.return_, 1) := dk_177 (dk_at dksX3_movesAll_3 7 rfl rfl)
abbrev cX3_moves : ByteArray := prog_21_method_87_code
def yX3_moves : MethodName := ⟨RX3, "moves", "(I)I"⟩
def dkwX3_moves_1 : List UInt8 := [180, 0, 142, 42, 180, 1, 242, 28, 79, 42, 89, 180, 1, 242, 4, 96, 181, 1, 242, 28, 172]
abbrev dktX3_moves_1 : List UInt8 := dkwX3_moves_1 ++ []
def dkwX3_moves_0 : List UInt8 := [42, 180, 1, 238, 153, 0, 15, 42, 180, 0, 142, 42, 180, 1, 242, 46, 167, 0, 4, 27, 61, 42]
abbrev dktX3_moves_0 : List UInt8 := dkwX3_moves_0 ++ dktX3_moves_1
theorem dksX3_moves_0 : cX3_moves.data.toList.drop 0 = dktX3_moves_0 := by decide +kernel
theorem dksX3_moves_1 : cX3_moves.data.toList.drop 22 = dktX3_moves_1 := dk_seg dksX3_moves_0 22 rfl rfl
theorem dX3_moves_0 : decode cX3_moves 0 = .ok (.aload_n 0, 1) := dk_42 (dk_at dksX3_moves_0 0 rfl rfl)
theorem dX3_moves_1 : decode cX3_moves 1 = .ok (.getfield 494, 3) := dk_180 1 238 (dk_at dksX3_moves_0 1 rfl rfl)
theorem dX3_moves_4 : decode cX3_moves 4 = .ok (.ifCond .eq 15, 3) := dk_153 0 15 (dk_at dksX3_moves_0 4 rfl rfl)
theorem dX3_moves_7 : decode cX3_moves 7 = .ok (.aload_n 0, 1) := dk_42 (dk_at dksX3_moves_0 7 rfl rfl)
theorem dX3_moves_8 : decode cX3_moves 8 = .ok (.getfield 142, 3) := dk_180 0 142 (dk_at dksX3_moves_0 8 rfl rfl)
theorem dX3_moves_11 : decode cX3_moves 11 = .ok (.aload_n 0, 1) := dk_42 (dk_at dksX3_moves_0 11 rfl rfl)
theorem dX3_moves_12 : decode cX3_moves 12 = .ok (.getfield 498, 3) := dk_180 1 242 (dk_at dksX3_moves_0 12 rfl rfl)
theorem dX3_moves_15 : decode cX3_moves 15 = .ok (.iaload, 1) := dk_46 (dk_at dksX3_moves_0 15 rfl rfl)
theorem dX3_moves_16 : decode cX3_moves 16 = .ok (.goto 4, 3) := dk_167 0 4 (dk_at dksX3_moves_0 16 rfl rfl)
theorem dX3_moves_19 : decode cX3_moves 19 = .ok (.iload_n 1, 1) := dk_27 (dk_at dksX3_moves_0 19 rfl rfl)
theorem dX3_moves_20 : decode cX3_moves 20 = .ok (.istore_n 2, 1) := dk_61 (dk_at dksX3_moves_0 20 rfl rfl)
theorem dX3_moves_21 : decode cX3_moves 21 = .ok (.aload_n 0, 1) := dk_42 (dk_at dksX3_moves_0 21 rfl rfl)
theorem dX3_moves_22 : decode cX3_moves 22 = .ok (.getfield 142, 3) := dk_180 0 142 (dk_at dksX3_moves_1 0 rfl rfl)
theorem dX3_moves_25 : decode cX3_moves 25 = .ok (.aload_n 0, 1) := dk_42 (dk_at dksX3_moves_1 3 rfl rfl)
theorem dX3_moves_26 : decode cX3_moves 26 = .ok (.getfield 498, 3) := dk_180 1 242 (dk_at dksX3_moves_1 4 rfl rfl)
theorem dX3_moves_29 : decode cX3_moves 29 = .ok (.iload_n 2, 1) := dk_28 (dk_at dksX3_moves_1 7 rfl rfl)
theorem dX3_moves_30 : decode cX3_moves 30 = .ok (.iastore, 1) := dk_79 (dk_at dksX3_moves_1 8 rfl rfl)
theorem dX3_moves_31 : decode cX3_moves 31 = .ok (.aload_n 0, 1) := dk_42 (dk_at dksX3_moves_1 9 rfl rfl)
theorem dX3_moves_32 : decode cX3_moves 32 = .ok (.dup, 1) := dk_89 (dk_at dksX3_moves_1 10 rfl rfl)
theorem dX3_moves_33 : decode cX3_moves 33 = .ok (.getfield 498, 3) := dk_180 1 242 (dk_at dksX3_moves_1 11 rfl rfl)
theorem dX3_moves_36 : decode cX3_moves 36 = .ok (.iconst 1, 1) := dk_4 (dk_at dksX3_moves_1 14 rfl rfl)
theorem dX3_moves_37 : decode cX3_moves 37 = .ok (.iadd, 1) := dk_96 (dk_at dksX3_moves_1 15 rfl rfl)
theorem dX3_moves_38 : decode cX3_moves 38 = .ok (.putfield 498, 3) := dk_181 1 242 (dk_at dksX3_moves_1 16 rfl rfl)
theorem dX3_moves_41 : decode cX3_moves 41 = .ok (.iload_n 2, 1) := dk_28 (dk_at dksX3_moves_1 19 rfl rfl)
theorem dX3_moves_42 : decode cX3_moves 42 = .ok (.ireturn, 1) := dk_172 (dk_at dksX3_moves_1 20 rfl rfl)
abbrev cX3_movesRow : ByteArray := prog_21_method_88_code
def yX3_movesRow : MethodName := ⟨RX3, "movesRow", "([I)V"⟩
def dkwX3_movesRow_1 : List UInt8 := [177]
abbrev dktX3_movesRow_1 : List UInt8 := dkwX3_movesRow_1 ++ []
def dkwX3_movesRow_0 : List UInt8 := [3, 61, 28, 43, 190, 162, 0, 19, 43, 28, 42, 43, 28, 46, 182, 1, 245, 79, 132, 2, 1, 167, 255, 237]
abbrev dktX3_movesRow_0 : List UInt8 := dkwX3_movesRow_0 ++ dktX3_movesRow_1
theorem dksX3_movesRow_0 : cX3_movesRow.data.toList.drop 0 = dktX3_movesRow_0 := by decide +kernel
theorem dksX3_movesRow_1 : cX3_movesRow.data.toList.drop 24 = dktX3_movesRow_1 := dk_seg dksX3_movesRow_0 24 rfl rfl
theorem dX3_movesRow_0 : decode cX3_movesRow 0 = .ok (.iconst 0, 1) := dk_3 (dk_at dksX3_movesRow_0 0 rfl rfl)
theorem dX3_movesRow_1 : decode cX3_movesRow 1 = .ok (.istore_n 2, 1) := dk_61 (dk_at dksX3_movesRow_0 1 rfl rfl)
theorem dX3_movesRow_2 : decode cX3_movesRow 2 = .ok (.iload_n 2, 1) := dk_28 (dk_at dksX3_movesRow_0 2 rfl rfl)
theorem dX3_movesRow_3 : decode cX3_movesRow 3 = .ok (.aload_n 1, 1) := dk_43 (dk_at dksX3_movesRow_0 3 rfl rfl)
theorem dX3_movesRow_4 : decode cX3_movesRow 4 = .ok (.arraylength, 1) := dk_190 (dk_at dksX3_movesRow_0 4 rfl rfl)
theorem dX3_movesRow_5 : decode cX3_movesRow 5 = .ok (.if_icmp .ge 19, 3) := dk_162 0 19 (dk_at dksX3_movesRow_0 5 rfl rfl)
theorem dX3_movesRow_8 : decode cX3_movesRow 8 = .ok (.aload_n 1, 1) := dk_43 (dk_at dksX3_movesRow_0 8 rfl rfl)
theorem dX3_movesRow_9 : decode cX3_movesRow 9 = .ok (.iload_n 2, 1) := dk_28 (dk_at dksX3_movesRow_0 9 rfl rfl)
theorem dX3_movesRow_10 : decode cX3_movesRow 10 = .ok (.aload_n 0, 1) := dk_42 (dk_at dksX3_movesRow_0 10 rfl rfl)
theorem dX3_movesRow_11 : decode cX3_movesRow 11 = .ok (.aload_n 1, 1) := dk_43 (dk_at dksX3_movesRow_0 11 rfl rfl)
theorem dX3_movesRow_12 : decode cX3_movesRow 12 = .ok (.iload_n 2, 1) := dk_28 (dk_at dksX3_movesRow_0 12 rfl rfl)
theorem dX3_movesRow_13 : decode cX3_movesRow 13 = .ok (.iaload, 1) := dk_46 (dk_at dksX3_movesRow_0 13 rfl rfl)
theorem dX3_movesRow_14 : decode cX3_movesRow 14 = .ok (.invokevirtual 501, 3) := dk_182 1 245 (dk_at dksX3_movesRow_0 14 rfl rfl)
theorem dX3_movesRow_17 : decode cX3_movesRow 17 = .ok (.iastore, 1) := dk_79 (dk_at dksX3_movesRow_0 17 rfl rfl)
theorem dX3_movesRow_18 : decode cX3_movesRow 18 = .ok (.iinc 2 1, 3) := dk_132 2 1 (dk_at dksX3_movesRow_0 18 rfl rfl)
theorem dX3_movesRow_21 : decode cX3_movesRow 21 = .ok (.goto (-19), 3) := dk_167 255 237 (dk_at dksX3_movesRow_0 21 rfl rfl)
theorem dX3_movesRow_24 : decode cX3_movesRow 24 = .ok (.return_, 1) := dk_177 (dk_at dksX3_movesRow_1 0 rfl rfl)
abbrev cX3_cross : ByteArray := prog_21_method_93_code
def yX3_cross : MethodName := ⟨RX3, "cross", "(II)I"⟩
def dkwX3_cross_1 : List UInt8 := [160, 0, 5, 2, 172, 42, 182, 2, 3, 42, 27, 28, 182, 2, 6, 172]
abbrev dktX3_cross_1 : List UInt8 := dkwX3_cross_1 ++ []
def dkwX3_cross_0 : List UInt8 := [42, 27, 182, 1, 194, 153, 0, 21, 42, 28, 182, 1, 217, 153, 0, 13, 42, 180, 0, 25, 27, 46, 4]
abbrev dktX3_cross_0 : List UInt8 := dkwX3_cross_0 ++ dktX3_cross_1
theorem dksX3_cross_0 : cX3_cross.data.toList.drop 0 = dktX3_cross_0 := by decide +kernel
theorem dksX3_cross_1 : cX3_cross.data.toList.drop 23 = dktX3_cross_1 := dk_seg dksX3_cross_0 23 rfl rfl
theorem dX3_cross_0 : decode cX3_cross 0 = .ok (.aload_n 0, 1) := dk_42 (dk_at dksX3_cross_0 0 rfl rfl)
theorem dX3_cross_1 : decode cX3_cross 1 = .ok (.iload_n 1, 1) := dk_27 (dk_at dksX3_cross_0 1 rfl rfl)
theorem dX3_cross_2 : decode cX3_cross 2 = .ok (.invokevirtual 450, 3) := dk_182 1 194 (dk_at dksX3_cross_0 2 rfl rfl)
theorem dX3_cross_5 : decode cX3_cross 5 = .ok (.ifCond .eq 21, 3) := dk_153 0 21 (dk_at dksX3_cross_0 5 rfl rfl)
theorem dX3_cross_8 : decode cX3_cross 8 = .ok (.aload_n 0, 1) := dk_42 (dk_at dksX3_cross_0 8 rfl rfl)
theorem dX3_cross_9 : decode cX3_cross 9 = .ok (.iload_n 2, 1) := dk_28 (dk_at dksX3_cross_0 9 rfl rfl)
theorem dX3_cross_10 : decode cX3_cross 10 = .ok (.invokevirtual 473, 3) := dk_182 1 217 (dk_at dksX3_cross_0 10 rfl rfl)
theorem dX3_cross_13 : decode cX3_cross 13 = .ok (.ifCond .eq 13, 3) := dk_153 0 13 (dk_at dksX3_cross_0 13 rfl rfl)
theorem dX3_cross_16 : decode cX3_cross 16 = .ok (.aload_n 0, 1) := dk_42 (dk_at dksX3_cross_0 16 rfl rfl)
theorem dX3_cross_17 : decode cX3_cross 17 = .ok (.getfield 25, 3) := dk_180 0 25 (dk_at dksX3_cross_0 17 rfl rfl)
theorem dX3_cross_20 : decode cX3_cross 20 = .ok (.iload_n 1, 1) := dk_27 (dk_at dksX3_cross_0 20 rfl rfl)
theorem dX3_cross_21 : decode cX3_cross 21 = .ok (.iaload, 1) := dk_46 (dk_at dksX3_cross_0 21 rfl rfl)
theorem dX3_cross_22 : decode cX3_cross 22 = .ok (.iconst 1, 1) := dk_4 (dk_at dksX3_cross_0 22 rfl rfl)
theorem dX3_cross_23 : decode cX3_cross 23 = .ok (.if_icmp .ne 5, 3) := dk_160 0 5 (dk_at dksX3_cross_1 0 rfl rfl)
theorem dX3_cross_26 : decode cX3_cross 26 = .ok (.iconst (-1), 1) := dk_2 (dk_at dksX3_cross_1 3 rfl rfl)
theorem dX3_cross_27 : decode cX3_cross 27 = .ok (.ireturn, 1) := dk_172 (dk_at dksX3_cross_1 4 rfl rfl)
theorem dX3_cross_28 : decode cX3_cross 28 = .ok (.aload_n 0, 1) := dk_42 (dk_at dksX3_cross_1 5 rfl rfl)
theorem dX3_cross_29 : decode cX3_cross 29 = .ok (.invokevirtual 515, 3) := dk_182 2 3 (dk_at dksX3_cross_1 6 rfl rfl)
theorem dX3_cross_32 : decode cX3_cross 32 = .ok (.aload_n 0, 1) := dk_42 (dk_at dksX3_cross_1 9 rfl rfl)
theorem dX3_cross_33 : decode cX3_cross 33 = .ok (.iload_n 1, 1) := dk_27 (dk_at dksX3_cross_1 10 rfl rfl)
theorem dX3_cross_34 : decode cX3_cross 34 = .ok (.iload_n 2, 1) := dk_28 (dk_at dksX3_cross_1 11 rfl rfl)
theorem dX3_cross_35 : decode cX3_cross 35 = .ok (.invokevirtual 518, 3) := dk_182 2 6 (dk_at dksX3_cross_1 12 rfl rfl)
theorem dX3_cross_38 : decode cX3_cross 38 = .ok (.ireturn, 1) := dk_172 (dk_at dksX3_cross_1 15 rfl rfl)
abbrev cX3_keepsAct : ByteArray := prog_21_method_90_code
def yX3_keepsAct : MethodName := ⟨RX3, "keepsAct", "()V"⟩
def dkwX3_keepsAct_2 : List UInt8 := [181, 1, 100, 42, 42, 180, 1, 100, 3, 182, 1, 252, 42, 89, 180, 1, 100, 4, 96, 181, 1, 100, 177]
abbrev dktX3_keepsAct_2 : List UInt8 := dkwX3_keepsAct_2 ++ []
def dkwX3_keepsAct_1 : List UInt8 := [16, 76, 100, 42, 180, 0, 142, 27, 46, 79, 132, 1, 1, 167, 255, 231, 42, 89, 180, 1, 100, 4, 100]
abbrev dktX3_keepsAct_1 : List UInt8 := dkwX3_keepsAct_1 ++ dktX3_keepsAct_2
def dkwX3_keepsAct_0 : List UInt8 := [42, 180, 1, 100, 16, 20, 160, 0, 44, 16, 76, 60, 27, 17, 5, 240, 162, 0, 24, 42, 180, 0, 142, 27]
abbrev dktX3_keepsAct_0 : List UInt8 := dkwX3_keepsAct_0 ++ dktX3_keepsAct_1
theorem dksX3_keepsAct_0 : cX3_keepsAct.data.toList.drop 0 = dktX3_keepsAct_0 := by decide +kernel
theorem dksX3_keepsAct_1 : cX3_keepsAct.data.toList.drop 24 = dktX3_keepsAct_1 := dk_seg dksX3_keepsAct_0 24 rfl rfl
theorem dksX3_keepsAct_2 : cX3_keepsAct.data.toList.drop 47 = dktX3_keepsAct_2 := dk_seg dksX3_keepsAct_1 23 rfl rfl
theorem dX3_keepsAct_0 : decode cX3_keepsAct 0 = .ok (.aload_n 0, 1) := dk_42 (dk_at dksX3_keepsAct_0 0 rfl rfl)
theorem dX3_keepsAct_1 : decode cX3_keepsAct 1 = .ok (.getfield 356, 3) := dk_180 1 100 (dk_at dksX3_keepsAct_0 1 rfl rfl)
theorem dX3_keepsAct_4 : decode cX3_keepsAct 4 = .ok (.bipush 20, 2) := dk_16 20 (dk_at dksX3_keepsAct_0 4 rfl rfl)
theorem dX3_keepsAct_6 : decode cX3_keepsAct 6 = .ok (.if_icmp .ne 44, 3) := dk_160 0 44 (dk_at dksX3_keepsAct_0 6 rfl rfl)
theorem dX3_keepsAct_9 : decode cX3_keepsAct 9 = .ok (.bipush 76, 2) := dk_16 76 (dk_at dksX3_keepsAct_0 9 rfl rfl)
theorem dX3_keepsAct_11 : decode cX3_keepsAct 11 = .ok (.istore_n 1, 1) := dk_60 (dk_at dksX3_keepsAct_0 11 rfl rfl)
theorem dX3_keepsAct_12 : decode cX3_keepsAct 12 = .ok (.iload_n 1, 1) := dk_27 (dk_at dksX3_keepsAct_0 12 rfl rfl)
theorem dX3_keepsAct_13 : decode cX3_keepsAct 13 = .ok (.sipush 1520, 3) := dk_17 5 240 (dk_at dksX3_keepsAct_0 13 rfl rfl)
theorem dX3_keepsAct_16 : decode cX3_keepsAct 16 = .ok (.if_icmp .ge 24, 3) := dk_162 0 24 (dk_at dksX3_keepsAct_0 16 rfl rfl)
theorem dX3_keepsAct_19 : decode cX3_keepsAct 19 = .ok (.aload_n 0, 1) := dk_42 (dk_at dksX3_keepsAct_0 19 rfl rfl)
theorem dX3_keepsAct_20 : decode cX3_keepsAct 20 = .ok (.getfield 142, 3) := dk_180 0 142 (dk_at dksX3_keepsAct_0 20 rfl rfl)
theorem dX3_keepsAct_23 : decode cX3_keepsAct 23 = .ok (.iload_n 1, 1) := dk_27 (dk_at dksX3_keepsAct_0 23 rfl rfl)
theorem dX3_keepsAct_24 : decode cX3_keepsAct 24 = .ok (.bipush 76, 2) := dk_16 76 (dk_at dksX3_keepsAct_1 0 rfl rfl)
theorem dX3_keepsAct_26 : decode cX3_keepsAct 26 = .ok (.isub, 1) := dk_100 (dk_at dksX3_keepsAct_1 2 rfl rfl)
theorem dX3_keepsAct_27 : decode cX3_keepsAct 27 = .ok (.aload_n 0, 1) := dk_42 (dk_at dksX3_keepsAct_1 3 rfl rfl)
theorem dX3_keepsAct_28 : decode cX3_keepsAct 28 = .ok (.getfield 142, 3) := dk_180 0 142 (dk_at dksX3_keepsAct_1 4 rfl rfl)
theorem dX3_keepsAct_31 : decode cX3_keepsAct 31 = .ok (.iload_n 1, 1) := dk_27 (dk_at dksX3_keepsAct_1 7 rfl rfl)
theorem dX3_keepsAct_32 : decode cX3_keepsAct 32 = .ok (.iaload, 1) := dk_46 (dk_at dksX3_keepsAct_1 8 rfl rfl)
theorem dX3_keepsAct_33 : decode cX3_keepsAct 33 = .ok (.iastore, 1) := dk_79 (dk_at dksX3_keepsAct_1 9 rfl rfl)
theorem dX3_keepsAct_34 : decode cX3_keepsAct 34 = .ok (.iinc 1 1, 3) := dk_132 1 1 (dk_at dksX3_keepsAct_1 10 rfl rfl)
theorem dX3_keepsAct_37 : decode cX3_keepsAct 37 = .ok (.goto (-25), 3) := dk_167 255 231 (dk_at dksX3_keepsAct_1 13 rfl rfl)
theorem dX3_keepsAct_40 : decode cX3_keepsAct 40 = .ok (.aload_n 0, 1) := dk_42 (dk_at dksX3_keepsAct_1 16 rfl rfl)
theorem dX3_keepsAct_41 : decode cX3_keepsAct 41 = .ok (.dup, 1) := dk_89 (dk_at dksX3_keepsAct_1 17 rfl rfl)
theorem dX3_keepsAct_42 : decode cX3_keepsAct 42 = .ok (.getfield 356, 3) := dk_180 1 100 (dk_at dksX3_keepsAct_1 18 rfl rfl)
theorem dX3_keepsAct_45 : decode cX3_keepsAct 45 = .ok (.iconst 1, 1) := dk_4 (dk_at dksX3_keepsAct_1 21 rfl rfl)
theorem dX3_keepsAct_46 : decode cX3_keepsAct 46 = .ok (.isub, 1) := dk_100 (dk_at dksX3_keepsAct_1 22 rfl rfl)
theorem dX3_keepsAct_47 : decode cX3_keepsAct 47 = .ok (.putfield 356, 3) := dk_181 1 100 (dk_at dksX3_keepsAct_2 0 rfl rfl)
theorem dX3_keepsAct_50 : decode cX3_keepsAct 50 = .ok (.aload_n 0, 1) := dk_42 (dk_at dksX3_keepsAct_2 3 rfl rfl)
theorem dX3_keepsAct_51 : decode cX3_keepsAct 51 = .ok (.aload_n 0, 1) := dk_42 (dk_at dksX3_keepsAct_2 4 rfl rfl)
theorem dX3_keepsAct_52 : decode cX3_keepsAct 52 = .ok (.getfield 356, 3) := dk_180 1 100 (dk_at dksX3_keepsAct_2 5 rfl rfl)
theorem dX3_keepsAct_55 : decode cX3_keepsAct 55 = .ok (.iconst 0, 1) := dk_3 (dk_at dksX3_keepsAct_2 8 rfl rfl)
theorem dX3_keepsAct_56 : decode cX3_keepsAct 56 = .ok (.invokevirtual 508, 3) := dk_182 1 252 (dk_at dksX3_keepsAct_2 9 rfl rfl)
theorem dX3_keepsAct_59 : decode cX3_keepsAct 59 = .ok (.aload_n 0, 1) := dk_42 (dk_at dksX3_keepsAct_2 12 rfl rfl)
theorem dX3_keepsAct_60 : decode cX3_keepsAct 60 = .ok (.dup, 1) := dk_89 (dk_at dksX3_keepsAct_2 13 rfl rfl)
theorem dX3_keepsAct_61 : decode cX3_keepsAct 61 = .ok (.getfield 356, 3) := dk_180 1 100 (dk_at dksX3_keepsAct_2 14 rfl rfl)
theorem dX3_keepsAct_64 : decode cX3_keepsAct 64 = .ok (.iconst 1, 1) := dk_4 (dk_at dksX3_keepsAct_2 17 rfl rfl)
theorem dX3_keepsAct_65 : decode cX3_keepsAct 65 = .ok (.iadd, 1) := dk_96 (dk_at dksX3_keepsAct_2 18 rfl rfl)
theorem dX3_keepsAct_66 : decode cX3_keepsAct 66 = .ok (.putfield 356, 3) := dk_181 1 100 (dk_at dksX3_keepsAct_2 19 rfl rfl)
theorem dX3_keepsAct_69 : decode cX3_keepsAct 69 = .ok (.return_, 1) := dk_177 (dk_at dksX3_keepsAct_2 22 rfl rfl)
abbrev cX3_crosses : ByteArray := prog_21_method_92_code
def yX3_crosses : MethodName := ⟨RX3, "crosses", "(II)I"⟩
def dkwX3_crosses_4 : List UInt8 := [100, 167, 0, 9, 42, 180, 0, 13, 27, 46, 79, 29, 153, 0, 7, 6, 167, 0, 4, 5, 172]
abbrev dktX3_crosses_4 : List UInt8 := dkwX3_crosses_4 ++ []
def dkwX3_crosses_3 : List UInt8 := [62, 42, 16, 6, 28, 182, 2, 0, 42, 180, 0, 13, 27, 29, 153, 0, 14, 4, 42, 180, 0, 13, 27, 46]
abbrev dktX3_crosses_3 : List UInt8 := dkwX3_crosses_3 ++ dktX3_crosses_4
def dkwX3_crosses_2 : List UInt8 := [167, 0, 4, 3, 172, 42, 28, 182, 1, 235, 42, 180, 0, 16, 27, 46, 161, 0, 7, 4, 167, 0, 4, 3]
abbrev dktX3_crosses_2 : List UInt8 := dkwX3_crosses_2 ++ dktX3_crosses_3
def dkwX3_crosses_1 : List UInt8 := [42, 180, 0, 25, 27, 4, 79, 42, 28, 42, 180, 0, 9, 4, 46, 182, 1, 223, 153, 0, 7, 4]
abbrev dktX3_crosses_1 : List UInt8 := dkwX3_crosses_1 ++ dktX3_crosses_2
def dkwX3_crosses_0 : List UInt8 := [42, 28, 42, 180, 0, 9, 4, 46, 182, 1, 223, 153, 0, 13, 42, 16, 6, 28, 182, 1, 232, 153, 0, 30]
abbrev dktX3_crosses_0 : List UInt8 := dkwX3_crosses_0 ++ dktX3_crosses_1
theorem dksX3_crosses_0 : cX3_crosses.data.toList.drop 0 = dktX3_crosses_0 := by decide +kernel
theorem dksX3_crosses_1 : cX3_crosses.data.toList.drop 24 = dktX3_crosses_1 := dk_seg dksX3_crosses_0 24 rfl rfl
theorem dksX3_crosses_2 : cX3_crosses.data.toList.drop 46 = dktX3_crosses_2 := dk_seg dksX3_crosses_1 22 rfl rfl
theorem dksX3_crosses_3 : cX3_crosses.data.toList.drop 70 = dktX3_crosses_3 := dk_seg dksX3_crosses_2 24 rfl rfl
theorem dksX3_crosses_4 : cX3_crosses.data.toList.drop 94 = dktX3_crosses_4 := dk_seg dksX3_crosses_3 24 rfl rfl
theorem dX3_crosses_0 : decode cX3_crosses 0 = .ok (.aload_n 0, 1) := dk_42 (dk_at dksX3_crosses_0 0 rfl rfl)
theorem dX3_crosses_1 : decode cX3_crosses 1 = .ok (.iload_n 2, 1) := dk_28 (dk_at dksX3_crosses_0 1 rfl rfl)
theorem dX3_crosses_2 : decode cX3_crosses 2 = .ok (.aload_n 0, 1) := dk_42 (dk_at dksX3_crosses_0 2 rfl rfl)
theorem dX3_crosses_3 : decode cX3_crosses 3 = .ok (.getfield 9, 3) := dk_180 0 9 (dk_at dksX3_crosses_0 3 rfl rfl)
theorem dX3_crosses_6 : decode cX3_crosses 6 = .ok (.iconst 1, 1) := dk_4 (dk_at dksX3_crosses_0 6 rfl rfl)
theorem dX3_crosses_7 : decode cX3_crosses 7 = .ok (.iaload, 1) := dk_46 (dk_at dksX3_crosses_0 7 rfl rfl)
theorem dX3_crosses_8 : decode cX3_crosses 8 = .ok (.invokevirtual 479, 3) := dk_182 1 223 (dk_at dksX3_crosses_0 8 rfl rfl)
theorem dX3_crosses_11 : decode cX3_crosses 11 = .ok (.ifCond .eq 13, 3) := dk_153 0 13 (dk_at dksX3_crosses_0 11 rfl rfl)
theorem dX3_crosses_14 : decode cX3_crosses 14 = .ok (.aload_n 0, 1) := dk_42 (dk_at dksX3_crosses_0 14 rfl rfl)
theorem dX3_crosses_15 : decode cX3_crosses 15 = .ok (.bipush 6, 2) := dk_16 6 (dk_at dksX3_crosses_0 15 rfl rfl)
theorem dX3_crosses_17 : decode cX3_crosses 17 = .ok (.iload_n 2, 1) := dk_28 (dk_at dksX3_crosses_0 17 rfl rfl)
theorem dX3_crosses_18 : decode cX3_crosses 18 = .ok (.invokevirtual 488, 3) := dk_182 1 232 (dk_at dksX3_crosses_0 18 rfl rfl)
theorem dX3_crosses_21 : decode cX3_crosses 21 = .ok (.ifCond .eq 30, 3) := dk_153 0 30 (dk_at dksX3_crosses_0 21 rfl rfl)
theorem dX3_crosses_24 : decode cX3_crosses 24 = .ok (.aload_n 0, 1) := dk_42 (dk_at dksX3_crosses_1 0 rfl rfl)
theorem dX3_crosses_25 : decode cX3_crosses 25 = .ok (.getfield 25, 3) := dk_180 0 25 (dk_at dksX3_crosses_1 1 rfl rfl)
theorem dX3_crosses_28 : decode cX3_crosses 28 = .ok (.iload_n 1, 1) := dk_27 (dk_at dksX3_crosses_1 4 rfl rfl)
theorem dX3_crosses_29 : decode cX3_crosses 29 = .ok (.iconst 1, 1) := dk_4 (dk_at dksX3_crosses_1 5 rfl rfl)
theorem dX3_crosses_30 : decode cX3_crosses 30 = .ok (.iastore, 1) := dk_79 (dk_at dksX3_crosses_1 6 rfl rfl)
theorem dX3_crosses_31 : decode cX3_crosses 31 = .ok (.aload_n 0, 1) := dk_42 (dk_at dksX3_crosses_1 7 rfl rfl)
theorem dX3_crosses_32 : decode cX3_crosses 32 = .ok (.iload_n 2, 1) := dk_28 (dk_at dksX3_crosses_1 8 rfl rfl)
theorem dX3_crosses_33 : decode cX3_crosses 33 = .ok (.aload_n 0, 1) := dk_42 (dk_at dksX3_crosses_1 9 rfl rfl)
theorem dX3_crosses_34 : decode cX3_crosses 34 = .ok (.getfield 9, 3) := dk_180 0 9 (dk_at dksX3_crosses_1 10 rfl rfl)
theorem dX3_crosses_37 : decode cX3_crosses 37 = .ok (.iconst 1, 1) := dk_4 (dk_at dksX3_crosses_1 13 rfl rfl)
theorem dX3_crosses_38 : decode cX3_crosses 38 = .ok (.iaload, 1) := dk_46 (dk_at dksX3_crosses_1 14 rfl rfl)
theorem dX3_crosses_39 : decode cX3_crosses 39 = .ok (.invokevirtual 479, 3) := dk_182 1 223 (dk_at dksX3_crosses_1 15 rfl rfl)
theorem dX3_crosses_42 : decode cX3_crosses 42 = .ok (.ifCond .eq 7, 3) := dk_153 0 7 (dk_at dksX3_crosses_1 18 rfl rfl)
theorem dX3_crosses_45 : decode cX3_crosses 45 = .ok (.iconst 1, 1) := dk_4 (dk_at dksX3_crosses_1 21 rfl rfl)
theorem dX3_crosses_46 : decode cX3_crosses 46 = .ok (.goto 4, 3) := dk_167 0 4 (dk_at dksX3_crosses_2 0 rfl rfl)
theorem dX3_crosses_49 : decode cX3_crosses 49 = .ok (.iconst 0, 1) := dk_3 (dk_at dksX3_crosses_2 3 rfl rfl)
theorem dX3_crosses_50 : decode cX3_crosses 50 = .ok (.ireturn, 1) := dk_172 (dk_at dksX3_crosses_2 4 rfl rfl)
theorem dX3_crosses_51 : decode cX3_crosses 51 = .ok (.aload_n 0, 1) := dk_42 (dk_at dksX3_crosses_2 5 rfl rfl)
theorem dX3_crosses_52 : decode cX3_crosses 52 = .ok (.iload_n 2, 1) := dk_28 (dk_at dksX3_crosses_2 6 rfl rfl)
theorem dX3_crosses_53 : decode cX3_crosses 53 = .ok (.invokevirtual 491, 3) := dk_182 1 235 (dk_at dksX3_crosses_2 7 rfl rfl)
theorem dX3_crosses_56 : decode cX3_crosses 56 = .ok (.aload_n 0, 1) := dk_42 (dk_at dksX3_crosses_2 10 rfl rfl)
theorem dX3_crosses_57 : decode cX3_crosses 57 = .ok (.getfield 16, 3) := dk_180 0 16 (dk_at dksX3_crosses_2 11 rfl rfl)
theorem dX3_crosses_60 : decode cX3_crosses 60 = .ok (.iload_n 1, 1) := dk_27 (dk_at dksX3_crosses_2 14 rfl rfl)
theorem dX3_crosses_61 : decode cX3_crosses 61 = .ok (.iaload, 1) := dk_46 (dk_at dksX3_crosses_2 15 rfl rfl)
theorem dX3_crosses_62 : decode cX3_crosses 62 = .ok (.if_icmp .lt 7, 3) := dk_161 0 7 (dk_at dksX3_crosses_2 16 rfl rfl)
theorem dX3_crosses_65 : decode cX3_crosses 65 = .ok (.iconst 1, 1) := dk_4 (dk_at dksX3_crosses_2 19 rfl rfl)
theorem dX3_crosses_66 : decode cX3_crosses 66 = .ok (.goto 4, 3) := dk_167 0 4 (dk_at dksX3_crosses_2 20 rfl rfl)
theorem dX3_crosses_69 : decode cX3_crosses 69 = .ok (.iconst 0, 1) := dk_3 (dk_at dksX3_crosses_2 23 rfl rfl)
theorem dX3_crosses_70 : decode cX3_crosses 70 = .ok (.istore_n 3, 1) := dk_62 (dk_at dksX3_crosses_3 0 rfl rfl)
theorem dX3_crosses_71 : decode cX3_crosses 71 = .ok (.aload_n 0, 1) := dk_42 (dk_at dksX3_crosses_3 1 rfl rfl)
theorem dX3_crosses_72 : decode cX3_crosses 72 = .ok (.bipush 6, 2) := dk_16 6 (dk_at dksX3_crosses_3 2 rfl rfl)
theorem dX3_crosses_74 : decode cX3_crosses 74 = .ok (.iload_n 2, 1) := dk_28 (dk_at dksX3_crosses_3 4 rfl rfl)
theorem dX3_crosses_75 : decode cX3_crosses 75 = .ok (.invokevirtual 512, 3) := dk_182 2 0 (dk_at dksX3_crosses_3 5 rfl rfl)
theorem dX3_crosses_78 : decode cX3_crosses 78 = .ok (.aload_n 0, 1) := dk_42 (dk_at dksX3_crosses_3 8 rfl rfl)
theorem dX3_crosses_79 : decode cX3_crosses 79 = .ok (.getfield 13, 3) := dk_180 0 13 (dk_at dksX3_crosses_3 9 rfl rfl)
theorem dX3_crosses_82 : decode cX3_crosses 82 = .ok (.iload_n 1, 1) := dk_27 (dk_at dksX3_crosses_3 12 rfl rfl)
theorem dX3_crosses_83 : decode cX3_crosses 83 = .ok (.iload_n 3, 1) := dk_29 (dk_at dksX3_crosses_3 13 rfl rfl)
theorem dX3_crosses_84 : decode cX3_crosses 84 = .ok (.ifCond .eq 14, 3) := dk_153 0 14 (dk_at dksX3_crosses_3 14 rfl rfl)
theorem dX3_crosses_87 : decode cX3_crosses 87 = .ok (.iconst 1, 1) := dk_4 (dk_at dksX3_crosses_3 17 rfl rfl)
theorem dX3_crosses_88 : decode cX3_crosses 88 = .ok (.aload_n 0, 1) := dk_42 (dk_at dksX3_crosses_3 18 rfl rfl)
theorem dX3_crosses_89 : decode cX3_crosses 89 = .ok (.getfield 13, 3) := dk_180 0 13 (dk_at dksX3_crosses_3 19 rfl rfl)
theorem dX3_crosses_92 : decode cX3_crosses 92 = .ok (.iload_n 1, 1) := dk_27 (dk_at dksX3_crosses_3 22 rfl rfl)
theorem dX3_crosses_93 : decode cX3_crosses 93 = .ok (.iaload, 1) := dk_46 (dk_at dksX3_crosses_3 23 rfl rfl)
theorem dX3_crosses_94 : decode cX3_crosses 94 = .ok (.isub, 1) := dk_100 (dk_at dksX3_crosses_4 0 rfl rfl)
theorem dX3_crosses_95 : decode cX3_crosses 95 = .ok (.goto 9, 3) := dk_167 0 9 (dk_at dksX3_crosses_4 1 rfl rfl)
theorem dX3_crosses_98 : decode cX3_crosses 98 = .ok (.aload_n 0, 1) := dk_42 (dk_at dksX3_crosses_4 4 rfl rfl)
theorem dX3_crosses_99 : decode cX3_crosses 99 = .ok (.getfield 13, 3) := dk_180 0 13 (dk_at dksX3_crosses_4 5 rfl rfl)
theorem dX3_crosses_102 : decode cX3_crosses 102 = .ok (.iload_n 1, 1) := dk_27 (dk_at dksX3_crosses_4 8 rfl rfl)
theorem dX3_crosses_103 : decode cX3_crosses 103 = .ok (.iaload, 1) := dk_46 (dk_at dksX3_crosses_4 9 rfl rfl)
theorem dX3_crosses_104 : decode cX3_crosses 104 = .ok (.iastore, 1) := dk_79 (dk_at dksX3_crosses_4 10 rfl rfl)
theorem dX3_crosses_105 : decode cX3_crosses 105 = .ok (.iload_n 3, 1) := dk_29 (dk_at dksX3_crosses_4 11 rfl rfl)
theorem dX3_crosses_106 : decode cX3_crosses 106 = .ok (.ifCond .eq 7, 3) := dk_153 0 7 (dk_at dksX3_crosses_4 12 rfl rfl)
theorem dX3_crosses_109 : decode cX3_crosses 109 = .ok (.iconst 3, 1) := dk_6 (dk_at dksX3_crosses_4 15 rfl rfl)
theorem dX3_crosses_110 : decode cX3_crosses 110 = .ok (.goto 4, 3) := dk_167 0 4 (dk_at dksX3_crosses_4 16 rfl rfl)
theorem dX3_crosses_113 : decode cX3_crosses 113 = .ok (.iconst 2, 1) := dk_5 (dk_at dksX3_crosses_4 19 rfl rfl)
theorem dX3_crosses_114 : decode cX3_crosses 114 = .ok (.ireturn, 1) := dk_172 (dk_at dksX3_crosses_4 20 rfl rfl)
abbrev cX3_isTold : ByteArray := prog_21_method_69_code
def yX3_isTold : MethodName := ⟨RX3, "isTold", "(II)V"⟩
def dkwX3_isTold_1 : List UInt8 := [16, 8, 28, 104, 29, 96, 46, 126, 79, 132, 3, 1, 167, 255, 222, 177]
abbrev dktX3_isTold_1 : List UInt8 := dkwX3_isTold_1 ++ []
def dkwX3_isTold_0 : List UInt8 := [3, 62, 29, 16, 8, 162, 0, 34, 42, 180, 0, 52, 16, 8, 27, 104, 29, 96, 92, 46, 42, 180, 0, 117]
abbrev dktX3_isTold_0 : List UInt8 := dkwX3_isTold_0 ++ dktX3_isTold_1
theorem dksX3_isTold_0 : cX3_isTold.data.toList.drop 0 = dktX3_isTold_0 := by decide +kernel
theorem dksX3_isTold_1 : cX3_isTold.data.toList.drop 24 = dktX3_isTold_1 := dk_seg dksX3_isTold_0 24 rfl rfl
theorem dX3_isTold_0 : decode cX3_isTold 0 = .ok (.iconst 0, 1) := dk_3 (dk_at dksX3_isTold_0 0 rfl rfl)
theorem dX3_isTold_1 : decode cX3_isTold 1 = .ok (.istore_n 3, 1) := dk_62 (dk_at dksX3_isTold_0 1 rfl rfl)
theorem dX3_isTold_2 : decode cX3_isTold 2 = .ok (.iload_n 3, 1) := dk_29 (dk_at dksX3_isTold_0 2 rfl rfl)
theorem dX3_isTold_3 : decode cX3_isTold 3 = .ok (.bipush 8, 2) := dk_16 8 (dk_at dksX3_isTold_0 3 rfl rfl)
theorem dX3_isTold_5 : decode cX3_isTold 5 = .ok (.if_icmp .ge 34, 3) := dk_162 0 34 (dk_at dksX3_isTold_0 5 rfl rfl)
theorem dX3_isTold_8 : decode cX3_isTold 8 = .ok (.aload_n 0, 1) := dk_42 (dk_at dksX3_isTold_0 8 rfl rfl)
theorem dX3_isTold_9 : decode cX3_isTold 9 = .ok (.getfield 52, 3) := dk_180 0 52 (dk_at dksX3_isTold_0 9 rfl rfl)
theorem dX3_isTold_12 : decode cX3_isTold 12 = .ok (.bipush 8, 2) := dk_16 8 (dk_at dksX3_isTold_0 12 rfl rfl)
theorem dX3_isTold_14 : decode cX3_isTold 14 = .ok (.iload_n 1, 1) := dk_27 (dk_at dksX3_isTold_0 14 rfl rfl)
theorem dX3_isTold_15 : decode cX3_isTold 15 = .ok (.imul, 1) := dk_104 (dk_at dksX3_isTold_0 15 rfl rfl)
theorem dX3_isTold_16 : decode cX3_isTold 16 = .ok (.iload_n 3, 1) := dk_29 (dk_at dksX3_isTold_0 16 rfl rfl)
theorem dX3_isTold_17 : decode cX3_isTold 17 = .ok (.iadd, 1) := dk_96 (dk_at dksX3_isTold_0 17 rfl rfl)
theorem dX3_isTold_18 : decode cX3_isTold 18 = .ok (.dup2, 1) := dk_92 (dk_at dksX3_isTold_0 18 rfl rfl)
theorem dX3_isTold_19 : decode cX3_isTold 19 = .ok (.iaload, 1) := dk_46 (dk_at dksX3_isTold_0 19 rfl rfl)
theorem dX3_isTold_20 : decode cX3_isTold 20 = .ok (.aload_n 0, 1) := dk_42 (dk_at dksX3_isTold_0 20 rfl rfl)
theorem dX3_isTold_21 : decode cX3_isTold 21 = .ok (.getfield 117, 3) := dk_180 0 117 (dk_at dksX3_isTold_0 21 rfl rfl)
theorem dX3_isTold_24 : decode cX3_isTold 24 = .ok (.bipush 8, 2) := dk_16 8 (dk_at dksX3_isTold_1 0 rfl rfl)
theorem dX3_isTold_26 : decode cX3_isTold 26 = .ok (.iload_n 2, 1) := dk_28 (dk_at dksX3_isTold_1 2 rfl rfl)
theorem dX3_isTold_27 : decode cX3_isTold 27 = .ok (.imul, 1) := dk_104 (dk_at dksX3_isTold_1 3 rfl rfl)
theorem dX3_isTold_28 : decode cX3_isTold 28 = .ok (.iload_n 3, 1) := dk_29 (dk_at dksX3_isTold_1 4 rfl rfl)
theorem dX3_isTold_29 : decode cX3_isTold 29 = .ok (.iadd, 1) := dk_96 (dk_at dksX3_isTold_1 5 rfl rfl)
theorem dX3_isTold_30 : decode cX3_isTold 30 = .ok (.iaload, 1) := dk_46 (dk_at dksX3_isTold_1 6 rfl rfl)
theorem dX3_isTold_31 : decode cX3_isTold 31 = .ok (.iand, 1) := dk_126 (dk_at dksX3_isTold_1 7 rfl rfl)
theorem dX3_isTold_32 : decode cX3_isTold 32 = .ok (.iastore, 1) := dk_79 (dk_at dksX3_isTold_1 8 rfl rfl)
theorem dX3_isTold_33 : decode cX3_isTold 33 = .ok (.iinc 3 1, 3) := dk_132 3 1 (dk_at dksX3_isTold_1 9 rfl rfl)
theorem dX3_isTold_36 : decode cX3_isTold 36 = .ok (.goto (-34), 3) := dk_167 255 222 (dk_at dksX3_isTold_1 12 rfl rfl)
theorem dX3_isTold_39 : decode cX3_isTold 39 = .ok (.return_, 1) := dk_177 (dk_at dksX3_isTold_1 15 rfl rfl)
abbrev cX3_tell : ByteArray := prog_21_method_94_code
def yX3_tell : MethodName := ⟨RX3, "tell", "(III)I"⟩
def dkwX3_tell_3 : List UInt8 := [2, 172, 42, 182, 2, 3, 42, 28, 29, 182, 2, 0, 42, 28, 182, 1, 198, 172]
abbrev dktX3_tell_3 : List UInt8 := dkwX3_tell_3 ++ []
def dkwX3_tell_2 : List UInt8 := [180, 0, 25, 27, 46, 42, 180, 0, 25, 28, 46, 96, 157, 0, 12, 42, 27, 29, 182, 1, 232, 154, 0, 5]
abbrev dktX3_tell_2 : List UInt8 := dkwX3_tell_2 ++ dktX3_tell_3
def dkwX3_tell_1 : List UInt8 := [182, 1, 217, 153, 0, 43, 42, 180, 0, 13, 27, 46, 42, 180, 0, 13, 28, 46, 160, 0, 28, 42]
abbrev dktX3_tell_1 : List UInt8 := dkwX3_tell_1 ++ dktX3_tell_2
def dkwX3_tell_0 : List UInt8 := [42, 27, 182, 1, 194, 153, 0, 64, 42, 28, 182, 1, 194, 153, 0, 56, 27, 28, 159, 0, 51, 42, 29]
abbrev dktX3_tell_0 : List UInt8 := dkwX3_tell_0 ++ dktX3_tell_1
theorem dksX3_tell_0 : cX3_tell.data.toList.drop 0 = dktX3_tell_0 := by decide +kernel
theorem dksX3_tell_1 : cX3_tell.data.toList.drop 23 = dktX3_tell_1 := dk_seg dksX3_tell_0 23 rfl rfl
theorem dksX3_tell_2 : cX3_tell.data.toList.drop 45 = dktX3_tell_2 := dk_seg dksX3_tell_1 22 rfl rfl
theorem dksX3_tell_3 : cX3_tell.data.toList.drop 69 = dktX3_tell_3 := dk_seg dksX3_tell_2 24 rfl rfl
theorem dX3_tell_0 : decode cX3_tell 0 = .ok (.aload_n 0, 1) := dk_42 (dk_at dksX3_tell_0 0 rfl rfl)
theorem dX3_tell_1 : decode cX3_tell 1 = .ok (.iload_n 1, 1) := dk_27 (dk_at dksX3_tell_0 1 rfl rfl)
theorem dX3_tell_2 : decode cX3_tell 2 = .ok (.invokevirtual 450, 3) := dk_182 1 194 (dk_at dksX3_tell_0 2 rfl rfl)
theorem dX3_tell_5 : decode cX3_tell 5 = .ok (.ifCond .eq 64, 3) := dk_153 0 64 (dk_at dksX3_tell_0 5 rfl rfl)
theorem dX3_tell_8 : decode cX3_tell 8 = .ok (.aload_n 0, 1) := dk_42 (dk_at dksX3_tell_0 8 rfl rfl)
theorem dX3_tell_9 : decode cX3_tell 9 = .ok (.iload_n 2, 1) := dk_28 (dk_at dksX3_tell_0 9 rfl rfl)
theorem dX3_tell_10 : decode cX3_tell 10 = .ok (.invokevirtual 450, 3) := dk_182 1 194 (dk_at dksX3_tell_0 10 rfl rfl)
theorem dX3_tell_13 : decode cX3_tell 13 = .ok (.ifCond .eq 56, 3) := dk_153 0 56 (dk_at dksX3_tell_0 13 rfl rfl)
theorem dX3_tell_16 : decode cX3_tell 16 = .ok (.iload_n 1, 1) := dk_27 (dk_at dksX3_tell_0 16 rfl rfl)
theorem dX3_tell_17 : decode cX3_tell 17 = .ok (.iload_n 2, 1) := dk_28 (dk_at dksX3_tell_0 17 rfl rfl)
theorem dX3_tell_18 : decode cX3_tell 18 = .ok (.if_icmp .eq 51, 3) := dk_159 0 51 (dk_at dksX3_tell_0 18 rfl rfl)
theorem dX3_tell_21 : decode cX3_tell 21 = .ok (.aload_n 0, 1) := dk_42 (dk_at dksX3_tell_0 21 rfl rfl)
theorem dX3_tell_22 : decode cX3_tell 22 = .ok (.iload_n 3, 1) := dk_29 (dk_at dksX3_tell_0 22 rfl rfl)
theorem dX3_tell_23 : decode cX3_tell 23 = .ok (.invokevirtual 473, 3) := dk_182 1 217 (dk_at dksX3_tell_1 0 rfl rfl)
theorem dX3_tell_26 : decode cX3_tell 26 = .ok (.ifCond .eq 43, 3) := dk_153 0 43 (dk_at dksX3_tell_1 3 rfl rfl)
theorem dX3_tell_29 : decode cX3_tell 29 = .ok (.aload_n 0, 1) := dk_42 (dk_at dksX3_tell_1 6 rfl rfl)
theorem dX3_tell_30 : decode cX3_tell 30 = .ok (.getfield 13, 3) := dk_180 0 13 (dk_at dksX3_tell_1 7 rfl rfl)
theorem dX3_tell_33 : decode cX3_tell 33 = .ok (.iload_n 1, 1) := dk_27 (dk_at dksX3_tell_1 10 rfl rfl)
theorem dX3_tell_34 : decode cX3_tell 34 = .ok (.iaload, 1) := dk_46 (dk_at dksX3_tell_1 11 rfl rfl)
theorem dX3_tell_35 : decode cX3_tell 35 = .ok (.aload_n 0, 1) := dk_42 (dk_at dksX3_tell_1 12 rfl rfl)
theorem dX3_tell_36 : decode cX3_tell 36 = .ok (.getfield 13, 3) := dk_180 0 13 (dk_at dksX3_tell_1 13 rfl rfl)
theorem dX3_tell_39 : decode cX3_tell 39 = .ok (.iload_n 2, 1) := dk_28 (dk_at dksX3_tell_1 16 rfl rfl)
theorem dX3_tell_40 : decode cX3_tell 40 = .ok (.iaload, 1) := dk_46 (dk_at dksX3_tell_1 17 rfl rfl)
theorem dX3_tell_41 : decode cX3_tell 41 = .ok (.if_icmp .ne 28, 3) := dk_160 0 28 (dk_at dksX3_tell_1 18 rfl rfl)
theorem dX3_tell_44 : decode cX3_tell 44 = .ok (.aload_n 0, 1) := dk_42 (dk_at dksX3_tell_1 21 rfl rfl)
theorem dX3_tell_45 : decode cX3_tell 45 = .ok (.getfield 25, 3) := dk_180 0 25 (dk_at dksX3_tell_2 0 rfl rfl)
theorem dX3_tell_48 : decode cX3_tell 48 = .ok (.iload_n 1, 1) := dk_27 (dk_at dksX3_tell_2 3 rfl rfl)
theorem dX3_tell_49 : decode cX3_tell 49 = .ok (.iaload, 1) := dk_46 (dk_at dksX3_tell_2 4 rfl rfl)
theorem dX3_tell_50 : decode cX3_tell 50 = .ok (.aload_n 0, 1) := dk_42 (dk_at dksX3_tell_2 5 rfl rfl)
theorem dX3_tell_51 : decode cX3_tell 51 = .ok (.getfield 25, 3) := dk_180 0 25 (dk_at dksX3_tell_2 6 rfl rfl)
theorem dX3_tell_54 : decode cX3_tell 54 = .ok (.iload_n 2, 1) := dk_28 (dk_at dksX3_tell_2 9 rfl rfl)
theorem dX3_tell_55 : decode cX3_tell 55 = .ok (.iaload, 1) := dk_46 (dk_at dksX3_tell_2 10 rfl rfl)
theorem dX3_tell_56 : decode cX3_tell 56 = .ok (.iadd, 1) := dk_96 (dk_at dksX3_tell_2 11 rfl rfl)
theorem dX3_tell_57 : decode cX3_tell 57 = .ok (.ifCond .gt 12, 3) := dk_157 0 12 (dk_at dksX3_tell_2 12 rfl rfl)
theorem dX3_tell_60 : decode cX3_tell 60 = .ok (.aload_n 0, 1) := dk_42 (dk_at dksX3_tell_2 15 rfl rfl)
theorem dX3_tell_61 : decode cX3_tell 61 = .ok (.iload_n 1, 1) := dk_27 (dk_at dksX3_tell_2 16 rfl rfl)
theorem dX3_tell_62 : decode cX3_tell 62 = .ok (.iload_n 3, 1) := dk_29 (dk_at dksX3_tell_2 17 rfl rfl)
theorem dX3_tell_63 : decode cX3_tell 63 = .ok (.invokevirtual 488, 3) := dk_182 1 232 (dk_at dksX3_tell_2 18 rfl rfl)
theorem dX3_tell_66 : decode cX3_tell 66 = .ok (.ifCond .ne 5, 3) := dk_154 0 5 (dk_at dksX3_tell_2 21 rfl rfl)
theorem dX3_tell_69 : decode cX3_tell 69 = .ok (.iconst (-1), 1) := dk_2 (dk_at dksX3_tell_3 0 rfl rfl)
theorem dX3_tell_70 : decode cX3_tell 70 = .ok (.ireturn, 1) := dk_172 (dk_at dksX3_tell_3 1 rfl rfl)
theorem dX3_tell_71 : decode cX3_tell 71 = .ok (.aload_n 0, 1) := dk_42 (dk_at dksX3_tell_3 2 rfl rfl)
theorem dX3_tell_72 : decode cX3_tell 72 = .ok (.invokevirtual 515, 3) := dk_182 2 3 (dk_at dksX3_tell_3 3 rfl rfl)
theorem dX3_tell_75 : decode cX3_tell 75 = .ok (.aload_n 0, 1) := dk_42 (dk_at dksX3_tell_3 6 rfl rfl)
theorem dX3_tell_76 : decode cX3_tell 76 = .ok (.iload_n 2, 1) := dk_28 (dk_at dksX3_tell_3 7 rfl rfl)
theorem dX3_tell_77 : decode cX3_tell 77 = .ok (.iload_n 3, 1) := dk_29 (dk_at dksX3_tell_3 8 rfl rfl)
theorem dX3_tell_78 : decode cX3_tell 78 = .ok (.invokevirtual 512, 3) := dk_182 2 0 (dk_at dksX3_tell_3 9 rfl rfl)
theorem dX3_tell_81 : decode cX3_tell 81 = .ok (.aload_n 0, 1) := dk_42 (dk_at dksX3_tell_3 12 rfl rfl)
theorem dX3_tell_82 : decode cX3_tell 82 = .ok (.iload_n 2, 1) := dk_28 (dk_at dksX3_tell_3 13 rfl rfl)
theorem dX3_tell_83 : decode cX3_tell 83 = .ok (.invokevirtual 454, 3) := dk_182 1 198 (dk_at dksX3_tell_3 14 rfl rfl)
theorem dX3_tell_86 : decode cX3_tell 86 = .ok (.ireturn, 1) := dk_172 (dk_at dksX3_tell_3 17 rfl rfl)
abbrev cX3_look : ByteArray := prog_21_method_95_code
def yX3_look : MethodName := ⟨RX3, "look", "(II)I"⟩
def dkwX3_look_4 : List UInt8 := [180, 0, 28, 28, 46, 182, 2, 9, 42, 180, 0, 9, 4, 46, 42, 180, 0, 28, 28, 46, 122, 4, 126, 172]
abbrev dktX3_look_4 : List UInt8 := dkwX3_look_4 ++ []
def dkwX3_look_3 : List UInt8 := [182, 2, 3, 42, 180, 0, 22, 27, 92, 46, 5, 42, 3, 28, 182, 1, 214, 104, 96, 79, 42, 27, 42]
abbrev dktX3_look_3 : List UInt8 := dkwX3_look_3 ++ dktX3_look_4
def dkwX3_look_2 : List UInt8 := [180, 0, 22, 27, 46, 5, 42, 3, 28, 182, 1, 214, 104, 96, 16, 24, 164, 0, 5, 2, 172, 42]
abbrev dktX3_look_2 : List UInt8 := dkwX3_look_2 ++ dktX3_look_3
def dkwX3_look_1 : List UInt8 := [160, 0, 5, 2, 172, 42, 182, 1, 211, 42, 3, 28, 182, 1, 214, 19, 1, 210, 159, 0, 23, 42]
abbrev dktX3_look_1 : List UInt8 := dkwX3_look_1 ++ dktX3_look_2
def dkwX3_look_0 : List UInt8 := [42, 27, 182, 1, 194, 153, 0, 21, 42, 28, 182, 1, 207, 153, 0, 13, 42, 180, 0, 25, 27, 46, 4]
abbrev dktX3_look_0 : List UInt8 := dkwX3_look_0 ++ dktX3_look_1
theorem dksX3_look_0 : cX3_look.data.toList.drop 0 = dktX3_look_0 := by decide +kernel
theorem dksX3_look_1 : cX3_look.data.toList.drop 23 = dktX3_look_1 := dk_seg dksX3_look_0 23 rfl rfl
theorem dksX3_look_2 : cX3_look.data.toList.drop 45 = dktX3_look_2 := dk_seg dksX3_look_1 22 rfl rfl
theorem dksX3_look_3 : cX3_look.data.toList.drop 67 = dktX3_look_3 := dk_seg dksX3_look_2 22 rfl rfl
theorem dksX3_look_4 : cX3_look.data.toList.drop 90 = dktX3_look_4 := dk_seg dksX3_look_3 23 rfl rfl
theorem dX3_look_0 : decode cX3_look 0 = .ok (.aload_n 0, 1) := dk_42 (dk_at dksX3_look_0 0 rfl rfl)
theorem dX3_look_1 : decode cX3_look 1 = .ok (.iload_n 1, 1) := dk_27 (dk_at dksX3_look_0 1 rfl rfl)
theorem dX3_look_2 : decode cX3_look 2 = .ok (.invokevirtual 450, 3) := dk_182 1 194 (dk_at dksX3_look_0 2 rfl rfl)
theorem dX3_look_5 : decode cX3_look 5 = .ok (.ifCond .eq 21, 3) := dk_153 0 21 (dk_at dksX3_look_0 5 rfl rfl)
theorem dX3_look_8 : decode cX3_look 8 = .ok (.aload_n 0, 1) := dk_42 (dk_at dksX3_look_0 8 rfl rfl)
theorem dX3_look_9 : decode cX3_look 9 = .ok (.iload_n 2, 1) := dk_28 (dk_at dksX3_look_0 9 rfl rfl)
theorem dX3_look_10 : decode cX3_look 10 = .ok (.invokevirtual 463, 3) := dk_182 1 207 (dk_at dksX3_look_0 10 rfl rfl)
theorem dX3_look_13 : decode cX3_look 13 = .ok (.ifCond .eq 13, 3) := dk_153 0 13 (dk_at dksX3_look_0 13 rfl rfl)
theorem dX3_look_16 : decode cX3_look 16 = .ok (.aload_n 0, 1) := dk_42 (dk_at dksX3_look_0 16 rfl rfl)
theorem dX3_look_17 : decode cX3_look 17 = .ok (.getfield 25, 3) := dk_180 0 25 (dk_at dksX3_look_0 17 rfl rfl)
theorem dX3_look_20 : decode cX3_look 20 = .ok (.iload_n 1, 1) := dk_27 (dk_at dksX3_look_0 20 rfl rfl)
theorem dX3_look_21 : decode cX3_look 21 = .ok (.iaload, 1) := dk_46 (dk_at dksX3_look_0 21 rfl rfl)
theorem dX3_look_22 : decode cX3_look 22 = .ok (.iconst 1, 1) := dk_4 (dk_at dksX3_look_0 22 rfl rfl)
theorem dX3_look_23 : decode cX3_look 23 = .ok (.if_icmp .ne 5, 3) := dk_160 0 5 (dk_at dksX3_look_1 0 rfl rfl)
theorem dX3_look_26 : decode cX3_look 26 = .ok (.iconst (-1), 1) := dk_2 (dk_at dksX3_look_1 3 rfl rfl)
theorem dX3_look_27 : decode cX3_look 27 = .ok (.ireturn, 1) := dk_172 (dk_at dksX3_look_1 4 rfl rfl)
theorem dX3_look_28 : decode cX3_look 28 = .ok (.aload_n 0, 1) := dk_42 (dk_at dksX3_look_1 5 rfl rfl)
theorem dX3_look_29 : decode cX3_look 29 = .ok (.invokevirtual 467, 3) := dk_182 1 211 (dk_at dksX3_look_1 6 rfl rfl)
theorem dX3_look_32 : decode cX3_look 32 = .ok (.aload_n 0, 1) := dk_42 (dk_at dksX3_look_1 9 rfl rfl)
theorem dX3_look_33 : decode cX3_look 33 = .ok (.iconst 0, 1) := dk_3 (dk_at dksX3_look_1 10 rfl rfl)
theorem dX3_look_34 : decode cX3_look 34 = .ok (.iload_n 2, 1) := dk_28 (dk_at dksX3_look_1 11 rfl rfl)
theorem dX3_look_35 : decode cX3_look 35 = .ok (.invokevirtual 470, 3) := dk_182 1 214 (dk_at dksX3_look_1 12 rfl rfl)
theorem dX3_look_38 : decode cX3_look 38 = .ok (.ldc_w 466, 3) := dk_19 1 210 (dk_at dksX3_look_1 15 rfl rfl)
theorem dX3_look_41 : decode cX3_look 41 = .ok (.if_icmp .eq 23, 3) := dk_159 0 23 (dk_at dksX3_look_1 18 rfl rfl)
theorem dX3_look_44 : decode cX3_look 44 = .ok (.aload_n 0, 1) := dk_42 (dk_at dksX3_look_1 21 rfl rfl)
theorem dX3_look_45 : decode cX3_look 45 = .ok (.getfield 22, 3) := dk_180 0 22 (dk_at dksX3_look_2 0 rfl rfl)
theorem dX3_look_48 : decode cX3_look 48 = .ok (.iload_n 1, 1) := dk_27 (dk_at dksX3_look_2 3 rfl rfl)
theorem dX3_look_49 : decode cX3_look 49 = .ok (.iaload, 1) := dk_46 (dk_at dksX3_look_2 4 rfl rfl)
theorem dX3_look_50 : decode cX3_look 50 = .ok (.iconst 2, 1) := dk_5 (dk_at dksX3_look_2 5 rfl rfl)
theorem dX3_look_51 : decode cX3_look 51 = .ok (.aload_n 0, 1) := dk_42 (dk_at dksX3_look_2 6 rfl rfl)
theorem dX3_look_52 : decode cX3_look 52 = .ok (.iconst 0, 1) := dk_3 (dk_at dksX3_look_2 7 rfl rfl)
theorem dX3_look_53 : decode cX3_look 53 = .ok (.iload_n 2, 1) := dk_28 (dk_at dksX3_look_2 8 rfl rfl)
theorem dX3_look_54 : decode cX3_look 54 = .ok (.invokevirtual 470, 3) := dk_182 1 214 (dk_at dksX3_look_2 9 rfl rfl)
theorem dX3_look_57 : decode cX3_look 57 = .ok (.imul, 1) := dk_104 (dk_at dksX3_look_2 12 rfl rfl)
theorem dX3_look_58 : decode cX3_look 58 = .ok (.iadd, 1) := dk_96 (dk_at dksX3_look_2 13 rfl rfl)
theorem dX3_look_59 : decode cX3_look 59 = .ok (.bipush 24, 2) := dk_16 24 (dk_at dksX3_look_2 14 rfl rfl)
theorem dX3_look_61 : decode cX3_look 61 = .ok (.if_icmp .le 5, 3) := dk_164 0 5 (dk_at dksX3_look_2 16 rfl rfl)
theorem dX3_look_64 : decode cX3_look 64 = .ok (.iconst (-1), 1) := dk_2 (dk_at dksX3_look_2 19 rfl rfl)
theorem dX3_look_65 : decode cX3_look 65 = .ok (.ireturn, 1) := dk_172 (dk_at dksX3_look_2 20 rfl rfl)
theorem dX3_look_66 : decode cX3_look 66 = .ok (.aload_n 0, 1) := dk_42 (dk_at dksX3_look_2 21 rfl rfl)
theorem dX3_look_67 : decode cX3_look 67 = .ok (.invokevirtual 515, 3) := dk_182 2 3 (dk_at dksX3_look_3 0 rfl rfl)
theorem dX3_look_70 : decode cX3_look 70 = .ok (.aload_n 0, 1) := dk_42 (dk_at dksX3_look_3 3 rfl rfl)
theorem dX3_look_71 : decode cX3_look 71 = .ok (.getfield 22, 3) := dk_180 0 22 (dk_at dksX3_look_3 4 rfl rfl)
theorem dX3_look_74 : decode cX3_look 74 = .ok (.iload_n 1, 1) := dk_27 (dk_at dksX3_look_3 7 rfl rfl)
theorem dX3_look_75 : decode cX3_look 75 = .ok (.dup2, 1) := dk_92 (dk_at dksX3_look_3 8 rfl rfl)
theorem dX3_look_76 : decode cX3_look 76 = .ok (.iaload, 1) := dk_46 (dk_at dksX3_look_3 9 rfl rfl)
theorem dX3_look_77 : decode cX3_look 77 = .ok (.iconst 2, 1) := dk_5 (dk_at dksX3_look_3 10 rfl rfl)
theorem dX3_look_78 : decode cX3_look 78 = .ok (.aload_n 0, 1) := dk_42 (dk_at dksX3_look_3 11 rfl rfl)
theorem dX3_look_79 : decode cX3_look 79 = .ok (.iconst 0, 1) := dk_3 (dk_at dksX3_look_3 12 rfl rfl)
theorem dX3_look_80 : decode cX3_look 80 = .ok (.iload_n 2, 1) := dk_28 (dk_at dksX3_look_3 13 rfl rfl)
theorem dX3_look_81 : decode cX3_look 81 = .ok (.invokevirtual 470, 3) := dk_182 1 214 (dk_at dksX3_look_3 14 rfl rfl)
theorem dX3_look_84 : decode cX3_look 84 = .ok (.imul, 1) := dk_104 (dk_at dksX3_look_3 17 rfl rfl)
theorem dX3_look_85 : decode cX3_look 85 = .ok (.iadd, 1) := dk_96 (dk_at dksX3_look_3 18 rfl rfl)
theorem dX3_look_86 : decode cX3_look 86 = .ok (.iastore, 1) := dk_79 (dk_at dksX3_look_3 19 rfl rfl)
theorem dX3_look_87 : decode cX3_look 87 = .ok (.aload_n 0, 1) := dk_42 (dk_at dksX3_look_3 20 rfl rfl)
theorem dX3_look_88 : decode cX3_look 88 = .ok (.iload_n 1, 1) := dk_27 (dk_at dksX3_look_3 21 rfl rfl)
theorem dX3_look_89 : decode cX3_look 89 = .ok (.aload_n 0, 1) := dk_42 (dk_at dksX3_look_3 22 rfl rfl)
theorem dX3_look_90 : decode cX3_look 90 = .ok (.getfield 28, 3) := dk_180 0 28 (dk_at dksX3_look_4 0 rfl rfl)
theorem dX3_look_93 : decode cX3_look 93 = .ok (.iload_n 2, 1) := dk_28 (dk_at dksX3_look_4 3 rfl rfl)
theorem dX3_look_94 : decode cX3_look 94 = .ok (.iaload, 1) := dk_46 (dk_at dksX3_look_4 4 rfl rfl)
theorem dX3_look_95 : decode cX3_look 95 = .ok (.invokevirtual 521, 3) := dk_182 2 9 (dk_at dksX3_look_4 5 rfl rfl)
theorem dX3_look_98 : decode cX3_look 98 = .ok (.aload_n 0, 1) := dk_42 (dk_at dksX3_look_4 8 rfl rfl)
theorem dX3_look_99 : decode cX3_look 99 = .ok (.getfield 9, 3) := dk_180 0 9 (dk_at dksX3_look_4 9 rfl rfl)
theorem dX3_look_102 : decode cX3_look 102 = .ok (.iconst 1, 1) := dk_4 (dk_at dksX3_look_4 12 rfl rfl)
theorem dX3_look_103 : decode cX3_look 103 = .ok (.iaload, 1) := dk_46 (dk_at dksX3_look_4 13 rfl rfl)
theorem dX3_look_104 : decode cX3_look 104 = .ok (.aload_n 0, 1) := dk_42 (dk_at dksX3_look_4 14 rfl rfl)
theorem dX3_look_105 : decode cX3_look 105 = .ok (.getfield 28, 3) := dk_180 0 28 (dk_at dksX3_look_4 15 rfl rfl)
theorem dX3_look_108 : decode cX3_look 108 = .ok (.iload_n 2, 1) := dk_28 (dk_at dksX3_look_4 18 rfl rfl)
theorem dX3_look_109 : decode cX3_look 109 = .ok (.iaload, 1) := dk_46 (dk_at dksX3_look_4 19 rfl rfl)
theorem dX3_look_110 : decode cX3_look 110 = .ok (.ishr, 1) := dk_122 (dk_at dksX3_look_4 20 rfl rfl)
theorem dX3_look_111 : decode cX3_look 111 = .ok (.iconst 1, 1) := dk_4 (dk_at dksX3_look_4 21 rfl rfl)
theorem dX3_look_112 : decode cX3_look 112 = .ok (.iand, 1) := dk_126 (dk_at dksX3_look_4 22 rfl rfl)
theorem dX3_look_113 : decode cX3_look 113 = .ok (.ireturn, 1) := dk_172 (dk_at dksX3_look_4 23 rfl rfl)
abbrev cX3_seesFact : ByteArray := prog_21_method_73_code
def yX3_seesFact : MethodName := ⟨RX3, "seesFact", "(II)V"⟩
def dkwX3_seesFact_2 : List UInt8 := [16, 32, 112, 120, 2, 130, 126, 79, 132, 3, 1, 167, 255, 202, 177]
abbrev dktX3_seesFact_2 : List UInt8 := dkwX3_seesFact_2 ++ []
def dkwX3_seesFact_1 : List UInt8 := [184, 1, 112, 159, 0, 28, 42, 180, 0, 52, 16, 8, 27, 104, 29, 16, 32, 108, 96, 92, 46, 4, 29]
abbrev dktX3_seesFact_1 : List UInt8 := dkwX3_seesFact_1 ++ dktX3_seesFact_2
def dkwX3_seesFact_0 : List UInt8 := [3, 62, 29, 42, 182, 0, 190, 162, 0, 52, 29, 28, 184, 1, 112, 42, 180, 0, 9, 4, 46, 28]
abbrev dktX3_seesFact_0 : List UInt8 := dkwX3_seesFact_0 ++ dktX3_seesFact_1
theorem dksX3_seesFact_0 : cX3_seesFact.data.toList.drop 0 = dktX3_seesFact_0 := by decide +kernel
theorem dksX3_seesFact_1 : cX3_seesFact.data.toList.drop 22 = dktX3_seesFact_1 := dk_seg dksX3_seesFact_0 22 rfl rfl
theorem dksX3_seesFact_2 : cX3_seesFact.data.toList.drop 45 = dktX3_seesFact_2 := dk_seg dksX3_seesFact_1 23 rfl rfl
theorem dX3_seesFact_0 : decode cX3_seesFact 0 = .ok (.iconst 0, 1) := dk_3 (dk_at dksX3_seesFact_0 0 rfl rfl)
theorem dX3_seesFact_1 : decode cX3_seesFact 1 = .ok (.istore_n 3, 1) := dk_62 (dk_at dksX3_seesFact_0 1 rfl rfl)
theorem dX3_seesFact_2 : decode cX3_seesFact 2 = .ok (.iload_n 3, 1) := dk_29 (dk_at dksX3_seesFact_0 2 rfl rfl)
theorem dX3_seesFact_3 : decode cX3_seesFact 3 = .ok (.aload_n 0, 1) := dk_42 (dk_at dksX3_seesFact_0 3 rfl rfl)
theorem dX3_seesFact_4 : decode cX3_seesFact 4 = .ok (.invokevirtual 190, 3) := dk_182 0 190 (dk_at dksX3_seesFact_0 4 rfl rfl)
theorem dX3_seesFact_7 : decode cX3_seesFact 7 = .ok (.if_icmp .ge 52, 3) := dk_162 0 52 (dk_at dksX3_seesFact_0 7 rfl rfl)
theorem dX3_seesFact_10 : decode cX3_seesFact 10 = .ok (.iload_n 3, 1) := dk_29 (dk_at dksX3_seesFact_0 10 rfl rfl)
theorem dX3_seesFact_11 : decode cX3_seesFact 11 = .ok (.iload_n 2, 1) := dk_28 (dk_at dksX3_seesFact_0 11 rfl rfl)
theorem dX3_seesFact_12 : decode cX3_seesFact 12 = .ok (.invokestatic 368, 3) := dk_184 1 112 (dk_at dksX3_seesFact_0 12 rfl rfl)
theorem dX3_seesFact_15 : decode cX3_seesFact 15 = .ok (.aload_n 0, 1) := dk_42 (dk_at dksX3_seesFact_0 15 rfl rfl)
theorem dX3_seesFact_16 : decode cX3_seesFact 16 = .ok (.getfield 9, 3) := dk_180 0 9 (dk_at dksX3_seesFact_0 16 rfl rfl)
theorem dX3_seesFact_19 : decode cX3_seesFact 19 = .ok (.iconst 1, 1) := dk_4 (dk_at dksX3_seesFact_0 19 rfl rfl)
theorem dX3_seesFact_20 : decode cX3_seesFact 20 = .ok (.iaload, 1) := dk_46 (dk_at dksX3_seesFact_0 20 rfl rfl)
theorem dX3_seesFact_21 : decode cX3_seesFact 21 = .ok (.iload_n 2, 1) := dk_28 (dk_at dksX3_seesFact_0 21 rfl rfl)
theorem dX3_seesFact_22 : decode cX3_seesFact 22 = .ok (.invokestatic 368, 3) := dk_184 1 112 (dk_at dksX3_seesFact_1 0 rfl rfl)
theorem dX3_seesFact_25 : decode cX3_seesFact 25 = .ok (.if_icmp .eq 28, 3) := dk_159 0 28 (dk_at dksX3_seesFact_1 3 rfl rfl)
theorem dX3_seesFact_28 : decode cX3_seesFact 28 = .ok (.aload_n 0, 1) := dk_42 (dk_at dksX3_seesFact_1 6 rfl rfl)
theorem dX3_seesFact_29 : decode cX3_seesFact 29 = .ok (.getfield 52, 3) := dk_180 0 52 (dk_at dksX3_seesFact_1 7 rfl rfl)
theorem dX3_seesFact_32 : decode cX3_seesFact 32 = .ok (.bipush 8, 2) := dk_16 8 (dk_at dksX3_seesFact_1 10 rfl rfl)
theorem dX3_seesFact_34 : decode cX3_seesFact 34 = .ok (.iload_n 1, 1) := dk_27 (dk_at dksX3_seesFact_1 12 rfl rfl)
theorem dX3_seesFact_35 : decode cX3_seesFact 35 = .ok (.imul, 1) := dk_104 (dk_at dksX3_seesFact_1 13 rfl rfl)
theorem dX3_seesFact_36 : decode cX3_seesFact 36 = .ok (.iload_n 3, 1) := dk_29 (dk_at dksX3_seesFact_1 14 rfl rfl)
theorem dX3_seesFact_37 : decode cX3_seesFact 37 = .ok (.bipush 32, 2) := dk_16 32 (dk_at dksX3_seesFact_1 15 rfl rfl)
theorem dX3_seesFact_39 : decode cX3_seesFact 39 = .ok (.idiv, 1) := dk_108 (dk_at dksX3_seesFact_1 17 rfl rfl)
theorem dX3_seesFact_40 : decode cX3_seesFact 40 = .ok (.iadd, 1) := dk_96 (dk_at dksX3_seesFact_1 18 rfl rfl)
theorem dX3_seesFact_41 : decode cX3_seesFact 41 = .ok (.dup2, 1) := dk_92 (dk_at dksX3_seesFact_1 19 rfl rfl)
theorem dX3_seesFact_42 : decode cX3_seesFact 42 = .ok (.iaload, 1) := dk_46 (dk_at dksX3_seesFact_1 20 rfl rfl)
theorem dX3_seesFact_43 : decode cX3_seesFact 43 = .ok (.iconst 1, 1) := dk_4 (dk_at dksX3_seesFact_1 21 rfl rfl)
theorem dX3_seesFact_44 : decode cX3_seesFact 44 = .ok (.iload_n 3, 1) := dk_29 (dk_at dksX3_seesFact_1 22 rfl rfl)
theorem dX3_seesFact_45 : decode cX3_seesFact 45 = .ok (.bipush 32, 2) := dk_16 32 (dk_at dksX3_seesFact_2 0 rfl rfl)
theorem dX3_seesFact_47 : decode cX3_seesFact 47 = .ok (.irem, 1) := dk_112 (dk_at dksX3_seesFact_2 2 rfl rfl)
theorem dX3_seesFact_48 : decode cX3_seesFact 48 = .ok (.ishl, 1) := dk_120 (dk_at dksX3_seesFact_2 3 rfl rfl)
theorem dX3_seesFact_49 : decode cX3_seesFact 49 = .ok (.iconst (-1), 1) := dk_2 (dk_at dksX3_seesFact_2 4 rfl rfl)
theorem dX3_seesFact_50 : decode cX3_seesFact 50 = .ok (.ixor, 1) := dk_130 (dk_at dksX3_seesFact_2 5 rfl rfl)
theorem dX3_seesFact_51 : decode cX3_seesFact 51 = .ok (.iand, 1) := dk_126 (dk_at dksX3_seesFact_2 6 rfl rfl)
theorem dX3_seesFact_52 : decode cX3_seesFact 52 = .ok (.iastore, 1) := dk_79 (dk_at dksX3_seesFact_2 7 rfl rfl)
theorem dX3_seesFact_53 : decode cX3_seesFact 53 = .ok (.iinc 3 1, 3) := dk_132 3 1 (dk_at dksX3_seesFact_2 8 rfl rfl)
theorem dX3_seesFact_56 : decode cX3_seesFact 56 = .ok (.goto (-54), 3) := dk_167 255 202 (dk_at dksX3_seesFact_2 11 rfl rfl)
theorem dX3_seesFact_59 : decode cX3_seesFact 59 = .ok (.return_, 1) := dk_177 (dk_at dksX3_seesFact_2 14 rfl rfl)
abbrev cX3_midnight : ByteArray := prog_21_method_98_code
def yX3_midnight : MethodName := ⟨RX3, "midnight", "()I"⟩
def dkwX3_midnight_1 : List UInt8 := [182, 2, 3, 42, 182, 2, 15, 42, 180, 0, 9, 16, 6, 46, 172]
abbrev dktX3_midnight_1 : List UInt8 := dkwX3_midnight_1 ++ []
def dkwX3_midnight_0 : List UInt8 := [42, 182, 0, 186, 153, 0, 16, 42, 180, 0, 9, 16, 6, 46, 17, 39, 15, 160, 0, 5, 2, 172, 42]
abbrev dktX3_midnight_0 : List UInt8 := dkwX3_midnight_0 ++ dktX3_midnight_1
theorem dksX3_midnight_0 : cX3_midnight.data.toList.drop 0 = dktX3_midnight_0 := by decide +kernel
theorem dksX3_midnight_1 : cX3_midnight.data.toList.drop 23 = dktX3_midnight_1 := dk_seg dksX3_midnight_0 23 rfl rfl
theorem dX3_midnight_0 : decode cX3_midnight 0 = .ok (.aload_n 0, 1) := dk_42 (dk_at dksX3_midnight_0 0 rfl rfl)
theorem dX3_midnight_1 : decode cX3_midnight 1 = .ok (.invokevirtual 186, 3) := dk_182 0 186 (dk_at dksX3_midnight_0 1 rfl rfl)
theorem dX3_midnight_4 : decode cX3_midnight 4 = .ok (.ifCond .eq 16, 3) := dk_153 0 16 (dk_at dksX3_midnight_0 4 rfl rfl)
theorem dX3_midnight_7 : decode cX3_midnight 7 = .ok (.aload_n 0, 1) := dk_42 (dk_at dksX3_midnight_0 7 rfl rfl)
theorem dX3_midnight_8 : decode cX3_midnight 8 = .ok (.getfield 9, 3) := dk_180 0 9 (dk_at dksX3_midnight_0 8 rfl rfl)
theorem dX3_midnight_11 : decode cX3_midnight 11 = .ok (.bipush 6, 2) := dk_16 6 (dk_at dksX3_midnight_0 11 rfl rfl)
theorem dX3_midnight_13 : decode cX3_midnight 13 = .ok (.iaload, 1) := dk_46 (dk_at dksX3_midnight_0 13 rfl rfl)
theorem dX3_midnight_14 : decode cX3_midnight 14 = .ok (.sipush 9999, 3) := dk_17 39 15 (dk_at dksX3_midnight_0 14 rfl rfl)
theorem dX3_midnight_17 : decode cX3_midnight 17 = .ok (.if_icmp .ne 5, 3) := dk_160 0 5 (dk_at dksX3_midnight_0 17 rfl rfl)
theorem dX3_midnight_20 : decode cX3_midnight 20 = .ok (.iconst (-1), 1) := dk_2 (dk_at dksX3_midnight_0 20 rfl rfl)
theorem dX3_midnight_21 : decode cX3_midnight 21 = .ok (.ireturn, 1) := dk_172 (dk_at dksX3_midnight_0 21 rfl rfl)
theorem dX3_midnight_22 : decode cX3_midnight 22 = .ok (.aload_n 0, 1) := dk_42 (dk_at dksX3_midnight_0 22 rfl rfl)
theorem dX3_midnight_23 : decode cX3_midnight 23 = .ok (.invokevirtual 515, 3) := dk_182 2 3 (dk_at dksX3_midnight_1 0 rfl rfl)
theorem dX3_midnight_26 : decode cX3_midnight 26 = .ok (.aload_n 0, 1) := dk_42 (dk_at dksX3_midnight_1 3 rfl rfl)
theorem dX3_midnight_27 : decode cX3_midnight 27 = .ok (.invokevirtual 527, 3) := dk_182 2 15 (dk_at dksX3_midnight_1 4 rfl rfl)
theorem dX3_midnight_30 : decode cX3_midnight 30 = .ok (.aload_n 0, 1) := dk_42 (dk_at dksX3_midnight_1 7 rfl rfl)
theorem dX3_midnight_31 : decode cX3_midnight 31 = .ok (.getfield 9, 3) := dk_180 0 9 (dk_at dksX3_midnight_1 8 rfl rfl)
theorem dX3_midnight_34 : decode cX3_midnight 34 = .ok (.bipush 6, 2) := dk_16 6 (dk_at dksX3_midnight_1 11 rfl rfl)
theorem dX3_midnight_36 : decode cX3_midnight 36 = .ok (.iaload, 1) := dk_46 (dk_at dksX3_midnight_1 13 rfl rfl)
theorem dX3_midnight_37 : decode cX3_midnight 37 = .ok (.ireturn, 1) := dk_172 (dk_at dksX3_midnight_1 14 rfl rfl)
abbrev cX3_dayPasses : ByteArray := prog_21_method_97_code
def yX3_dayPasses : MethodName := ⟨RX3, "dayPasses", "()V"⟩
def dkwX3_dayPasses_4 : List UInt8 := [132, 1, 1, 167, 255, 200, 177]
abbrev dktX3_dayPasses_4 : List UInt8 := dkwX3_dayPasses_4 ++ []
def dkwX3_dayPasses_3 : List UInt8 := [92, 46, 4, 42, 180, 0, 40, 27, 46, 120, 130, 79, 42, 42, 180, 0, 40, 27, 46, 182, 2, 12]
abbrev dktX3_dayPasses_3 : List UInt8 := dkwX3_dayPasses_3 ++ dktX3_dayPasses_4
def dkwX3_dayPasses_2 : List UInt8 := [162, 0, 52, 42, 180, 0, 43, 27, 46, 42, 180, 0, 9, 16, 6, 46, 160, 0, 30, 42, 180, 0, 9, 4]
abbrev dktX3_dayPasses_2 : List UInt8 := dkwX3_dayPasses_2 ++ dktX3_dayPasses_3
def dkwX3_dayPasses_1 : List UInt8 := [3, 79, 42, 180, 0, 25, 27, 3, 79, 132, 1, 1, 167, 255, 233, 3, 60, 27, 42, 180, 0, 9, 8, 46]
abbrev dktX3_dayPasses_1 : List UInt8 := dkwX3_dayPasses_1 ++ dktX3_dayPasses_2
def dkwX3_dayPasses_0 : List UInt8 := [42, 180, 0, 9, 16, 6, 92, 46, 4, 96, 79, 3, 60, 27, 16, 6, 162, 0, 23, 42, 180, 0, 22, 27]
abbrev dktX3_dayPasses_0 : List UInt8 := dkwX3_dayPasses_0 ++ dktX3_dayPasses_1
theorem dksX3_dayPasses_0 : cX3_dayPasses.data.toList.drop 0 = dktX3_dayPasses_0 := by decide +kernel
theorem dksX3_dayPasses_1 : cX3_dayPasses.data.toList.drop 24 = dktX3_dayPasses_1 := dk_seg dksX3_dayPasses_0 24 rfl rfl
theorem dksX3_dayPasses_2 : cX3_dayPasses.data.toList.drop 48 = dktX3_dayPasses_2 := dk_seg dksX3_dayPasses_1 24 rfl rfl
theorem dksX3_dayPasses_3 : cX3_dayPasses.data.toList.drop 72 = dktX3_dayPasses_3 := dk_seg dksX3_dayPasses_2 24 rfl rfl
theorem dksX3_dayPasses_4 : cX3_dayPasses.data.toList.drop 94 = dktX3_dayPasses_4 := dk_seg dksX3_dayPasses_3 22 rfl rfl
theorem dX3_dayPasses_0 : decode cX3_dayPasses 0 = .ok (.aload_n 0, 1) := dk_42 (dk_at dksX3_dayPasses_0 0 rfl rfl)
theorem dX3_dayPasses_1 : decode cX3_dayPasses 1 = .ok (.getfield 9, 3) := dk_180 0 9 (dk_at dksX3_dayPasses_0 1 rfl rfl)
theorem dX3_dayPasses_4 : decode cX3_dayPasses 4 = .ok (.bipush 6, 2) := dk_16 6 (dk_at dksX3_dayPasses_0 4 rfl rfl)
theorem dX3_dayPasses_6 : decode cX3_dayPasses 6 = .ok (.dup2, 1) := dk_92 (dk_at dksX3_dayPasses_0 6 rfl rfl)
theorem dX3_dayPasses_7 : decode cX3_dayPasses 7 = .ok (.iaload, 1) := dk_46 (dk_at dksX3_dayPasses_0 7 rfl rfl)
theorem dX3_dayPasses_8 : decode cX3_dayPasses 8 = .ok (.iconst 1, 1) := dk_4 (dk_at dksX3_dayPasses_0 8 rfl rfl)
theorem dX3_dayPasses_9 : decode cX3_dayPasses 9 = .ok (.iadd, 1) := dk_96 (dk_at dksX3_dayPasses_0 9 rfl rfl)
theorem dX3_dayPasses_10 : decode cX3_dayPasses 10 = .ok (.iastore, 1) := dk_79 (dk_at dksX3_dayPasses_0 10 rfl rfl)
theorem dX3_dayPasses_11 : decode cX3_dayPasses 11 = .ok (.iconst 0, 1) := dk_3 (dk_at dksX3_dayPasses_0 11 rfl rfl)
theorem dX3_dayPasses_12 : decode cX3_dayPasses 12 = .ok (.istore_n 1, 1) := dk_60 (dk_at dksX3_dayPasses_0 12 rfl rfl)
theorem dX3_dayPasses_13 : decode cX3_dayPasses 13 = .ok (.iload_n 1, 1) := dk_27 (dk_at dksX3_dayPasses_0 13 rfl rfl)
theorem dX3_dayPasses_14 : decode cX3_dayPasses 14 = .ok (.bipush 6, 2) := dk_16 6 (dk_at dksX3_dayPasses_0 14 rfl rfl)
theorem dX3_dayPasses_16 : decode cX3_dayPasses 16 = .ok (.if_icmp .ge 23, 3) := dk_162 0 23 (dk_at dksX3_dayPasses_0 16 rfl rfl)
theorem dX3_dayPasses_19 : decode cX3_dayPasses 19 = .ok (.aload_n 0, 1) := dk_42 (dk_at dksX3_dayPasses_0 19 rfl rfl)
theorem dX3_dayPasses_20 : decode cX3_dayPasses 20 = .ok (.getfield 22, 3) := dk_180 0 22 (dk_at dksX3_dayPasses_0 20 rfl rfl)
theorem dX3_dayPasses_23 : decode cX3_dayPasses 23 = .ok (.iload_n 1, 1) := dk_27 (dk_at dksX3_dayPasses_0 23 rfl rfl)
theorem dX3_dayPasses_24 : decode cX3_dayPasses 24 = .ok (.iconst 0, 1) := dk_3 (dk_at dksX3_dayPasses_1 0 rfl rfl)
theorem dX3_dayPasses_25 : decode cX3_dayPasses 25 = .ok (.iastore, 1) := dk_79 (dk_at dksX3_dayPasses_1 1 rfl rfl)
theorem dX3_dayPasses_26 : decode cX3_dayPasses 26 = .ok (.aload_n 0, 1) := dk_42 (dk_at dksX3_dayPasses_1 2 rfl rfl)
theorem dX3_dayPasses_27 : decode cX3_dayPasses 27 = .ok (.getfield 25, 3) := dk_180 0 25 (dk_at dksX3_dayPasses_1 3 rfl rfl)
theorem dX3_dayPasses_30 : decode cX3_dayPasses 30 = .ok (.iload_n 1, 1) := dk_27 (dk_at dksX3_dayPasses_1 6 rfl rfl)
theorem dX3_dayPasses_31 : decode cX3_dayPasses 31 = .ok (.iconst 0, 1) := dk_3 (dk_at dksX3_dayPasses_1 7 rfl rfl)
theorem dX3_dayPasses_32 : decode cX3_dayPasses 32 = .ok (.iastore, 1) := dk_79 (dk_at dksX3_dayPasses_1 8 rfl rfl)
theorem dX3_dayPasses_33 : decode cX3_dayPasses 33 = .ok (.iinc 1 1, 3) := dk_132 1 1 (dk_at dksX3_dayPasses_1 9 rfl rfl)
theorem dX3_dayPasses_36 : decode cX3_dayPasses 36 = .ok (.goto (-23), 3) := dk_167 255 233 (dk_at dksX3_dayPasses_1 12 rfl rfl)
theorem dX3_dayPasses_39 : decode cX3_dayPasses 39 = .ok (.iconst 0, 1) := dk_3 (dk_at dksX3_dayPasses_1 15 rfl rfl)
theorem dX3_dayPasses_40 : decode cX3_dayPasses 40 = .ok (.istore_n 1, 1) := dk_60 (dk_at dksX3_dayPasses_1 16 rfl rfl)
theorem dX3_dayPasses_41 : decode cX3_dayPasses 41 = .ok (.iload_n 1, 1) := dk_27 (dk_at dksX3_dayPasses_1 17 rfl rfl)
theorem dX3_dayPasses_42 : decode cX3_dayPasses 42 = .ok (.aload_n 0, 1) := dk_42 (dk_at dksX3_dayPasses_1 18 rfl rfl)
theorem dX3_dayPasses_43 : decode cX3_dayPasses 43 = .ok (.getfield 9, 3) := dk_180 0 9 (dk_at dksX3_dayPasses_1 19 rfl rfl)
theorem dX3_dayPasses_46 : decode cX3_dayPasses 46 = .ok (.iconst 5, 1) := dk_8 (dk_at dksX3_dayPasses_1 22 rfl rfl)
theorem dX3_dayPasses_47 : decode cX3_dayPasses 47 = .ok (.iaload, 1) := dk_46 (dk_at dksX3_dayPasses_1 23 rfl rfl)
theorem dX3_dayPasses_48 : decode cX3_dayPasses 48 = .ok (.if_icmp .ge 52, 3) := dk_162 0 52 (dk_at dksX3_dayPasses_2 0 rfl rfl)
theorem dX3_dayPasses_51 : decode cX3_dayPasses 51 = .ok (.aload_n 0, 1) := dk_42 (dk_at dksX3_dayPasses_2 3 rfl rfl)
theorem dX3_dayPasses_52 : decode cX3_dayPasses 52 = .ok (.getfield 43, 3) := dk_180 0 43 (dk_at dksX3_dayPasses_2 4 rfl rfl)
theorem dX3_dayPasses_55 : decode cX3_dayPasses 55 = .ok (.iload_n 1, 1) := dk_27 (dk_at dksX3_dayPasses_2 7 rfl rfl)
theorem dX3_dayPasses_56 : decode cX3_dayPasses 56 = .ok (.iaload, 1) := dk_46 (dk_at dksX3_dayPasses_2 8 rfl rfl)
theorem dX3_dayPasses_57 : decode cX3_dayPasses 57 = .ok (.aload_n 0, 1) := dk_42 (dk_at dksX3_dayPasses_2 9 rfl rfl)
theorem dX3_dayPasses_58 : decode cX3_dayPasses 58 = .ok (.getfield 9, 3) := dk_180 0 9 (dk_at dksX3_dayPasses_2 10 rfl rfl)
theorem dX3_dayPasses_61 : decode cX3_dayPasses 61 = .ok (.bipush 6, 2) := dk_16 6 (dk_at dksX3_dayPasses_2 13 rfl rfl)
theorem dX3_dayPasses_63 : decode cX3_dayPasses 63 = .ok (.iaload, 1) := dk_46 (dk_at dksX3_dayPasses_2 15 rfl rfl)
theorem dX3_dayPasses_64 : decode cX3_dayPasses 64 = .ok (.if_icmp .ne 30, 3) := dk_160 0 30 (dk_at dksX3_dayPasses_2 16 rfl rfl)
theorem dX3_dayPasses_67 : decode cX3_dayPasses 67 = .ok (.aload_n 0, 1) := dk_42 (dk_at dksX3_dayPasses_2 19 rfl rfl)
theorem dX3_dayPasses_68 : decode cX3_dayPasses 68 = .ok (.getfield 9, 3) := dk_180 0 9 (dk_at dksX3_dayPasses_2 20 rfl rfl)
theorem dX3_dayPasses_71 : decode cX3_dayPasses 71 = .ok (.iconst 1, 1) := dk_4 (dk_at dksX3_dayPasses_2 23 rfl rfl)
theorem dX3_dayPasses_72 : decode cX3_dayPasses 72 = .ok (.dup2, 1) := dk_92 (dk_at dksX3_dayPasses_3 0 rfl rfl)
theorem dX3_dayPasses_73 : decode cX3_dayPasses 73 = .ok (.iaload, 1) := dk_46 (dk_at dksX3_dayPasses_3 1 rfl rfl)
theorem dX3_dayPasses_74 : decode cX3_dayPasses 74 = .ok (.iconst 1, 1) := dk_4 (dk_at dksX3_dayPasses_3 2 rfl rfl)
theorem dX3_dayPasses_75 : decode cX3_dayPasses 75 = .ok (.aload_n 0, 1) := dk_42 (dk_at dksX3_dayPasses_3 3 rfl rfl)
theorem dX3_dayPasses_76 : decode cX3_dayPasses 76 = .ok (.getfield 40, 3) := dk_180 0 40 (dk_at dksX3_dayPasses_3 4 rfl rfl)
theorem dX3_dayPasses_79 : decode cX3_dayPasses 79 = .ok (.iload_n 1, 1) := dk_27 (dk_at dksX3_dayPasses_3 7 rfl rfl)
theorem dX3_dayPasses_80 : decode cX3_dayPasses 80 = .ok (.iaload, 1) := dk_46 (dk_at dksX3_dayPasses_3 8 rfl rfl)
theorem dX3_dayPasses_81 : decode cX3_dayPasses 81 = .ok (.ishl, 1) := dk_120 (dk_at dksX3_dayPasses_3 9 rfl rfl)
theorem dX3_dayPasses_82 : decode cX3_dayPasses 82 = .ok (.ixor, 1) := dk_130 (dk_at dksX3_dayPasses_3 10 rfl rfl)
theorem dX3_dayPasses_83 : decode cX3_dayPasses 83 = .ok (.iastore, 1) := dk_79 (dk_at dksX3_dayPasses_3 11 rfl rfl)
theorem dX3_dayPasses_84 : decode cX3_dayPasses 84 = .ok (.aload_n 0, 1) := dk_42 (dk_at dksX3_dayPasses_3 12 rfl rfl)
theorem dX3_dayPasses_85 : decode cX3_dayPasses 85 = .ok (.aload_n 0, 1) := dk_42 (dk_at dksX3_dayPasses_3 13 rfl rfl)
theorem dX3_dayPasses_86 : decode cX3_dayPasses 86 = .ok (.getfield 40, 3) := dk_180 0 40 (dk_at dksX3_dayPasses_3 14 rfl rfl)
theorem dX3_dayPasses_89 : decode cX3_dayPasses 89 = .ok (.iload_n 1, 1) := dk_27 (dk_at dksX3_dayPasses_3 17 rfl rfl)
theorem dX3_dayPasses_90 : decode cX3_dayPasses 90 = .ok (.iaload, 1) := dk_46 (dk_at dksX3_dayPasses_3 18 rfl rfl)
theorem dX3_dayPasses_91 : decode cX3_dayPasses 91 = .ok (.invokevirtual 524, 3) := dk_182 2 12 (dk_at dksX3_dayPasses_3 19 rfl rfl)
theorem dX3_dayPasses_94 : decode cX3_dayPasses 94 = .ok (.iinc 1 1, 3) := dk_132 1 1 (dk_at dksX3_dayPasses_4 0 rfl rfl)
theorem dX3_dayPasses_97 : decode cX3_dayPasses 97 = .ok (.goto (-56), 3) := dk_167 255 200 (dk_at dksX3_dayPasses_4 3 rfl rfl)
theorem dX3_dayPasses_100 : decode cX3_dayPasses 100 = .ok (.return_, 1) := dk_177 (dk_at dksX3_dayPasses_4 6 rfl rfl)
abbrev cX3_forgets : ByteArray := prog_21_method_96_code
def yX3_forgets : MethodName := ⟨RX3, "forgets", "(I)V"⟩
def dkwX3_forgets_5 : List UInt8 := [79, 132, 3, 1, 167, 255, 230, 132, 2, 1, 167, 255, 131, 177]
abbrev dktX3_forgets_5 : List UInt8 := dkwX3_forgets_5 ++ []
def dkwX3_forgets_4 : List UInt8 := [3, 62, 29, 16, 8, 162, 0, 26, 42, 180, 0, 52, 16, 8, 28, 104, 29, 96, 42, 180, 0, 148, 29, 46]
abbrev dktX3_forgets_4 : List UInt8 := dkwX3_forgets_4 ++ dktX3_forgets_5
def dkwX3_forgets_3 : List UInt8 := [182, 1, 191, 153, 0, 12, 4, 29, 16, 32, 112, 120, 167, 0, 4, 3, 128, 79, 132, 3, 1, 167, 255, 197]
abbrev dktX3_forgets_3 : List UInt8 := dkwX3_forgets_3 ++ dktX3_forgets_4
def dkwX3_forgets_2 : List UInt8 := [180, 0, 148, 29, 16, 32, 108, 92, 46, 42, 28, 29, 182, 1, 191, 154, 0, 13, 42, 28, 21, 4]
abbrev dktX3_forgets_2 : List UInt8 := dkwX3_forgets_2 ++ dktX3_forgets_3
def dkwX3_forgets_1 : List UInt8 := [132, 3, 1, 167, 255, 240, 3, 62, 29, 42, 182, 0, 190, 162, 0, 57, 29, 4, 27, 120, 130, 54, 4, 42]
abbrev dktX3_forgets_1 : List UInt8 := dkwX3_forgets_1 ++ dktX3_forgets_2
def dkwX3_forgets_0 : List UInt8 := [3, 61, 28, 16, 6, 163, 0, 125, 3, 62, 29, 16, 8, 162, 0, 16, 42, 180, 0, 148, 29, 3, 79]
abbrev dktX3_forgets_0 : List UInt8 := dkwX3_forgets_0 ++ dktX3_forgets_1
theorem dksX3_forgets_0 : cX3_forgets.data.toList.drop 0 = dktX3_forgets_0 := by decide +kernel
theorem dksX3_forgets_1 : cX3_forgets.data.toList.drop 23 = dktX3_forgets_1 := dk_seg dksX3_forgets_0 23 rfl rfl
theorem dksX3_forgets_2 : cX3_forgets.data.toList.drop 47 = dktX3_forgets_2 := dk_seg dksX3_forgets_1 24 rfl rfl
theorem dksX3_forgets_3 : cX3_forgets.data.toList.drop 69 = dktX3_forgets_3 := dk_seg dksX3_forgets_2 22 rfl rfl
theorem dksX3_forgets_4 : cX3_forgets.data.toList.drop 93 = dktX3_forgets_4 := dk_seg dksX3_forgets_3 24 rfl rfl
theorem dksX3_forgets_5 : cX3_forgets.data.toList.drop 117 = dktX3_forgets_5 := dk_seg dksX3_forgets_4 24 rfl rfl
theorem dX3_forgets_0 : decode cX3_forgets 0 = .ok (.iconst 0, 1) := dk_3 (dk_at dksX3_forgets_0 0 rfl rfl)
theorem dX3_forgets_1 : decode cX3_forgets 1 = .ok (.istore_n 2, 1) := dk_61 (dk_at dksX3_forgets_0 1 rfl rfl)
theorem dX3_forgets_2 : decode cX3_forgets 2 = .ok (.iload_n 2, 1) := dk_28 (dk_at dksX3_forgets_0 2 rfl rfl)
theorem dX3_forgets_3 : decode cX3_forgets 3 = .ok (.bipush 6, 2) := dk_16 6 (dk_at dksX3_forgets_0 3 rfl rfl)
theorem dX3_forgets_5 : decode cX3_forgets 5 = .ok (.if_icmp .gt 125, 3) := dk_163 0 125 (dk_at dksX3_forgets_0 5 rfl rfl)
theorem dX3_forgets_8 : decode cX3_forgets 8 = .ok (.iconst 0, 1) := dk_3 (dk_at dksX3_forgets_0 8 rfl rfl)
theorem dX3_forgets_9 : decode cX3_forgets 9 = .ok (.istore_n 3, 1) := dk_62 (dk_at dksX3_forgets_0 9 rfl rfl)
theorem dX3_forgets_10 : decode cX3_forgets 10 = .ok (.iload_n 3, 1) := dk_29 (dk_at dksX3_forgets_0 10 rfl rfl)
theorem dX3_forgets_11 : decode cX3_forgets 11 = .ok (.bipush 8, 2) := dk_16 8 (dk_at dksX3_forgets_0 11 rfl rfl)
theorem dX3_forgets_13 : decode cX3_forgets 13 = .ok (.if_icmp .ge 16, 3) := dk_162 0 16 (dk_at dksX3_forgets_0 13 rfl rfl)
theorem dX3_forgets_16 : decode cX3_forgets 16 = .ok (.aload_n 0, 1) := dk_42 (dk_at dksX3_forgets_0 16 rfl rfl)
theorem dX3_forgets_17 : decode cX3_forgets 17 = .ok (.getfield 148, 3) := dk_180 0 148 (dk_at dksX3_forgets_0 17 rfl rfl)
theorem dX3_forgets_20 : decode cX3_forgets 20 = .ok (.iload_n 3, 1) := dk_29 (dk_at dksX3_forgets_0 20 rfl rfl)
theorem dX3_forgets_21 : decode cX3_forgets 21 = .ok (.iconst 0, 1) := dk_3 (dk_at dksX3_forgets_0 21 rfl rfl)
theorem dX3_forgets_22 : decode cX3_forgets 22 = .ok (.iastore, 1) := dk_79 (dk_at dksX3_forgets_0 22 rfl rfl)
theorem dX3_forgets_23 : decode cX3_forgets 23 = .ok (.iinc 3 1, 3) := dk_132 3 1 (dk_at dksX3_forgets_1 0 rfl rfl)
theorem dX3_forgets_26 : decode cX3_forgets 26 = .ok (.goto (-16), 3) := dk_167 255 240 (dk_at dksX3_forgets_1 3 rfl rfl)
theorem dX3_forgets_29 : decode cX3_forgets 29 = .ok (.iconst 0, 1) := dk_3 (dk_at dksX3_forgets_1 6 rfl rfl)
theorem dX3_forgets_30 : decode cX3_forgets 30 = .ok (.istore_n 3, 1) := dk_62 (dk_at dksX3_forgets_1 7 rfl rfl)
theorem dX3_forgets_31 : decode cX3_forgets 31 = .ok (.iload_n 3, 1) := dk_29 (dk_at dksX3_forgets_1 8 rfl rfl)
theorem dX3_forgets_32 : decode cX3_forgets 32 = .ok (.aload_n 0, 1) := dk_42 (dk_at dksX3_forgets_1 9 rfl rfl)
theorem dX3_forgets_33 : decode cX3_forgets 33 = .ok (.invokevirtual 190, 3) := dk_182 0 190 (dk_at dksX3_forgets_1 10 rfl rfl)
theorem dX3_forgets_36 : decode cX3_forgets 36 = .ok (.if_icmp .ge 57, 3) := dk_162 0 57 (dk_at dksX3_forgets_1 13 rfl rfl)
theorem dX3_forgets_39 : decode cX3_forgets 39 = .ok (.iload_n 3, 1) := dk_29 (dk_at dksX3_forgets_1 16 rfl rfl)
theorem dX3_forgets_40 : decode cX3_forgets 40 = .ok (.iconst 1, 1) := dk_4 (dk_at dksX3_forgets_1 17 rfl rfl)
theorem dX3_forgets_41 : decode cX3_forgets 41 = .ok (.iload_n 1, 1) := dk_27 (dk_at dksX3_forgets_1 18 rfl rfl)
theorem dX3_forgets_42 : decode cX3_forgets 42 = .ok (.ishl, 1) := dk_120 (dk_at dksX3_forgets_1 19 rfl rfl)
theorem dX3_forgets_43 : decode cX3_forgets 43 = .ok (.ixor, 1) := dk_130 (dk_at dksX3_forgets_1 20 rfl rfl)
theorem dX3_forgets_44 : decode cX3_forgets 44 = .ok (.istore 4, 2) := dk_54 4 (dk_at dksX3_forgets_1 21 rfl rfl)
theorem dX3_forgets_46 : decode cX3_forgets 46 = .ok (.aload_n 0, 1) := dk_42 (dk_at dksX3_forgets_1 23 rfl rfl)
theorem dX3_forgets_47 : decode cX3_forgets 47 = .ok (.getfield 148, 3) := dk_180 0 148 (dk_at dksX3_forgets_2 0 rfl rfl)
theorem dX3_forgets_50 : decode cX3_forgets 50 = .ok (.iload_n 3, 1) := dk_29 (dk_at dksX3_forgets_2 3 rfl rfl)
theorem dX3_forgets_51 : decode cX3_forgets 51 = .ok (.bipush 32, 2) := dk_16 32 (dk_at dksX3_forgets_2 4 rfl rfl)
theorem dX3_forgets_53 : decode cX3_forgets 53 = .ok (.idiv, 1) := dk_108 (dk_at dksX3_forgets_2 6 rfl rfl)
theorem dX3_forgets_54 : decode cX3_forgets 54 = .ok (.dup2, 1) := dk_92 (dk_at dksX3_forgets_2 7 rfl rfl)
theorem dX3_forgets_55 : decode cX3_forgets 55 = .ok (.iaload, 1) := dk_46 (dk_at dksX3_forgets_2 8 rfl rfl)
theorem dX3_forgets_56 : decode cX3_forgets 56 = .ok (.aload_n 0, 1) := dk_42 (dk_at dksX3_forgets_2 9 rfl rfl)
theorem dX3_forgets_57 : decode cX3_forgets 57 = .ok (.iload_n 2, 1) := dk_28 (dk_at dksX3_forgets_2 10 rfl rfl)
theorem dX3_forgets_58 : decode cX3_forgets 58 = .ok (.iload_n 3, 1) := dk_29 (dk_at dksX3_forgets_2 11 rfl rfl)
theorem dX3_forgets_59 : decode cX3_forgets 59 = .ok (.invokevirtual 447, 3) := dk_182 1 191 (dk_at dksX3_forgets_2 12 rfl rfl)
theorem dX3_forgets_62 : decode cX3_forgets 62 = .ok (.ifCond .ne 13, 3) := dk_154 0 13 (dk_at dksX3_forgets_2 15 rfl rfl)
theorem dX3_forgets_65 : decode cX3_forgets 65 = .ok (.aload_n 0, 1) := dk_42 (dk_at dksX3_forgets_2 18 rfl rfl)
theorem dX3_forgets_66 : decode cX3_forgets 66 = .ok (.iload_n 2, 1) := dk_28 (dk_at dksX3_forgets_2 19 rfl rfl)
theorem dX3_forgets_67 : decode cX3_forgets 67 = .ok (.iload 4, 2) := dk_21 4 (dk_at dksX3_forgets_2 20 rfl rfl)
theorem dX3_forgets_69 : decode cX3_forgets 69 = .ok (.invokevirtual 447, 3) := dk_182 1 191 (dk_at dksX3_forgets_3 0 rfl rfl)
theorem dX3_forgets_72 : decode cX3_forgets 72 = .ok (.ifCond .eq 12, 3) := dk_153 0 12 (dk_at dksX3_forgets_3 3 rfl rfl)
theorem dX3_forgets_75 : decode cX3_forgets 75 = .ok (.iconst 1, 1) := dk_4 (dk_at dksX3_forgets_3 6 rfl rfl)
theorem dX3_forgets_76 : decode cX3_forgets 76 = .ok (.iload_n 3, 1) := dk_29 (dk_at dksX3_forgets_3 7 rfl rfl)
theorem dX3_forgets_77 : decode cX3_forgets 77 = .ok (.bipush 32, 2) := dk_16 32 (dk_at dksX3_forgets_3 8 rfl rfl)
theorem dX3_forgets_79 : decode cX3_forgets 79 = .ok (.irem, 1) := dk_112 (dk_at dksX3_forgets_3 10 rfl rfl)
theorem dX3_forgets_80 : decode cX3_forgets 80 = .ok (.ishl, 1) := dk_120 (dk_at dksX3_forgets_3 11 rfl rfl)
theorem dX3_forgets_81 : decode cX3_forgets 81 = .ok (.goto 4, 3) := dk_167 0 4 (dk_at dksX3_forgets_3 12 rfl rfl)
theorem dX3_forgets_84 : decode cX3_forgets 84 = .ok (.iconst 0, 1) := dk_3 (dk_at dksX3_forgets_3 15 rfl rfl)
theorem dX3_forgets_85 : decode cX3_forgets 85 = .ok (.ior, 1) := dk_128 (dk_at dksX3_forgets_3 16 rfl rfl)
theorem dX3_forgets_86 : decode cX3_forgets 86 = .ok (.iastore, 1) := dk_79 (dk_at dksX3_forgets_3 17 rfl rfl)
theorem dX3_forgets_87 : decode cX3_forgets 87 = .ok (.iinc 3 1, 3) := dk_132 3 1 (dk_at dksX3_forgets_3 18 rfl rfl)
theorem dX3_forgets_90 : decode cX3_forgets 90 = .ok (.goto (-59), 3) := dk_167 255 197 (dk_at dksX3_forgets_3 21 rfl rfl)
theorem dX3_forgets_93 : decode cX3_forgets 93 = .ok (.iconst 0, 1) := dk_3 (dk_at dksX3_forgets_4 0 rfl rfl)
theorem dX3_forgets_94 : decode cX3_forgets 94 = .ok (.istore_n 3, 1) := dk_62 (dk_at dksX3_forgets_4 1 rfl rfl)
theorem dX3_forgets_95 : decode cX3_forgets 95 = .ok (.iload_n 3, 1) := dk_29 (dk_at dksX3_forgets_4 2 rfl rfl)
theorem dX3_forgets_96 : decode cX3_forgets 96 = .ok (.bipush 8, 2) := dk_16 8 (dk_at dksX3_forgets_4 3 rfl rfl)
theorem dX3_forgets_98 : decode cX3_forgets 98 = .ok (.if_icmp .ge 26, 3) := dk_162 0 26 (dk_at dksX3_forgets_4 5 rfl rfl)
theorem dX3_forgets_101 : decode cX3_forgets 101 = .ok (.aload_n 0, 1) := dk_42 (dk_at dksX3_forgets_4 8 rfl rfl)
theorem dX3_forgets_102 : decode cX3_forgets 102 = .ok (.getfield 52, 3) := dk_180 0 52 (dk_at dksX3_forgets_4 9 rfl rfl)
theorem dX3_forgets_105 : decode cX3_forgets 105 = .ok (.bipush 8, 2) := dk_16 8 (dk_at dksX3_forgets_4 12 rfl rfl)
theorem dX3_forgets_107 : decode cX3_forgets 107 = .ok (.iload_n 2, 1) := dk_28 (dk_at dksX3_forgets_4 14 rfl rfl)
theorem dX3_forgets_108 : decode cX3_forgets 108 = .ok (.imul, 1) := dk_104 (dk_at dksX3_forgets_4 15 rfl rfl)
theorem dX3_forgets_109 : decode cX3_forgets 109 = .ok (.iload_n 3, 1) := dk_29 (dk_at dksX3_forgets_4 16 rfl rfl)
theorem dX3_forgets_110 : decode cX3_forgets 110 = .ok (.iadd, 1) := dk_96 (dk_at dksX3_forgets_4 17 rfl rfl)
theorem dX3_forgets_111 : decode cX3_forgets 111 = .ok (.aload_n 0, 1) := dk_42 (dk_at dksX3_forgets_4 18 rfl rfl)
theorem dX3_forgets_112 : decode cX3_forgets 112 = .ok (.getfield 148, 3) := dk_180 0 148 (dk_at dksX3_forgets_4 19 rfl rfl)
theorem dX3_forgets_115 : decode cX3_forgets 115 = .ok (.iload_n 3, 1) := dk_29 (dk_at dksX3_forgets_4 22 rfl rfl)
theorem dX3_forgets_116 : decode cX3_forgets 116 = .ok (.iaload, 1) := dk_46 (dk_at dksX3_forgets_4 23 rfl rfl)
theorem dX3_forgets_117 : decode cX3_forgets 117 = .ok (.iastore, 1) := dk_79 (dk_at dksX3_forgets_5 0 rfl rfl)
theorem dX3_forgets_118 : decode cX3_forgets 118 = .ok (.iinc 3 1, 3) := dk_132 3 1 (dk_at dksX3_forgets_5 1 rfl rfl)
theorem dX3_forgets_121 : decode cX3_forgets 121 = .ok (.goto (-26), 3) := dk_167 255 230 (dk_at dksX3_forgets_5 4 rfl rfl)
theorem dX3_forgets_124 : decode cX3_forgets 124 = .ok (.iinc 2 1, 3) := dk_132 2 1 (dk_at dksX3_forgets_5 7 rfl rfl)
theorem dX3_forgets_127 : decode cX3_forgets 127 = .ok (.goto (-125), 3) := dk_167 255 131 (dk_at dksX3_forgets_5 10 rfl rfl)
theorem dX3_forgets_130 : decode cX3_forgets 130 = .ok (.return_, 1) := dk_177 (dk_at dksX3_forgets_5 13 rfl rfl)
abbrev cX3_run : ByteArray := prog_21_method_102_code
def yX3_run : MethodName := ⟨RX3, "run", "(II)I"⟩
def dkwX3_run_5 : List UInt8 := [167, 0, 4, 3, 96, 62, 132, 5, 1, 167, 255, 193, 42, 182, 2, 15, 132, 4, 1, 167, 255, 174, 29, 172]
abbrev dktX3_run_5 : List UInt8 := dkwX3_run_5 ++ []
def dkwX3_run_4 : List UInt8 := [2, 54, 6, 21, 6, 2, 159, 0, 23, 29, 42, 21, 5, 21, 6, 182, 2, 6, 6, 160, 0, 7, 4]
abbrev dktX3_run_4 : List UInt8 := dkwX3_run_4 ++ dktX3_run_5
def dkwX3_run_3 : List UInt8 := [46, 162, 0, 58, 42, 180, 0, 25, 21, 5, 46, 154, 0, 13, 42, 27, 21, 5, 182, 2, 33, 167, 0, 4]
abbrev dktX3_run_3 : List UInt8 := dkwX3_run_3 ++ dktX3_run_4
def dkwX3_run_2 : List UInt8 := [181, 1, 100, 3, 62, 3, 54, 4, 21, 4, 28, 162, 0, 82, 3, 54, 5, 21, 5, 42, 180, 0, 9, 5]
abbrev dktX3_run_2 : List UInt8 := dkwX3_run_2 ++ dktX3_run_3
def dkwX3_run_1 : List UInt8 := [153, 0, 18, 42, 180, 0, 9, 16, 6, 46, 28, 96, 17, 39, 15, 164, 0, 5, 2, 172, 42, 3]
abbrev dktX3_run_1 : List UInt8 := dkwX3_run_1 ++ dktX3_run_2
def dkwX3_run_0 : List UInt8 := [42, 182, 0, 186, 153, 0, 38, 42, 27, 182, 2, 28, 153, 0, 30, 28, 133, 10, 20, 2, 31, 184, 0, 179]
abbrev dktX3_run_0 : List UInt8 := dkwX3_run_0 ++ dktX3_run_1
theorem dksX3_run_0 : cX3_run.data.toList.drop 0 = dktX3_run_0 := by decide +kernel
theorem dksX3_run_1 : cX3_run.data.toList.drop 24 = dktX3_run_1 := dk_seg dksX3_run_0 24 rfl rfl
theorem dksX3_run_2 : cX3_run.data.toList.drop 46 = dktX3_run_2 := dk_seg dksX3_run_1 22 rfl rfl
theorem dksX3_run_3 : cX3_run.data.toList.drop 70 = dktX3_run_3 := dk_seg dksX3_run_2 24 rfl rfl
theorem dksX3_run_4 : cX3_run.data.toList.drop 94 = dktX3_run_4 := dk_seg dksX3_run_3 24 rfl rfl
theorem dksX3_run_5 : cX3_run.data.toList.drop 117 = dktX3_run_5 := dk_seg dksX3_run_4 23 rfl rfl
theorem dX3_run_0 : decode cX3_run 0 = .ok (.aload_n 0, 1) := dk_42 (dk_at dksX3_run_0 0 rfl rfl)
theorem dX3_run_1 : decode cX3_run 1 = .ok (.invokevirtual 186, 3) := dk_182 0 186 (dk_at dksX3_run_0 1 rfl rfl)
theorem dX3_run_4 : decode cX3_run 4 = .ok (.ifCond .eq 38, 3) := dk_153 0 38 (dk_at dksX3_run_0 4 rfl rfl)
theorem dX3_run_7 : decode cX3_run 7 = .ok (.aload_n 0, 1) := dk_42 (dk_at dksX3_run_0 7 rfl rfl)
theorem dX3_run_8 : decode cX3_run 8 = .ok (.iload_n 1, 1) := dk_27 (dk_at dksX3_run_0 8 rfl rfl)
theorem dX3_run_9 : decode cX3_run 9 = .ok (.invokevirtual 540, 3) := dk_182 2 28 (dk_at dksX3_run_0 9 rfl rfl)
theorem dX3_run_12 : decode cX3_run 12 = .ok (.ifCond .eq 30, 3) := dk_153 0 30 (dk_at dksX3_run_0 12 rfl rfl)
theorem dX3_run_15 : decode cX3_run 15 = .ok (.iload_n 2, 1) := dk_28 (dk_at dksX3_run_0 15 rfl rfl)
theorem dX3_run_16 : decode cX3_run 16 = .ok (.i2l, 1) := dk_133 (dk_at dksX3_run_0 16 rfl rfl)
theorem dX3_run_17 : decode cX3_run 17 = .ok (.lconst 1, 1) := dk_10 (dk_at dksX3_run_0 17 rfl rfl)
theorem dX3_run_18 : decode cX3_run 18 = .ok (.ldc2_w 543, 3) := dk_20 2 31 (dk_at dksX3_run_0 18 rfl rfl)
theorem dX3_run_21 : decode cX3_run 21 = .ok (.invokestatic 179, 3) := dk_184 0 179 (dk_at dksX3_run_0 21 rfl rfl)
theorem dX3_run_24 : decode cX3_run 24 = .ok (.ifCond .eq 18, 3) := dk_153 0 18 (dk_at dksX3_run_1 0 rfl rfl)
theorem dX3_run_27 : decode cX3_run 27 = .ok (.aload_n 0, 1) := dk_42 (dk_at dksX3_run_1 3 rfl rfl)
theorem dX3_run_28 : decode cX3_run 28 = .ok (.getfield 9, 3) := dk_180 0 9 (dk_at dksX3_run_1 4 rfl rfl)
theorem dX3_run_31 : decode cX3_run 31 = .ok (.bipush 6, 2) := dk_16 6 (dk_at dksX3_run_1 7 rfl rfl)
theorem dX3_run_33 : decode cX3_run 33 = .ok (.iaload, 1) := dk_46 (dk_at dksX3_run_1 9 rfl rfl)
theorem dX3_run_34 : decode cX3_run 34 = .ok (.iload_n 2, 1) := dk_28 (dk_at dksX3_run_1 10 rfl rfl)
theorem dX3_run_35 : decode cX3_run 35 = .ok (.iadd, 1) := dk_96 (dk_at dksX3_run_1 11 rfl rfl)
theorem dX3_run_36 : decode cX3_run 36 = .ok (.sipush 9999, 3) := dk_17 39 15 (dk_at dksX3_run_1 12 rfl rfl)
theorem dX3_run_39 : decode cX3_run 39 = .ok (.if_icmp .le 5, 3) := dk_164 0 5 (dk_at dksX3_run_1 15 rfl rfl)
theorem dX3_run_42 : decode cX3_run 42 = .ok (.iconst (-1), 1) := dk_2 (dk_at dksX3_run_1 18 rfl rfl)
theorem dX3_run_43 : decode cX3_run 43 = .ok (.ireturn, 1) := dk_172 (dk_at dksX3_run_1 19 rfl rfl)
theorem dX3_run_44 : decode cX3_run 44 = .ok (.aload_n 0, 1) := dk_42 (dk_at dksX3_run_1 20 rfl rfl)
theorem dX3_run_45 : decode cX3_run 45 = .ok (.iconst 0, 1) := dk_3 (dk_at dksX3_run_1 21 rfl rfl)
theorem dX3_run_46 : decode cX3_run 46 = .ok (.putfield 356, 3) := dk_181 1 100 (dk_at dksX3_run_2 0 rfl rfl)
theorem dX3_run_49 : decode cX3_run 49 = .ok (.iconst 0, 1) := dk_3 (dk_at dksX3_run_2 3 rfl rfl)
theorem dX3_run_50 : decode cX3_run 50 = .ok (.istore_n 3, 1) := dk_62 (dk_at dksX3_run_2 4 rfl rfl)
theorem dX3_run_51 : decode cX3_run 51 = .ok (.iconst 0, 1) := dk_3 (dk_at dksX3_run_2 5 rfl rfl)
theorem dX3_run_52 : decode cX3_run 52 = .ok (.istore 4, 2) := dk_54 4 (dk_at dksX3_run_2 6 rfl rfl)
theorem dX3_run_54 : decode cX3_run 54 = .ok (.iload 4, 2) := dk_21 4 (dk_at dksX3_run_2 8 rfl rfl)
theorem dX3_run_56 : decode cX3_run 56 = .ok (.iload_n 2, 1) := dk_28 (dk_at dksX3_run_2 10 rfl rfl)
theorem dX3_run_57 : decode cX3_run 57 = .ok (.if_icmp .ge 82, 3) := dk_162 0 82 (dk_at dksX3_run_2 11 rfl rfl)
theorem dX3_run_60 : decode cX3_run 60 = .ok (.iconst 0, 1) := dk_3 (dk_at dksX3_run_2 14 rfl rfl)
theorem dX3_run_61 : decode cX3_run 61 = .ok (.istore 5, 2) := dk_54 5 (dk_at dksX3_run_2 15 rfl rfl)
theorem dX3_run_63 : decode cX3_run 63 = .ok (.iload 5, 2) := dk_21 5 (dk_at dksX3_run_2 17 rfl rfl)
theorem dX3_run_65 : decode cX3_run 65 = .ok (.aload_n 0, 1) := dk_42 (dk_at dksX3_run_2 19 rfl rfl)
theorem dX3_run_66 : decode cX3_run 66 = .ok (.getfield 9, 3) := dk_180 0 9 (dk_at dksX3_run_2 20 rfl rfl)
theorem dX3_run_69 : decode cX3_run 69 = .ok (.iconst 2, 1) := dk_5 (dk_at dksX3_run_2 23 rfl rfl)
theorem dX3_run_70 : decode cX3_run 70 = .ok (.iaload, 1) := dk_46 (dk_at dksX3_run_3 0 rfl rfl)
theorem dX3_run_71 : decode cX3_run 71 = .ok (.if_icmp .ge 58, 3) := dk_162 0 58 (dk_at dksX3_run_3 1 rfl rfl)
theorem dX3_run_74 : decode cX3_run 74 = .ok (.aload_n 0, 1) := dk_42 (dk_at dksX3_run_3 4 rfl rfl)
theorem dX3_run_75 : decode cX3_run 75 = .ok (.getfield 25, 3) := dk_180 0 25 (dk_at dksX3_run_3 5 rfl rfl)
theorem dX3_run_78 : decode cX3_run 78 = .ok (.iload 5, 2) := dk_21 5 (dk_at dksX3_run_3 8 rfl rfl)
theorem dX3_run_80 : decode cX3_run 80 = .ok (.iaload, 1) := dk_46 (dk_at dksX3_run_3 10 rfl rfl)
theorem dX3_run_81 : decode cX3_run 81 = .ok (.ifCond .ne 13, 3) := dk_154 0 13 (dk_at dksX3_run_3 11 rfl rfl)
theorem dX3_run_84 : decode cX3_run 84 = .ok (.aload_n 0, 1) := dk_42 (dk_at dksX3_run_3 14 rfl rfl)
theorem dX3_run_85 : decode cX3_run 85 = .ok (.iload_n 1, 1) := dk_27 (dk_at dksX3_run_3 15 rfl rfl)
theorem dX3_run_86 : decode cX3_run 86 = .ok (.iload 5, 2) := dk_21 5 (dk_at dksX3_run_3 16 rfl rfl)
theorem dX3_run_88 : decode cX3_run 88 = .ok (.invokevirtual 545, 3) := dk_182 2 33 (dk_at dksX3_run_3 18 rfl rfl)
theorem dX3_run_91 : decode cX3_run 91 = .ok (.goto 4, 3) := dk_167 0 4 (dk_at dksX3_run_3 21 rfl rfl)
theorem dX3_run_94 : decode cX3_run 94 = .ok (.iconst (-1), 1) := dk_2 (dk_at dksX3_run_4 0 rfl rfl)
theorem dX3_run_95 : decode cX3_run 95 = .ok (.istore 6, 2) := dk_54 6 (dk_at dksX3_run_4 1 rfl rfl)
theorem dX3_run_97 : decode cX3_run 97 = .ok (.iload 6, 2) := dk_21 6 (dk_at dksX3_run_4 3 rfl rfl)
theorem dX3_run_99 : decode cX3_run 99 = .ok (.iconst (-1), 1) := dk_2 (dk_at dksX3_run_4 5 rfl rfl)
theorem dX3_run_100 : decode cX3_run 100 = .ok (.if_icmp .eq 23, 3) := dk_159 0 23 (dk_at dksX3_run_4 6 rfl rfl)
theorem dX3_run_103 : decode cX3_run 103 = .ok (.iload_n 3, 1) := dk_29 (dk_at dksX3_run_4 9 rfl rfl)
theorem dX3_run_104 : decode cX3_run 104 = .ok (.aload_n 0, 1) := dk_42 (dk_at dksX3_run_4 10 rfl rfl)
theorem dX3_run_105 : decode cX3_run 105 = .ok (.iload 5, 2) := dk_21 5 (dk_at dksX3_run_4 11 rfl rfl)
theorem dX3_run_107 : decode cX3_run 107 = .ok (.iload 6, 2) := dk_21 6 (dk_at dksX3_run_4 13 rfl rfl)
theorem dX3_run_109 : decode cX3_run 109 = .ok (.invokevirtual 518, 3) := dk_182 2 6 (dk_at dksX3_run_4 15 rfl rfl)
theorem dX3_run_112 : decode cX3_run 112 = .ok (.iconst 3, 1) := dk_6 (dk_at dksX3_run_4 18 rfl rfl)
theorem dX3_run_113 : decode cX3_run 113 = .ok (.if_icmp .ne 7, 3) := dk_160 0 7 (dk_at dksX3_run_4 19 rfl rfl)
theorem dX3_run_116 : decode cX3_run 116 = .ok (.iconst 1, 1) := dk_4 (dk_at dksX3_run_4 22 rfl rfl)
theorem dX3_run_117 : decode cX3_run 117 = .ok (.goto 4, 3) := dk_167 0 4 (dk_at dksX3_run_5 0 rfl rfl)
theorem dX3_run_120 : decode cX3_run 120 = .ok (.iconst 0, 1) := dk_3 (dk_at dksX3_run_5 3 rfl rfl)
theorem dX3_run_121 : decode cX3_run 121 = .ok (.iadd, 1) := dk_96 (dk_at dksX3_run_5 4 rfl rfl)
theorem dX3_run_122 : decode cX3_run 122 = .ok (.istore_n 3, 1) := dk_62 (dk_at dksX3_run_5 5 rfl rfl)
theorem dX3_run_123 : decode cX3_run 123 = .ok (.iinc 5 1, 3) := dk_132 5 1 (dk_at dksX3_run_5 6 rfl rfl)
theorem dX3_run_126 : decode cX3_run 126 = .ok (.goto (-63), 3) := dk_167 255 193 (dk_at dksX3_run_5 9 rfl rfl)
theorem dX3_run_129 : decode cX3_run 129 = .ok (.aload_n 0, 1) := dk_42 (dk_at dksX3_run_5 12 rfl rfl)
theorem dX3_run_130 : decode cX3_run 130 = .ok (.invokevirtual 527, 3) := dk_182 2 15 (dk_at dksX3_run_5 13 rfl rfl)
theorem dX3_run_133 : decode cX3_run 133 = .ok (.iinc 4 1, 3) := dk_132 4 1 (dk_at dksX3_run_5 16 rfl rfl)
theorem dX3_run_136 : decode cX3_run 136 = .ok (.goto (-82), 3) := dk_167 255 174 (dk_at dksX3_run_5 19 rfl rfl)
theorem dX3_run_139 : decode cX3_run 139 = .ok (.iload_n 3, 1) := dk_29 (dk_at dksX3_run_5 22 rfl rfl)
theorem dX3_run_140 : decode cX3_run 140 = .ok (.ireturn, 1) := dk_172 (dk_at dksX3_run_5 23 rfl rfl)
abbrev cX3_isRule : ByteArray := prog_21_method_61_code
def yX3_isRule : MethodName := ⟨RX3, "isRule", "(I)Z"⟩
def dkwX3_isRule_0 : List UInt8 := [27, 133, 9, 42, 180, 1, 171, 4, 100, 133, 184, 0, 179, 172]
abbrev dktX3_isRule_0 : List UInt8 := dkwX3_isRule_0 ++ []
theorem dksX3_isRule_0 : cX3_isRule.data.toList.drop 0 = dktX3_isRule_0 := by decide +kernel
theorem dX3_isRule_0 : decode cX3_isRule 0 = .ok (.iload_n 1, 1) := dk_27 (dk_at dksX3_isRule_0 0 rfl rfl)
theorem dX3_isRule_1 : decode cX3_isRule 1 = .ok (.i2l, 1) := dk_133 (dk_at dksX3_isRule_0 1 rfl rfl)
theorem dX3_isRule_2 : decode cX3_isRule 2 = .ok (.lconst 0, 1) := dk_9 (dk_at dksX3_isRule_0 2 rfl rfl)
theorem dX3_isRule_3 : decode cX3_isRule 3 = .ok (.aload_n 0, 1) := dk_42 (dk_at dksX3_isRule_0 3 rfl rfl)
theorem dX3_isRule_4 : decode cX3_isRule 4 = .ok (.getfield 427, 3) := dk_180 1 171 (dk_at dksX3_isRule_0 4 rfl rfl)
theorem dX3_isRule_7 : decode cX3_isRule 7 = .ok (.iconst 1, 1) := dk_4 (dk_at dksX3_isRule_0 7 rfl rfl)
theorem dX3_isRule_8 : decode cX3_isRule 8 = .ok (.isub, 1) := dk_100 (dk_at dksX3_isRule_0 8 rfl rfl)
theorem dX3_isRule_9 : decode cX3_isRule 9 = .ok (.i2l, 1) := dk_133 (dk_at dksX3_isRule_0 9 rfl rfl)
theorem dX3_isRule_10 : decode cX3_isRule 10 = .ok (.invokestatic 179, 3) := dk_184 0 179 (dk_at dksX3_isRule_0 10 rfl rfl)
theorem dX3_isRule_13 : decode cX3_isRule 13 = .ok (.ireturn, 1) := dk_172 (dk_at dksX3_isRule_0 13 rfl rfl)
abbrev cX3_sayingBy : ByteArray := prog_21_method_101_code
def yX3_sayingBy : MethodName := ⟨RX3, "sayingBy", "(II)I"⟩
def dkwX3_sayingBy_2 : List UInt8 := [132, 6, 1, 167, 255, 215, 29, 172]
abbrev dktX3_sayingBy_2 : List UInt8 := dkwX3_sayingBy_2 ++ []
def dkwX3_sayingBy_1 : List UInt8 := [42, 27, 182, 2, 24, 55, 7, 22, 7, 22, 4, 148, 158, 0, 10, 22, 7, 55, 4, 21, 6, 62]
abbrev dktX3_sayingBy_1 : List UInt8 := dkwX3_sayingBy_1 ++ dktX3_sayingBy_2
def dkwX3_sayingBy_0 : List UInt8 := [2, 62, 9, 55, 4, 3, 54, 6, 21, 6, 42, 180, 0, 183, 162, 0, 38, 42, 28, 21, 6, 182, 2, 21]
abbrev dktX3_sayingBy_0 : List UInt8 := dkwX3_sayingBy_0 ++ dktX3_sayingBy_1
theorem dksX3_sayingBy_0 : cX3_sayingBy.data.toList.drop 0 = dktX3_sayingBy_0 := by decide +kernel
theorem dksX3_sayingBy_1 : cX3_sayingBy.data.toList.drop 24 = dktX3_sayingBy_1 := dk_seg dksX3_sayingBy_0 24 rfl rfl
theorem dksX3_sayingBy_2 : cX3_sayingBy.data.toList.drop 46 = dktX3_sayingBy_2 := dk_seg dksX3_sayingBy_1 22 rfl rfl
theorem dX3_sayingBy_0 : decode cX3_sayingBy 0 = .ok (.iconst (-1), 1) := dk_2 (dk_at dksX3_sayingBy_0 0 rfl rfl)
theorem dX3_sayingBy_1 : decode cX3_sayingBy 1 = .ok (.istore_n 3, 1) := dk_62 (dk_at dksX3_sayingBy_0 1 rfl rfl)
theorem dX3_sayingBy_2 : decode cX3_sayingBy 2 = .ok (.lconst 0, 1) := dk_9 (dk_at dksX3_sayingBy_0 2 rfl rfl)
theorem dX3_sayingBy_3 : decode cX3_sayingBy 3 = .ok (.lstore 4, 2) := dk_55 4 (dk_at dksX3_sayingBy_0 3 rfl rfl)
theorem dX3_sayingBy_5 : decode cX3_sayingBy 5 = .ok (.iconst 0, 1) := dk_3 (dk_at dksX3_sayingBy_0 5 rfl rfl)
theorem dX3_sayingBy_6 : decode cX3_sayingBy 6 = .ok (.istore 6, 2) := dk_54 6 (dk_at dksX3_sayingBy_0 6 rfl rfl)
theorem dX3_sayingBy_8 : decode cX3_sayingBy 8 = .ok (.iload 6, 2) := dk_21 6 (dk_at dksX3_sayingBy_0 8 rfl rfl)
theorem dX3_sayingBy_10 : decode cX3_sayingBy 10 = .ok (.aload_n 0, 1) := dk_42 (dk_at dksX3_sayingBy_0 10 rfl rfl)
theorem dX3_sayingBy_11 : decode cX3_sayingBy 11 = .ok (.getfield 183, 3) := dk_180 0 183 (dk_at dksX3_sayingBy_0 11 rfl rfl)
theorem dX3_sayingBy_14 : decode cX3_sayingBy 14 = .ok (.if_icmp .ge 38, 3) := dk_162 0 38 (dk_at dksX3_sayingBy_0 14 rfl rfl)
theorem dX3_sayingBy_17 : decode cX3_sayingBy 17 = .ok (.aload_n 0, 1) := dk_42 (dk_at dksX3_sayingBy_0 17 rfl rfl)
theorem dX3_sayingBy_18 : decode cX3_sayingBy 18 = .ok (.iload_n 2, 1) := dk_28 (dk_at dksX3_sayingBy_0 18 rfl rfl)
theorem dX3_sayingBy_19 : decode cX3_sayingBy 19 = .ok (.iload 6, 2) := dk_21 6 (dk_at dksX3_sayingBy_0 19 rfl rfl)
theorem dX3_sayingBy_21 : decode cX3_sayingBy 21 = .ok (.invokevirtual 533, 3) := dk_182 2 21 (dk_at dksX3_sayingBy_0 21 rfl rfl)
theorem dX3_sayingBy_24 : decode cX3_sayingBy 24 = .ok (.aload_n 0, 1) := dk_42 (dk_at dksX3_sayingBy_1 0 rfl rfl)
theorem dX3_sayingBy_25 : decode cX3_sayingBy 25 = .ok (.iload_n 1, 1) := dk_27 (dk_at dksX3_sayingBy_1 1 rfl rfl)
theorem dX3_sayingBy_26 : decode cX3_sayingBy 26 = .ok (.invokevirtual 536, 3) := dk_182 2 24 (dk_at dksX3_sayingBy_1 2 rfl rfl)
theorem dX3_sayingBy_29 : decode cX3_sayingBy 29 = .ok (.lstore 7, 2) := dk_55 7 (dk_at dksX3_sayingBy_1 5 rfl rfl)
theorem dX3_sayingBy_31 : decode cX3_sayingBy 31 = .ok (.lload 7, 2) := dk_22 7 (dk_at dksX3_sayingBy_1 7 rfl rfl)
theorem dX3_sayingBy_33 : decode cX3_sayingBy 33 = .ok (.lload 4, 2) := dk_22 4 (dk_at dksX3_sayingBy_1 9 rfl rfl)
theorem dX3_sayingBy_35 : decode cX3_sayingBy 35 = .ok (.lcmp, 1) := dk_148 (dk_at dksX3_sayingBy_1 11 rfl rfl)
theorem dX3_sayingBy_36 : decode cX3_sayingBy 36 = .ok (.ifCond .le 10, 3) := dk_158 0 10 (dk_at dksX3_sayingBy_1 12 rfl rfl)
theorem dX3_sayingBy_39 : decode cX3_sayingBy 39 = .ok (.lload 7, 2) := dk_22 7 (dk_at dksX3_sayingBy_1 15 rfl rfl)
theorem dX3_sayingBy_41 : decode cX3_sayingBy 41 = .ok (.lstore 4, 2) := dk_55 4 (dk_at dksX3_sayingBy_1 17 rfl rfl)
theorem dX3_sayingBy_43 : decode cX3_sayingBy 43 = .ok (.iload 6, 2) := dk_21 6 (dk_at dksX3_sayingBy_1 19 rfl rfl)
theorem dX3_sayingBy_45 : decode cX3_sayingBy 45 = .ok (.istore_n 3, 1) := dk_62 (dk_at dksX3_sayingBy_1 21 rfl rfl)
theorem dX3_sayingBy_46 : decode cX3_sayingBy 46 = .ok (.iinc 6 1, 3) := dk_132 6 1 (dk_at dksX3_sayingBy_2 0 rfl rfl)
theorem dX3_sayingBy_49 : decode cX3_sayingBy 49 = .ok (.goto (-41), 3) := dk_167 255 215 (dk_at dksX3_sayingBy_2 3 rfl rfl)
theorem dX3_sayingBy_52 : decode cX3_sayingBy 52 = .ok (.iload_n 3, 1) := dk_29 (dk_at dksX3_sayingBy_2 6 rfl rfl)
theorem dX3_sayingBy_53 : decode cX3_sayingBy 53 = .ok (.ireturn, 1) := dk_172 (dk_at dksX3_sayingBy_2 7 rfl rfl)
abbrev cX3_asks : ByteArray := prog_21_method_100_code
def yX3_asks : MethodName := ⟨RX3, "asks", "(II)V"⟩
def dkwX3_asks_5 : List UInt8 := [42, 180, 0, 132, 16, 9, 42, 180, 0, 19, 27, 46, 133, 80, 177]
abbrev dktX3_asks_5 : List UInt8 := dkwX3_asks_5 ++ []
def dkwX3_asks_4 : List UInt8 := [16, 7, 42, 27, 182, 2, 18, 133, 80, 42, 180, 0, 132, 16, 8, 42, 180, 0, 9, 16, 6, 46, 133, 80]
abbrev dktX3_asks_4 : List UInt8 := dkwX3_asks_4 ++ dktX3_asks_5
def dkwX3_asks_3 : List UInt8 := [182, 1, 235, 133, 80, 42, 180, 0, 132, 16, 6, 42, 16, 6, 182, 1, 198, 133, 80, 42, 180, 0, 132]
abbrev dktX3_asks_3 : List UInt8 := dkwX3_asks_3 ++ dktX3_asks_4
def dkwX3_asks_2 : List UInt8 := [7, 42, 27, 28, 182, 1, 232, 153, 0, 7, 10, 167, 0, 4, 9, 80, 42, 180, 0, 132, 8, 42, 28]
abbrev dktX3_asks_2 : List UInt8 := dkwX3_asks_2 ++ dktX3_asks_3
def dkwX3_asks_1 : List UInt8 := [180, 0, 132, 5, 42, 180, 0, 16, 27, 46, 133, 80, 42, 180, 0, 132, 6, 28, 133, 80, 42, 180, 0, 132]
abbrev dktX3_asks_1 : List UInt8 := dkwX3_asks_1 ++ dktX3_asks_2
def dkwX3_asks_0 : List UInt8 := [42, 180, 0, 132, 3, 27, 133, 80, 42, 180, 0, 132, 4, 42, 180, 0, 13, 27, 46, 133, 80, 42]
abbrev dktX3_asks_0 : List UInt8 := dkwX3_asks_0 ++ dktX3_asks_1
theorem dksX3_asks_0 : cX3_asks.data.toList.drop 0 = dktX3_asks_0 := by decide +kernel
theorem dksX3_asks_1 : cX3_asks.data.toList.drop 22 = dktX3_asks_1 := dk_seg dksX3_asks_0 22 rfl rfl
theorem dksX3_asks_2 : cX3_asks.data.toList.drop 46 = dktX3_asks_2 := dk_seg dksX3_asks_1 24 rfl rfl
theorem dksX3_asks_3 : cX3_asks.data.toList.drop 69 = dktX3_asks_3 := dk_seg dksX3_asks_2 23 rfl rfl
theorem dksX3_asks_4 : cX3_asks.data.toList.drop 92 = dktX3_asks_4 := dk_seg dksX3_asks_3 23 rfl rfl
theorem dksX3_asks_5 : cX3_asks.data.toList.drop 116 = dktX3_asks_5 := dk_seg dksX3_asks_4 24 rfl rfl
theorem dX3_asks_0 : decode cX3_asks 0 = .ok (.aload_n 0, 1) := dk_42 (dk_at dksX3_asks_0 0 rfl rfl)
theorem dX3_asks_1 : decode cX3_asks 1 = .ok (.getfield 132, 3) := dk_180 0 132 (dk_at dksX3_asks_0 1 rfl rfl)
theorem dX3_asks_4 : decode cX3_asks 4 = .ok (.iconst 0, 1) := dk_3 (dk_at dksX3_asks_0 4 rfl rfl)
theorem dX3_asks_5 : decode cX3_asks 5 = .ok (.iload_n 1, 1) := dk_27 (dk_at dksX3_asks_0 5 rfl rfl)
theorem dX3_asks_6 : decode cX3_asks 6 = .ok (.i2l, 1) := dk_133 (dk_at dksX3_asks_0 6 rfl rfl)
theorem dX3_asks_7 : decode cX3_asks 7 = .ok (.lastore, 1) := dk_80 (dk_at dksX3_asks_0 7 rfl rfl)
theorem dX3_asks_8 : decode cX3_asks 8 = .ok (.aload_n 0, 1) := dk_42 (dk_at dksX3_asks_0 8 rfl rfl)
theorem dX3_asks_9 : decode cX3_asks 9 = .ok (.getfield 132, 3) := dk_180 0 132 (dk_at dksX3_asks_0 9 rfl rfl)
theorem dX3_asks_12 : decode cX3_asks 12 = .ok (.iconst 1, 1) := dk_4 (dk_at dksX3_asks_0 12 rfl rfl)
theorem dX3_asks_13 : decode cX3_asks 13 = .ok (.aload_n 0, 1) := dk_42 (dk_at dksX3_asks_0 13 rfl rfl)
theorem dX3_asks_14 : decode cX3_asks 14 = .ok (.getfield 13, 3) := dk_180 0 13 (dk_at dksX3_asks_0 14 rfl rfl)
theorem dX3_asks_17 : decode cX3_asks 17 = .ok (.iload_n 1, 1) := dk_27 (dk_at dksX3_asks_0 17 rfl rfl)
theorem dX3_asks_18 : decode cX3_asks 18 = .ok (.iaload, 1) := dk_46 (dk_at dksX3_asks_0 18 rfl rfl)
theorem dX3_asks_19 : decode cX3_asks 19 = .ok (.i2l, 1) := dk_133 (dk_at dksX3_asks_0 19 rfl rfl)
theorem dX3_asks_20 : decode cX3_asks 20 = .ok (.lastore, 1) := dk_80 (dk_at dksX3_asks_0 20 rfl rfl)
theorem dX3_asks_21 : decode cX3_asks 21 = .ok (.aload_n 0, 1) := dk_42 (dk_at dksX3_asks_0 21 rfl rfl)
theorem dX3_asks_22 : decode cX3_asks 22 = .ok (.getfield 132, 3) := dk_180 0 132 (dk_at dksX3_asks_1 0 rfl rfl)
theorem dX3_asks_25 : decode cX3_asks 25 = .ok (.iconst 2, 1) := dk_5 (dk_at dksX3_asks_1 3 rfl rfl)
theorem dX3_asks_26 : decode cX3_asks 26 = .ok (.aload_n 0, 1) := dk_42 (dk_at dksX3_asks_1 4 rfl rfl)
theorem dX3_asks_27 : decode cX3_asks 27 = .ok (.getfield 16, 3) := dk_180 0 16 (dk_at dksX3_asks_1 5 rfl rfl)
theorem dX3_asks_30 : decode cX3_asks 30 = .ok (.iload_n 1, 1) := dk_27 (dk_at dksX3_asks_1 8 rfl rfl)
theorem dX3_asks_31 : decode cX3_asks 31 = .ok (.iaload, 1) := dk_46 (dk_at dksX3_asks_1 9 rfl rfl)
theorem dX3_asks_32 : decode cX3_asks 32 = .ok (.i2l, 1) := dk_133 (dk_at dksX3_asks_1 10 rfl rfl)
theorem dX3_asks_33 : decode cX3_asks 33 = .ok (.lastore, 1) := dk_80 (dk_at dksX3_asks_1 11 rfl rfl)
theorem dX3_asks_34 : decode cX3_asks 34 = .ok (.aload_n 0, 1) := dk_42 (dk_at dksX3_asks_1 12 rfl rfl)
theorem dX3_asks_35 : decode cX3_asks 35 = .ok (.getfield 132, 3) := dk_180 0 132 (dk_at dksX3_asks_1 13 rfl rfl)
theorem dX3_asks_38 : decode cX3_asks 38 = .ok (.iconst 3, 1) := dk_6 (dk_at dksX3_asks_1 16 rfl rfl)
theorem dX3_asks_39 : decode cX3_asks 39 = .ok (.iload_n 2, 1) := dk_28 (dk_at dksX3_asks_1 17 rfl rfl)
theorem dX3_asks_40 : decode cX3_asks 40 = .ok (.i2l, 1) := dk_133 (dk_at dksX3_asks_1 18 rfl rfl)
theorem dX3_asks_41 : decode cX3_asks 41 = .ok (.lastore, 1) := dk_80 (dk_at dksX3_asks_1 19 rfl rfl)
theorem dX3_asks_42 : decode cX3_asks 42 = .ok (.aload_n 0, 1) := dk_42 (dk_at dksX3_asks_1 20 rfl rfl)
theorem dX3_asks_43 : decode cX3_asks 43 = .ok (.getfield 132, 3) := dk_180 0 132 (dk_at dksX3_asks_1 21 rfl rfl)
theorem dX3_asks_46 : decode cX3_asks 46 = .ok (.iconst 4, 1) := dk_7 (dk_at dksX3_asks_2 0 rfl rfl)
theorem dX3_asks_47 : decode cX3_asks 47 = .ok (.aload_n 0, 1) := dk_42 (dk_at dksX3_asks_2 1 rfl rfl)
theorem dX3_asks_48 : decode cX3_asks 48 = .ok (.iload_n 1, 1) := dk_27 (dk_at dksX3_asks_2 2 rfl rfl)
theorem dX3_asks_49 : decode cX3_asks 49 = .ok (.iload_n 2, 1) := dk_28 (dk_at dksX3_asks_2 3 rfl rfl)
theorem dX3_asks_50 : decode cX3_asks 50 = .ok (.invokevirtual 488, 3) := dk_182 1 232 (dk_at dksX3_asks_2 4 rfl rfl)
theorem dX3_asks_53 : decode cX3_asks 53 = .ok (.ifCond .eq 7, 3) := dk_153 0 7 (dk_at dksX3_asks_2 7 rfl rfl)
theorem dX3_asks_56 : decode cX3_asks 56 = .ok (.lconst 1, 1) := dk_10 (dk_at dksX3_asks_2 10 rfl rfl)
theorem dX3_asks_57 : decode cX3_asks 57 = .ok (.goto 4, 3) := dk_167 0 4 (dk_at dksX3_asks_2 11 rfl rfl)
theorem dX3_asks_60 : decode cX3_asks 60 = .ok (.lconst 0, 1) := dk_9 (dk_at dksX3_asks_2 14 rfl rfl)
theorem dX3_asks_61 : decode cX3_asks 61 = .ok (.lastore, 1) := dk_80 (dk_at dksX3_asks_2 15 rfl rfl)
theorem dX3_asks_62 : decode cX3_asks 62 = .ok (.aload_n 0, 1) := dk_42 (dk_at dksX3_asks_2 16 rfl rfl)
theorem dX3_asks_63 : decode cX3_asks 63 = .ok (.getfield 132, 3) := dk_180 0 132 (dk_at dksX3_asks_2 17 rfl rfl)
theorem dX3_asks_66 : decode cX3_asks 66 = .ok (.iconst 5, 1) := dk_8 (dk_at dksX3_asks_2 20 rfl rfl)
theorem dX3_asks_67 : decode cX3_asks 67 = .ok (.aload_n 0, 1) := dk_42 (dk_at dksX3_asks_2 21 rfl rfl)
theorem dX3_asks_68 : decode cX3_asks 68 = .ok (.iload_n 2, 1) := dk_28 (dk_at dksX3_asks_2 22 rfl rfl)
theorem dX3_asks_69 : decode cX3_asks 69 = .ok (.invokevirtual 491, 3) := dk_182 1 235 (dk_at dksX3_asks_3 0 rfl rfl)
theorem dX3_asks_72 : decode cX3_asks 72 = .ok (.i2l, 1) := dk_133 (dk_at dksX3_asks_3 3 rfl rfl)
theorem dX3_asks_73 : decode cX3_asks 73 = .ok (.lastore, 1) := dk_80 (dk_at dksX3_asks_3 4 rfl rfl)
theorem dX3_asks_74 : decode cX3_asks 74 = .ok (.aload_n 0, 1) := dk_42 (dk_at dksX3_asks_3 5 rfl rfl)
theorem dX3_asks_75 : decode cX3_asks 75 = .ok (.getfield 132, 3) := dk_180 0 132 (dk_at dksX3_asks_3 6 rfl rfl)
theorem dX3_asks_78 : decode cX3_asks 78 = .ok (.bipush 6, 2) := dk_16 6 (dk_at dksX3_asks_3 9 rfl rfl)
theorem dX3_asks_80 : decode cX3_asks 80 = .ok (.aload_n 0, 1) := dk_42 (dk_at dksX3_asks_3 11 rfl rfl)
theorem dX3_asks_81 : decode cX3_asks 81 = .ok (.bipush 6, 2) := dk_16 6 (dk_at dksX3_asks_3 12 rfl rfl)
theorem dX3_asks_83 : decode cX3_asks 83 = .ok (.invokevirtual 454, 3) := dk_182 1 198 (dk_at dksX3_asks_3 14 rfl rfl)
theorem dX3_asks_86 : decode cX3_asks 86 = .ok (.i2l, 1) := dk_133 (dk_at dksX3_asks_3 17 rfl rfl)
theorem dX3_asks_87 : decode cX3_asks 87 = .ok (.lastore, 1) := dk_80 (dk_at dksX3_asks_3 18 rfl rfl)
theorem dX3_asks_88 : decode cX3_asks 88 = .ok (.aload_n 0, 1) := dk_42 (dk_at dksX3_asks_3 19 rfl rfl)
theorem dX3_asks_89 : decode cX3_asks 89 = .ok (.getfield 132, 3) := dk_180 0 132 (dk_at dksX3_asks_3 20 rfl rfl)
theorem dX3_asks_92 : decode cX3_asks 92 = .ok (.bipush 7, 2) := dk_16 7 (dk_at dksX3_asks_4 0 rfl rfl)
theorem dX3_asks_94 : decode cX3_asks 94 = .ok (.aload_n 0, 1) := dk_42 (dk_at dksX3_asks_4 2 rfl rfl)
theorem dX3_asks_95 : decode cX3_asks 95 = .ok (.iload_n 1, 1) := dk_27 (dk_at dksX3_asks_4 3 rfl rfl)
theorem dX3_asks_96 : decode cX3_asks 96 = .ok (.invokevirtual 530, 3) := dk_182 2 18 (dk_at dksX3_asks_4 4 rfl rfl)
theorem dX3_asks_99 : decode cX3_asks 99 = .ok (.i2l, 1) := dk_133 (dk_at dksX3_asks_4 7 rfl rfl)
theorem dX3_asks_100 : decode cX3_asks 100 = .ok (.lastore, 1) := dk_80 (dk_at dksX3_asks_4 8 rfl rfl)
theorem dX3_asks_101 : decode cX3_asks 101 = .ok (.aload_n 0, 1) := dk_42 (dk_at dksX3_asks_4 9 rfl rfl)
theorem dX3_asks_102 : decode cX3_asks 102 = .ok (.getfield 132, 3) := dk_180 0 132 (dk_at dksX3_asks_4 10 rfl rfl)
theorem dX3_asks_105 : decode cX3_asks 105 = .ok (.bipush 8, 2) := dk_16 8 (dk_at dksX3_asks_4 13 rfl rfl)
theorem dX3_asks_107 : decode cX3_asks 107 = .ok (.aload_n 0, 1) := dk_42 (dk_at dksX3_asks_4 15 rfl rfl)
theorem dX3_asks_108 : decode cX3_asks 108 = .ok (.getfield 9, 3) := dk_180 0 9 (dk_at dksX3_asks_4 16 rfl rfl)
theorem dX3_asks_111 : decode cX3_asks 111 = .ok (.bipush 6, 2) := dk_16 6 (dk_at dksX3_asks_4 19 rfl rfl)
theorem dX3_asks_113 : decode cX3_asks 113 = .ok (.iaload, 1) := dk_46 (dk_at dksX3_asks_4 21 rfl rfl)
theorem dX3_asks_114 : decode cX3_asks 114 = .ok (.i2l, 1) := dk_133 (dk_at dksX3_asks_4 22 rfl rfl)
theorem dX3_asks_115 : decode cX3_asks 115 = .ok (.lastore, 1) := dk_80 (dk_at dksX3_asks_4 23 rfl rfl)
theorem dX3_asks_116 : decode cX3_asks 116 = .ok (.aload_n 0, 1) := dk_42 (dk_at dksX3_asks_5 0 rfl rfl)
theorem dX3_asks_117 : decode cX3_asks 117 = .ok (.getfield 132, 3) := dk_180 0 132 (dk_at dksX3_asks_5 1 rfl rfl)
theorem dX3_asks_120 : decode cX3_asks 120 = .ok (.bipush 9, 2) := dk_16 9 (dk_at dksX3_asks_5 4 rfl rfl)
theorem dX3_asks_122 : decode cX3_asks 122 = .ok (.aload_n 0, 1) := dk_42 (dk_at dksX3_asks_5 6 rfl rfl)
theorem dX3_asks_123 : decode cX3_asks 123 = .ok (.getfield 19, 3) := dk_180 0 19 (dk_at dksX3_asks_5 7 rfl rfl)
theorem dX3_asks_126 : decode cX3_asks 126 = .ok (.iload_n 1, 1) := dk_27 (dk_at dksX3_asks_5 10 rfl rfl)
theorem dX3_asks_127 : decode cX3_asks 127 = .ok (.iaload, 1) := dk_46 (dk_at dksX3_asks_5 11 rfl rfl)
theorem dX3_asks_128 : decode cX3_asks 128 = .ok (.i2l, 1) := dk_133 (dk_at dksX3_asks_5 12 rfl rfl)
theorem dX3_asks_129 : decode cX3_asks 129 = .ok (.lastore, 1) := dk_80 (dk_at dksX3_asks_5 13 rfl rfl)
theorem dX3_asks_130 : decode cX3_asks 130 = .ok (.return_, 1) := dk_177 (dk_at dksX3_asks_5 14 rfl rfl)
abbrev cX3_others : ByteArray := prog_21_method_99_code
def yX3_others : MethodName := ⟨RX3, "others", "(I)I"⟩
def dkwX3_others_2 : List UInt8 := [28, 172]
abbrev dktX3_others_2 : List UInt8 := dkwX3_others_2 ++ []
def dkwX3_others_1 : List UInt8 := [29, 46, 42, 180, 0, 13, 27, 46, 160, 0, 7, 4, 167, 0, 4, 3, 96, 61, 132, 3, 1, 167, 255, 215]
abbrev dktX3_others_1 : List UInt8 := dkwX3_others_1 ++ dktX3_others_2
def dkwX3_others_0 : List UInt8 := [3, 61, 3, 62, 29, 42, 180, 0, 9, 5, 46, 162, 0, 37, 28, 29, 27, 159, 0, 22, 42, 180, 0, 13]
abbrev dktX3_others_0 : List UInt8 := dkwX3_others_0 ++ dktX3_others_1
theorem dksX3_others_0 : cX3_others.data.toList.drop 0 = dktX3_others_0 := by decide +kernel
theorem dksX3_others_1 : cX3_others.data.toList.drop 24 = dktX3_others_1 := dk_seg dksX3_others_0 24 rfl rfl
theorem dksX3_others_2 : cX3_others.data.toList.drop 48 = dktX3_others_2 := dk_seg dksX3_others_1 24 rfl rfl
theorem dX3_others_0 : decode cX3_others 0 = .ok (.iconst 0, 1) := dk_3 (dk_at dksX3_others_0 0 rfl rfl)
theorem dX3_others_1 : decode cX3_others 1 = .ok (.istore_n 2, 1) := dk_61 (dk_at dksX3_others_0 1 rfl rfl)
theorem dX3_others_2 : decode cX3_others 2 = .ok (.iconst 0, 1) := dk_3 (dk_at dksX3_others_0 2 rfl rfl)
theorem dX3_others_3 : decode cX3_others 3 = .ok (.istore_n 3, 1) := dk_62 (dk_at dksX3_others_0 3 rfl rfl)
theorem dX3_others_4 : decode cX3_others 4 = .ok (.iload_n 3, 1) := dk_29 (dk_at dksX3_others_0 4 rfl rfl)
theorem dX3_others_5 : decode cX3_others 5 = .ok (.aload_n 0, 1) := dk_42 (dk_at dksX3_others_0 5 rfl rfl)
theorem dX3_others_6 : decode cX3_others 6 = .ok (.getfield 9, 3) := dk_180 0 9 (dk_at dksX3_others_0 6 rfl rfl)
theorem dX3_others_9 : decode cX3_others 9 = .ok (.iconst 2, 1) := dk_5 (dk_at dksX3_others_0 9 rfl rfl)
theorem dX3_others_10 : decode cX3_others 10 = .ok (.iaload, 1) := dk_46 (dk_at dksX3_others_0 10 rfl rfl)
theorem dX3_others_11 : decode cX3_others 11 = .ok (.if_icmp .ge 37, 3) := dk_162 0 37 (dk_at dksX3_others_0 11 rfl rfl)
theorem dX3_others_14 : decode cX3_others 14 = .ok (.iload_n 2, 1) := dk_28 (dk_at dksX3_others_0 14 rfl rfl)
theorem dX3_others_15 : decode cX3_others 15 = .ok (.iload_n 3, 1) := dk_29 (dk_at dksX3_others_0 15 rfl rfl)
theorem dX3_others_16 : decode cX3_others 16 = .ok (.iload_n 1, 1) := dk_27 (dk_at dksX3_others_0 16 rfl rfl)
theorem dX3_others_17 : decode cX3_others 17 = .ok (.if_icmp .eq 22, 3) := dk_159 0 22 (dk_at dksX3_others_0 17 rfl rfl)
theorem dX3_others_20 : decode cX3_others 20 = .ok (.aload_n 0, 1) := dk_42 (dk_at dksX3_others_0 20 rfl rfl)
theorem dX3_others_21 : decode cX3_others 21 = .ok (.getfield 13, 3) := dk_180 0 13 (dk_at dksX3_others_0 21 rfl rfl)
theorem dX3_others_24 : decode cX3_others 24 = .ok (.iload_n 3, 1) := dk_29 (dk_at dksX3_others_1 0 rfl rfl)
theorem dX3_others_25 : decode cX3_others 25 = .ok (.iaload, 1) := dk_46 (dk_at dksX3_others_1 1 rfl rfl)
theorem dX3_others_26 : decode cX3_others 26 = .ok (.aload_n 0, 1) := dk_42 (dk_at dksX3_others_1 2 rfl rfl)
theorem dX3_others_27 : decode cX3_others 27 = .ok (.getfield 13, 3) := dk_180 0 13 (dk_at dksX3_others_1 3 rfl rfl)
theorem dX3_others_30 : decode cX3_others 30 = .ok (.iload_n 1, 1) := dk_27 (dk_at dksX3_others_1 6 rfl rfl)
theorem dX3_others_31 : decode cX3_others 31 = .ok (.iaload, 1) := dk_46 (dk_at dksX3_others_1 7 rfl rfl)
theorem dX3_others_32 : decode cX3_others 32 = .ok (.if_icmp .ne 7, 3) := dk_160 0 7 (dk_at dksX3_others_1 8 rfl rfl)
theorem dX3_others_35 : decode cX3_others 35 = .ok (.iconst 1, 1) := dk_4 (dk_at dksX3_others_1 11 rfl rfl)
theorem dX3_others_36 : decode cX3_others 36 = .ok (.goto 4, 3) := dk_167 0 4 (dk_at dksX3_others_1 12 rfl rfl)
theorem dX3_others_39 : decode cX3_others 39 = .ok (.iconst 0, 1) := dk_3 (dk_at dksX3_others_1 15 rfl rfl)
theorem dX3_others_40 : decode cX3_others 40 = .ok (.iadd, 1) := dk_96 (dk_at dksX3_others_1 16 rfl rfl)
theorem dX3_others_41 : decode cX3_others 41 = .ok (.istore_n 2, 1) := dk_61 (dk_at dksX3_others_1 17 rfl rfl)
theorem dX3_others_42 : decode cX3_others 42 = .ok (.iinc 3 1, 3) := dk_132 3 1 (dk_at dksX3_others_1 18 rfl rfl)
theorem dX3_others_45 : decode cX3_others 45 = .ok (.goto (-41), 3) := dk_167 255 215 (dk_at dksX3_others_1 21 rfl rfl)
theorem dX3_others_48 : decode cX3_others 48 = .ok (.iload_n 2, 1) := dk_28 (dk_at dksX3_others_2 0 rfl rfl)
theorem dX3_others_49 : decode cX3_others 49 = .ok (.ireturn, 1) := dk_172 (dk_at dksX3_others_2 1 rfl rfl)
abbrev cX3_wanted : ByteArray := prog_21_method_60_code
def yX3_wanted : MethodName := ⟨RX3, "wanted", "(I)J"⟩
def dkwX3_wanted_3 : List UInt8 := [182, 1, 177, 173, 132, 2, 1, 167, 255, 183, 9, 173]
abbrev dktX3_wanted_3 : List UInt8 := dkwX3_wanted_3 ++ []
def dkwX3_wanted_2 : List UInt8 := [46, 182, 1, 177, 10, 148, 154, 0, 21, 42, 27, 42, 180, 0, 105, 28, 46, 42, 180, 0, 108, 28, 46]
abbrev dktX3_wanted_2 : List UInt8 := dkwX3_wanted_2 ++ dktX3_wanted_3
def dkwX3_wanted_1 : List UInt8 := [28, 46, 42, 180, 0, 111, 28, 46, 159, 0, 25, 42, 27, 42, 180, 0, 108, 28, 46, 42, 180, 0, 111, 28]
abbrev dktX3_wanted_1 : List UInt8 := dkwX3_wanted_1 ++ dktX3_wanted_2
def dkwX3_wanted_0 : List UInt8 := [16, 12, 27, 104, 61, 28, 16, 12, 27, 104, 42, 180, 0, 102, 27, 46, 96, 162, 0, 64, 42, 180, 0, 108]
abbrev dktX3_wanted_0 : List UInt8 := dkwX3_wanted_0 ++ dktX3_wanted_1
theorem dksX3_wanted_0 : cX3_wanted.data.toList.drop 0 = dktX3_wanted_0 := by decide +kernel
theorem dksX3_wanted_1 : cX3_wanted.data.toList.drop 24 = dktX3_wanted_1 := dk_seg dksX3_wanted_0 24 rfl rfl
theorem dksX3_wanted_2 : cX3_wanted.data.toList.drop 48 = dktX3_wanted_2 := dk_seg dksX3_wanted_1 24 rfl rfl
theorem dksX3_wanted_3 : cX3_wanted.data.toList.drop 71 = dktX3_wanted_3 := dk_seg dksX3_wanted_2 23 rfl rfl
theorem dX3_wanted_0 : decode cX3_wanted 0 = .ok (.bipush 12, 2) := dk_16 12 (dk_at dksX3_wanted_0 0 rfl rfl)
theorem dX3_wanted_2 : decode cX3_wanted 2 = .ok (.iload_n 1, 1) := dk_27 (dk_at dksX3_wanted_0 2 rfl rfl)
theorem dX3_wanted_3 : decode cX3_wanted 3 = .ok (.imul, 1) := dk_104 (dk_at dksX3_wanted_0 3 rfl rfl)
theorem dX3_wanted_4 : decode cX3_wanted 4 = .ok (.istore_n 2, 1) := dk_61 (dk_at dksX3_wanted_0 4 rfl rfl)
theorem dX3_wanted_5 : decode cX3_wanted 5 = .ok (.iload_n 2, 1) := dk_28 (dk_at dksX3_wanted_0 5 rfl rfl)
theorem dX3_wanted_6 : decode cX3_wanted 6 = .ok (.bipush 12, 2) := dk_16 12 (dk_at dksX3_wanted_0 6 rfl rfl)
theorem dX3_wanted_8 : decode cX3_wanted 8 = .ok (.iload_n 1, 1) := dk_27 (dk_at dksX3_wanted_0 8 rfl rfl)
theorem dX3_wanted_9 : decode cX3_wanted 9 = .ok (.imul, 1) := dk_104 (dk_at dksX3_wanted_0 9 rfl rfl)
theorem dX3_wanted_10 : decode cX3_wanted 10 = .ok (.aload_n 0, 1) := dk_42 (dk_at dksX3_wanted_0 10 rfl rfl)
theorem dX3_wanted_11 : decode cX3_wanted 11 = .ok (.getfield 102, 3) := dk_180 0 102 (dk_at dksX3_wanted_0 11 rfl rfl)
theorem dX3_wanted_14 : decode cX3_wanted 14 = .ok (.iload_n 1, 1) := dk_27 (dk_at dksX3_wanted_0 14 rfl rfl)
theorem dX3_wanted_15 : decode cX3_wanted 15 = .ok (.iaload, 1) := dk_46 (dk_at dksX3_wanted_0 15 rfl rfl)
theorem dX3_wanted_16 : decode cX3_wanted 16 = .ok (.iadd, 1) := dk_96 (dk_at dksX3_wanted_0 16 rfl rfl)
theorem dX3_wanted_17 : decode cX3_wanted 17 = .ok (.if_icmp .ge 64, 3) := dk_162 0 64 (dk_at dksX3_wanted_0 17 rfl rfl)
theorem dX3_wanted_20 : decode cX3_wanted 20 = .ok (.aload_n 0, 1) := dk_42 (dk_at dksX3_wanted_0 20 rfl rfl)
theorem dX3_wanted_21 : decode cX3_wanted 21 = .ok (.getfield 108, 3) := dk_180 0 108 (dk_at dksX3_wanted_0 21 rfl rfl)
theorem dX3_wanted_24 : decode cX3_wanted 24 = .ok (.iload_n 2, 1) := dk_28 (dk_at dksX3_wanted_1 0 rfl rfl)
theorem dX3_wanted_25 : decode cX3_wanted 25 = .ok (.iaload, 1) := dk_46 (dk_at dksX3_wanted_1 1 rfl rfl)
theorem dX3_wanted_26 : decode cX3_wanted 26 = .ok (.aload_n 0, 1) := dk_42 (dk_at dksX3_wanted_1 2 rfl rfl)
theorem dX3_wanted_27 : decode cX3_wanted 27 = .ok (.getfield 111, 3) := dk_180 0 111 (dk_at dksX3_wanted_1 3 rfl rfl)
theorem dX3_wanted_30 : decode cX3_wanted 30 = .ok (.iload_n 2, 1) := dk_28 (dk_at dksX3_wanted_1 6 rfl rfl)
theorem dX3_wanted_31 : decode cX3_wanted 31 = .ok (.iaload, 1) := dk_46 (dk_at dksX3_wanted_1 7 rfl rfl)
theorem dX3_wanted_32 : decode cX3_wanted 32 = .ok (.if_icmp .eq 25, 3) := dk_159 0 25 (dk_at dksX3_wanted_1 8 rfl rfl)
theorem dX3_wanted_35 : decode cX3_wanted 35 = .ok (.aload_n 0, 1) := dk_42 (dk_at dksX3_wanted_1 11 rfl rfl)
theorem dX3_wanted_36 : decode cX3_wanted 36 = .ok (.iload_n 1, 1) := dk_27 (dk_at dksX3_wanted_1 12 rfl rfl)
theorem dX3_wanted_37 : decode cX3_wanted 37 = .ok (.aload_n 0, 1) := dk_42 (dk_at dksX3_wanted_1 13 rfl rfl)
theorem dX3_wanted_38 : decode cX3_wanted 38 = .ok (.getfield 108, 3) := dk_180 0 108 (dk_at dksX3_wanted_1 14 rfl rfl)
theorem dX3_wanted_41 : decode cX3_wanted 41 = .ok (.iload_n 2, 1) := dk_28 (dk_at dksX3_wanted_1 17 rfl rfl)
theorem dX3_wanted_42 : decode cX3_wanted 42 = .ok (.iaload, 1) := dk_46 (dk_at dksX3_wanted_1 18 rfl rfl)
theorem dX3_wanted_43 : decode cX3_wanted 43 = .ok (.aload_n 0, 1) := dk_42 (dk_at dksX3_wanted_1 19 rfl rfl)
theorem dX3_wanted_44 : decode cX3_wanted 44 = .ok (.getfield 111, 3) := dk_180 0 111 (dk_at dksX3_wanted_1 20 rfl rfl)
theorem dX3_wanted_47 : decode cX3_wanted 47 = .ok (.iload_n 2, 1) := dk_28 (dk_at dksX3_wanted_1 23 rfl rfl)
theorem dX3_wanted_48 : decode cX3_wanted 48 = .ok (.iaload, 1) := dk_46 (dk_at dksX3_wanted_2 0 rfl rfl)
theorem dX3_wanted_49 : decode cX3_wanted 49 = .ok (.invokevirtual 433, 3) := dk_182 1 177 (dk_at dksX3_wanted_2 1 rfl rfl)
theorem dX3_wanted_52 : decode cX3_wanted 52 = .ok (.lconst 1, 1) := dk_10 (dk_at dksX3_wanted_2 4 rfl rfl)
theorem dX3_wanted_53 : decode cX3_wanted 53 = .ok (.lcmp, 1) := dk_148 (dk_at dksX3_wanted_2 5 rfl rfl)
theorem dX3_wanted_54 : decode cX3_wanted 54 = .ok (.ifCond .ne 21, 3) := dk_154 0 21 (dk_at dksX3_wanted_2 6 rfl rfl)
theorem dX3_wanted_57 : decode cX3_wanted 57 = .ok (.aload_n 0, 1) := dk_42 (dk_at dksX3_wanted_2 9 rfl rfl)
theorem dX3_wanted_58 : decode cX3_wanted 58 = .ok (.iload_n 1, 1) := dk_27 (dk_at dksX3_wanted_2 10 rfl rfl)
theorem dX3_wanted_59 : decode cX3_wanted 59 = .ok (.aload_n 0, 1) := dk_42 (dk_at dksX3_wanted_2 11 rfl rfl)
theorem dX3_wanted_60 : decode cX3_wanted 60 = .ok (.getfield 105, 3) := dk_180 0 105 (dk_at dksX3_wanted_2 12 rfl rfl)
theorem dX3_wanted_63 : decode cX3_wanted 63 = .ok (.iload_n 2, 1) := dk_28 (dk_at dksX3_wanted_2 15 rfl rfl)
theorem dX3_wanted_64 : decode cX3_wanted 64 = .ok (.iaload, 1) := dk_46 (dk_at dksX3_wanted_2 16 rfl rfl)
theorem dX3_wanted_65 : decode cX3_wanted 65 = .ok (.aload_n 0, 1) := dk_42 (dk_at dksX3_wanted_2 17 rfl rfl)
theorem dX3_wanted_66 : decode cX3_wanted 66 = .ok (.getfield 108, 3) := dk_180 0 108 (dk_at dksX3_wanted_2 18 rfl rfl)
theorem dX3_wanted_69 : decode cX3_wanted 69 = .ok (.iload_n 2, 1) := dk_28 (dk_at dksX3_wanted_2 21 rfl rfl)
theorem dX3_wanted_70 : decode cX3_wanted 70 = .ok (.iaload, 1) := dk_46 (dk_at dksX3_wanted_2 22 rfl rfl)
theorem dX3_wanted_71 : decode cX3_wanted 71 = .ok (.invokevirtual 433, 3) := dk_182 1 177 (dk_at dksX3_wanted_3 0 rfl rfl)
theorem dX3_wanted_74 : decode cX3_wanted 74 = .ok (.lreturn, 1) := dk_173 (dk_at dksX3_wanted_3 3 rfl rfl)
theorem dX3_wanted_75 : decode cX3_wanted 75 = .ok (.iinc 2 1, 3) := dk_132 2 1 (dk_at dksX3_wanted_3 4 rfl rfl)
theorem dX3_wanted_78 : decode cX3_wanted 78 = .ok (.goto (-73), 3) := dk_167 255 183 (dk_at dksX3_wanted_3 7 rfl rfl)
theorem dX3_wanted_81 : decode cX3_wanted 81 = .ok (.lconst 0, 1) := dk_9 (dk_at dksX3_wanted_3 10 rfl rfl)
theorem dX3_wanted_82 : decode cX3_wanted 82 = .ok (.lreturn, 1) := dk_173 (dk_at dksX3_wanted_3 11 rfl rfl)
abbrev cX3_answer : ByteArray := prog_21_method_64_code
def yX3_answer : MethodName := ⟨RX3, "answer", "(III)J"⟩
def dkwX3_answer_6 : List UInt8 := [47, 184, 1, 185, 80, 132, 5, 1, 167, 255, 112, 42, 180, 0, 136, 3, 47, 173]
abbrev dktX3_answer_6 : List UInt8 := dkwX3_answer_6 ++ []
def dkwX3_answer_5 : List UInt8 := [180, 0, 136, 21, 4, 4, 100, 21, 6, 42, 180, 0, 136, 21, 4, 4, 100, 47, 42, 180, 0, 136, 21, 4]
abbrev dktX3_answer_5 : List UInt8 := dkwX3_answer_5 ++ dktX3_answer_6
def dkwX3_answer_4 : List UInt8 := [21, 4, 4, 100, 10, 42, 180, 0, 136, 21, 4, 4, 100, 47, 101, 80, 167, 0, 36, 132, 4, 255, 42]
abbrev dktX3_answer_4 : List UInt8 := dkwX3_answer_4 ++ dktX3_answer_5
def dkwX3_answer_3 : List UInt8 := [180, 0, 132, 21, 7, 47, 80, 132, 4, 1, 167, 0, 66, 21, 6, 16, 9, 160, 0, 26, 42, 180, 0, 136]
abbrev dktX3_answer_3 : List UInt8 := dkwX3_answer_3 ++ dktX3_answer_4
def dkwX3_answer_2 : List UInt8 := [21, 6, 4, 160, 0, 34, 42, 180, 0, 136, 21, 4, 21, 6, 154, 0, 9, 21, 7, 133, 167, 0, 10, 42]
abbrev dktX3_answer_2 : List UInt8 := dkwX3_answer_2 ++ dktX3_answer_3
def dkwX3_answer_1 : List UInt8 := [46, 54, 6, 42, 180, 0, 99, 17, 1, 44, 27, 104, 21, 5, 96, 46, 54, 7, 21, 6, 153, 0, 9]
abbrev dktX3_answer_1 : List UInt8 := dkwX3_answer_1 ++ dktX3_answer_2
def dkwX3_answer_0 : List UInt8 := [3, 54, 4, 28, 54, 5, 21, 5, 29, 162, 0, 144, 42, 180, 0, 96, 17, 1, 44, 27, 104, 21, 5, 96]
abbrev dktX3_answer_0 : List UInt8 := dkwX3_answer_0 ++ dktX3_answer_1
theorem dksX3_answer_0 : cX3_answer.data.toList.drop 0 = dktX3_answer_0 := by decide +kernel
theorem dksX3_answer_1 : cX3_answer.data.toList.drop 24 = dktX3_answer_1 := dk_seg dksX3_answer_0 24 rfl rfl
theorem dksX3_answer_2 : cX3_answer.data.toList.drop 47 = dktX3_answer_2 := dk_seg dksX3_answer_1 23 rfl rfl
theorem dksX3_answer_3 : cX3_answer.data.toList.drop 71 = dktX3_answer_3 := dk_seg dksX3_answer_2 24 rfl rfl
theorem dksX3_answer_4 : cX3_answer.data.toList.drop 95 = dktX3_answer_4 := dk_seg dksX3_answer_3 24 rfl rfl
theorem dksX3_answer_5 : cX3_answer.data.toList.drop 118 = dktX3_answer_5 := dk_seg dksX3_answer_4 23 rfl rfl
theorem dksX3_answer_6 : cX3_answer.data.toList.drop 142 = dktX3_answer_6 := dk_seg dksX3_answer_5 24 rfl rfl
theorem dX3_answer_0 : decode cX3_answer 0 = .ok (.iconst 0, 1) := dk_3 (dk_at dksX3_answer_0 0 rfl rfl)
theorem dX3_answer_1 : decode cX3_answer 1 = .ok (.istore 4, 2) := dk_54 4 (dk_at dksX3_answer_0 1 rfl rfl)
theorem dX3_answer_3 : decode cX3_answer 3 = .ok (.iload_n 2, 1) := dk_28 (dk_at dksX3_answer_0 3 rfl rfl)
theorem dX3_answer_4 : decode cX3_answer 4 = .ok (.istore 5, 2) := dk_54 5 (dk_at dksX3_answer_0 4 rfl rfl)
theorem dX3_answer_6 : decode cX3_answer 6 = .ok (.iload 5, 2) := dk_21 5 (dk_at dksX3_answer_0 6 rfl rfl)
theorem dX3_answer_8 : decode cX3_answer 8 = .ok (.iload_n 3, 1) := dk_29 (dk_at dksX3_answer_0 8 rfl rfl)
theorem dX3_answer_9 : decode cX3_answer 9 = .ok (.if_icmp .ge 144, 3) := dk_162 0 144 (dk_at dksX3_answer_0 9 rfl rfl)
theorem dX3_answer_12 : decode cX3_answer 12 = .ok (.aload_n 0, 1) := dk_42 (dk_at dksX3_answer_0 12 rfl rfl)
theorem dX3_answer_13 : decode cX3_answer 13 = .ok (.getfield 96, 3) := dk_180 0 96 (dk_at dksX3_answer_0 13 rfl rfl)
theorem dX3_answer_16 : decode cX3_answer 16 = .ok (.sipush 300, 3) := dk_17 1 44 (dk_at dksX3_answer_0 16 rfl rfl)
theorem dX3_answer_19 : decode cX3_answer 19 = .ok (.iload_n 1, 1) := dk_27 (dk_at dksX3_answer_0 19 rfl rfl)
theorem dX3_answer_20 : decode cX3_answer 20 = .ok (.imul, 1) := dk_104 (dk_at dksX3_answer_0 20 rfl rfl)
theorem dX3_answer_21 : decode cX3_answer 21 = .ok (.iload 5, 2) := dk_21 5 (dk_at dksX3_answer_0 21 rfl rfl)
theorem dX3_answer_23 : decode cX3_answer 23 = .ok (.iadd, 1) := dk_96 (dk_at dksX3_answer_0 23 rfl rfl)
theorem dX3_answer_24 : decode cX3_answer 24 = .ok (.iaload, 1) := dk_46 (dk_at dksX3_answer_1 0 rfl rfl)
theorem dX3_answer_25 : decode cX3_answer 25 = .ok (.istore 6, 2) := dk_54 6 (dk_at dksX3_answer_1 1 rfl rfl)
theorem dX3_answer_27 : decode cX3_answer 27 = .ok (.aload_n 0, 1) := dk_42 (dk_at dksX3_answer_1 3 rfl rfl)
theorem dX3_answer_28 : decode cX3_answer 28 = .ok (.getfield 99, 3) := dk_180 0 99 (dk_at dksX3_answer_1 4 rfl rfl)
theorem dX3_answer_31 : decode cX3_answer 31 = .ok (.sipush 300, 3) := dk_17 1 44 (dk_at dksX3_answer_1 7 rfl rfl)
theorem dX3_answer_34 : decode cX3_answer 34 = .ok (.iload_n 1, 1) := dk_27 (dk_at dksX3_answer_1 10 rfl rfl)
theorem dX3_answer_35 : decode cX3_answer 35 = .ok (.imul, 1) := dk_104 (dk_at dksX3_answer_1 11 rfl rfl)
theorem dX3_answer_36 : decode cX3_answer 36 = .ok (.iload 5, 2) := dk_21 5 (dk_at dksX3_answer_1 12 rfl rfl)
theorem dX3_answer_38 : decode cX3_answer 38 = .ok (.iadd, 1) := dk_96 (dk_at dksX3_answer_1 14 rfl rfl)
theorem dX3_answer_39 : decode cX3_answer 39 = .ok (.iaload, 1) := dk_46 (dk_at dksX3_answer_1 15 rfl rfl)
theorem dX3_answer_40 : decode cX3_answer 40 = .ok (.istore 7, 2) := dk_54 7 (dk_at dksX3_answer_1 16 rfl rfl)
theorem dX3_answer_42 : decode cX3_answer 42 = .ok (.iload 6, 2) := dk_21 6 (dk_at dksX3_answer_1 18 rfl rfl)
theorem dX3_answer_44 : decode cX3_answer 44 = .ok (.ifCond .eq 9, 3) := dk_153 0 9 (dk_at dksX3_answer_1 20 rfl rfl)
theorem dX3_answer_47 : decode cX3_answer 47 = .ok (.iload 6, 2) := dk_21 6 (dk_at dksX3_answer_2 0 rfl rfl)
theorem dX3_answer_49 : decode cX3_answer 49 = .ok (.iconst 1, 1) := dk_4 (dk_at dksX3_answer_2 2 rfl rfl)
theorem dX3_answer_50 : decode cX3_answer 50 = .ok (.if_icmp .ne 34, 3) := dk_160 0 34 (dk_at dksX3_answer_2 3 rfl rfl)
theorem dX3_answer_53 : decode cX3_answer 53 = .ok (.aload_n 0, 1) := dk_42 (dk_at dksX3_answer_2 6 rfl rfl)
theorem dX3_answer_54 : decode cX3_answer 54 = .ok (.getfield 136, 3) := dk_180 0 136 (dk_at dksX3_answer_2 7 rfl rfl)
theorem dX3_answer_57 : decode cX3_answer 57 = .ok (.iload 4, 2) := dk_21 4 (dk_at dksX3_answer_2 10 rfl rfl)
theorem dX3_answer_59 : decode cX3_answer 59 = .ok (.iload 6, 2) := dk_21 6 (dk_at dksX3_answer_2 12 rfl rfl)
theorem dX3_answer_61 : decode cX3_answer 61 = .ok (.ifCond .ne 9, 3) := dk_154 0 9 (dk_at dksX3_answer_2 14 rfl rfl)
theorem dX3_answer_64 : decode cX3_answer 64 = .ok (.iload 7, 2) := dk_21 7 (dk_at dksX3_answer_2 17 rfl rfl)
theorem dX3_answer_66 : decode cX3_answer 66 = .ok (.i2l, 1) := dk_133 (dk_at dksX3_answer_2 19 rfl rfl)
theorem dX3_answer_67 : decode cX3_answer 67 = .ok (.goto 10, 3) := dk_167 0 10 (dk_at dksX3_answer_2 20 rfl rfl)
theorem dX3_answer_70 : decode cX3_answer 70 = .ok (.aload_n 0, 1) := dk_42 (dk_at dksX3_answer_2 23 rfl rfl)
theorem dX3_answer_71 : decode cX3_answer 71 = .ok (.getfield 132, 3) := dk_180 0 132 (dk_at dksX3_answer_3 0 rfl rfl)
theorem dX3_answer_74 : decode cX3_answer 74 = .ok (.iload 7, 2) := dk_21 7 (dk_at dksX3_answer_3 3 rfl rfl)
theorem dX3_answer_76 : decode cX3_answer 76 = .ok (.laload, 1) := dk_47 (dk_at dksX3_answer_3 5 rfl rfl)
theorem dX3_answer_77 : decode cX3_answer 77 = .ok (.lastore, 1) := dk_80 (dk_at dksX3_answer_3 6 rfl rfl)
theorem dX3_answer_78 : decode cX3_answer 78 = .ok (.iinc 4 1, 3) := dk_132 4 1 (dk_at dksX3_answer_3 7 rfl rfl)
theorem dX3_answer_81 : decode cX3_answer 81 = .ok (.goto 66, 3) := dk_167 0 66 (dk_at dksX3_answer_3 10 rfl rfl)
theorem dX3_answer_84 : decode cX3_answer 84 = .ok (.iload 6, 2) := dk_21 6 (dk_at dksX3_answer_3 13 rfl rfl)
theorem dX3_answer_86 : decode cX3_answer 86 = .ok (.bipush 9, 2) := dk_16 9 (dk_at dksX3_answer_3 15 rfl rfl)
theorem dX3_answer_88 : decode cX3_answer 88 = .ok (.if_icmp .ne 26, 3) := dk_160 0 26 (dk_at dksX3_answer_3 17 rfl rfl)
theorem dX3_answer_91 : decode cX3_answer 91 = .ok (.aload_n 0, 1) := dk_42 (dk_at dksX3_answer_3 20 rfl rfl)
theorem dX3_answer_92 : decode cX3_answer 92 = .ok (.getfield 136, 3) := dk_180 0 136 (dk_at dksX3_answer_3 21 rfl rfl)
theorem dX3_answer_95 : decode cX3_answer 95 = .ok (.iload 4, 2) := dk_21 4 (dk_at dksX3_answer_4 0 rfl rfl)
theorem dX3_answer_97 : decode cX3_answer 97 = .ok (.iconst 1, 1) := dk_4 (dk_at dksX3_answer_4 2 rfl rfl)
theorem dX3_answer_98 : decode cX3_answer 98 = .ok (.isub, 1) := dk_100 (dk_at dksX3_answer_4 3 rfl rfl)
theorem dX3_answer_99 : decode cX3_answer 99 = .ok (.lconst 1, 1) := dk_10 (dk_at dksX3_answer_4 4 rfl rfl)
theorem dX3_answer_100 : decode cX3_answer 100 = .ok (.aload_n 0, 1) := dk_42 (dk_at dksX3_answer_4 5 rfl rfl)
theorem dX3_answer_101 : decode cX3_answer 101 = .ok (.getfield 136, 3) := dk_180 0 136 (dk_at dksX3_answer_4 6 rfl rfl)
theorem dX3_answer_104 : decode cX3_answer 104 = .ok (.iload 4, 2) := dk_21 4 (dk_at dksX3_answer_4 9 rfl rfl)
theorem dX3_answer_106 : decode cX3_answer 106 = .ok (.iconst 1, 1) := dk_4 (dk_at dksX3_answer_4 11 rfl rfl)
theorem dX3_answer_107 : decode cX3_answer 107 = .ok (.isub, 1) := dk_100 (dk_at dksX3_answer_4 12 rfl rfl)
theorem dX3_answer_108 : decode cX3_answer 108 = .ok (.laload, 1) := dk_47 (dk_at dksX3_answer_4 13 rfl rfl)
theorem dX3_answer_109 : decode cX3_answer 109 = .ok (.lsub, 1) := dk_101 (dk_at dksX3_answer_4 14 rfl rfl)
theorem dX3_answer_110 : decode cX3_answer 110 = .ok (.lastore, 1) := dk_80 (dk_at dksX3_answer_4 15 rfl rfl)
theorem dX3_answer_111 : decode cX3_answer 111 = .ok (.goto 36, 3) := dk_167 0 36 (dk_at dksX3_answer_4 16 rfl rfl)
theorem dX3_answer_114 : decode cX3_answer 114 = .ok (.iinc 4 (-1), 3) := dk_132 4 255 (dk_at dksX3_answer_4 19 rfl rfl)
theorem dX3_answer_117 : decode cX3_answer 117 = .ok (.aload_n 0, 1) := dk_42 (dk_at dksX3_answer_4 22 rfl rfl)
theorem dX3_answer_118 : decode cX3_answer 118 = .ok (.getfield 136, 3) := dk_180 0 136 (dk_at dksX3_answer_5 0 rfl rfl)
theorem dX3_answer_121 : decode cX3_answer 121 = .ok (.iload 4, 2) := dk_21 4 (dk_at dksX3_answer_5 3 rfl rfl)
theorem dX3_answer_123 : decode cX3_answer 123 = .ok (.iconst 1, 1) := dk_4 (dk_at dksX3_answer_5 5 rfl rfl)
theorem dX3_answer_124 : decode cX3_answer 124 = .ok (.isub, 1) := dk_100 (dk_at dksX3_answer_5 6 rfl rfl)
theorem dX3_answer_125 : decode cX3_answer 125 = .ok (.iload 6, 2) := dk_21 6 (dk_at dksX3_answer_5 7 rfl rfl)
theorem dX3_answer_127 : decode cX3_answer 127 = .ok (.aload_n 0, 1) := dk_42 (dk_at dksX3_answer_5 9 rfl rfl)
theorem dX3_answer_128 : decode cX3_answer 128 = .ok (.getfield 136, 3) := dk_180 0 136 (dk_at dksX3_answer_5 10 rfl rfl)
theorem dX3_answer_131 : decode cX3_answer 131 = .ok (.iload 4, 2) := dk_21 4 (dk_at dksX3_answer_5 13 rfl rfl)
theorem dX3_answer_133 : decode cX3_answer 133 = .ok (.iconst 1, 1) := dk_4 (dk_at dksX3_answer_5 15 rfl rfl)
theorem dX3_answer_134 : decode cX3_answer 134 = .ok (.isub, 1) := dk_100 (dk_at dksX3_answer_5 16 rfl rfl)
theorem dX3_answer_135 : decode cX3_answer 135 = .ok (.laload, 1) := dk_47 (dk_at dksX3_answer_5 17 rfl rfl)
theorem dX3_answer_136 : decode cX3_answer 136 = .ok (.aload_n 0, 1) := dk_42 (dk_at dksX3_answer_5 18 rfl rfl)
theorem dX3_answer_137 : decode cX3_answer 137 = .ok (.getfield 136, 3) := dk_180 0 136 (dk_at dksX3_answer_5 19 rfl rfl)
theorem dX3_answer_140 : decode cX3_answer 140 = .ok (.iload 4, 2) := dk_21 4 (dk_at dksX3_answer_5 22 rfl rfl)
theorem dX3_answer_142 : decode cX3_answer 142 = .ok (.laload, 1) := dk_47 (dk_at dksX3_answer_6 0 rfl rfl)
theorem dX3_answer_143 : decode cX3_answer 143 = .ok (.invokestatic 441, 3) := dk_184 1 185 (dk_at dksX3_answer_6 1 rfl rfl)
theorem dX3_answer_146 : decode cX3_answer 146 = .ok (.lastore, 1) := dk_80 (dk_at dksX3_answer_6 4 rfl rfl)
theorem dX3_answer_147 : decode cX3_answer 147 = .ok (.iinc 5 1, 3) := dk_132 5 1 (dk_at dksX3_answer_6 5 rfl rfl)
theorem dX3_answer_150 : decode cX3_answer 150 = .ok (.goto (-144), 3) := dk_167 255 112 (dk_at dksX3_answer_6 8 rfl rfl)
theorem dX3_answer_153 : decode cX3_answer 153 = .ok (.aload_n 0, 1) := dk_42 (dk_at dksX3_answer_6 11 rfl rfl)
theorem dX3_answer_154 : decode cX3_answer 154 = .ok (.getfield 136, 3) := dk_180 0 136 (dk_at dksX3_answer_6 12 rfl rfl)
theorem dX3_answer_157 : decode cX3_answer 157 = .ok (.iconst 0, 1) := dk_3 (dk_at dksX3_answer_6 15 rfl rfl)
theorem dX3_answer_158 : decode cX3_answer 158 = .ok (.laload, 1) := dk_47 (dk_at dksX3_answer_6 16 rfl rfl)
theorem dX3_answer_159 : decode cX3_answer 159 = .ok (.lreturn, 1) := dk_173 (dk_at dksX3_answer_6 17 rfl rfl)
abbrev cX3_both : ByteArray := prog_21_method_63_code
def yX3_both : MethodName := ⟨RX3, "both", "(IJJ)J"⟩
def dkwX3_both_7 : List UInt8 := [31, 33, 129, 173]
abbrev dktX3_both_7 : List UInt8 := dkwX3_both_7 ++ []
def dkwX3_both_6 : List UInt8 := [3, 184, 1, 181, 173, 31, 33, 148, 158, 0, 7, 4, 167, 0, 4, 3, 184, 1, 181, 173, 31, 33, 127, 173]
abbrev dktX3_both_6 : List UInt8 := dkwX3_both_6 ++ dktX3_both_7
def dkwX3_both_5 : List UInt8 := [33, 148, 154, 0, 7, 4, 167, 0, 4, 3, 184, 1, 181, 173, 31, 33, 148, 155, 0, 7, 4, 167, 0, 4]
abbrev dktX3_both_5 : List UInt8 := dkwX3_both_5 ++ dktX3_both_6
def dkwX3_both_4 : List UInt8 := [167, 0, 4, 3, 184, 1, 181, 173, 31, 33, 148, 157, 0, 7, 4, 167, 0, 4, 3, 184, 1, 181, 173, 31]
abbrev dktX3_both_4 : List UInt8 := dkwX3_both_4 ++ dktX3_both_5
def dkwX3_both_3 : List UInt8 := [109, 173, 33, 9, 148, 154, 0, 7, 9, 167, 0, 6, 31, 33, 113, 173, 31, 33, 148, 156, 0, 7, 4]
abbrev dktX3_both_3 : List UInt8 := dkwX3_both_3 ++ dktX3_both_4
def dkwX3_both_2 : List UInt8 := [31, 33, 97, 173, 31, 33, 101, 173, 31, 33, 105, 173, 33, 9, 148, 154, 0, 7, 9, 167, 0, 6, 31, 33]
abbrev dktX3_both_2 : List UInt8 := dkwX3_both_2 ++ dktX3_both_3
def dkwX3_both_1 : List UInt8 := [170, 0, 0, 0, 0, 0, 190, 0, 0, 0, 2, 0, 0, 0, 15, 0, 0, 0, 71, 0, 0, 0, 75, 0, 0, 0, 111, 0, 0, 0, 126, 0, 0, 0, 141, 0, 0, 0, 156, 0, 0, 0, 171, 0, 0, 0, 190, 0, 0, 0, 186, 0, 0, 0, 190, 0, 0, 0, 190, 0, 0, 0, 79, 0, 0, 0, 83, 0, 0, 0, 97]
abbrev dktX3_both_1 : List UInt8 := dkwX3_both_1 ++ dktX3_both_2
def dkwX3_both_0 : List UInt8 := [26]
abbrev dktX3_both_0 : List UInt8 := dkwX3_both_0 ++ dktX3_both_1
theorem dksX3_both_0 : cX3_both.data.toList.drop 0 = dktX3_both_0 := by decide +kernel
theorem dksX3_both_1 : cX3_both.data.toList.drop 1 = dktX3_both_1 := dk_seg dksX3_both_0 1 rfl rfl
theorem dksX3_both_2 : cX3_both.data.toList.drop 72 = dktX3_both_2 := dk_seg dksX3_both_1 71 rfl rfl
theorem dksX3_both_3 : cX3_both.data.toList.drop 96 = dktX3_both_3 := dk_seg dksX3_both_2 24 rfl rfl
theorem dksX3_both_4 : cX3_both.data.toList.drop 119 = dktX3_both_4 := dk_seg dksX3_both_3 23 rfl rfl
theorem dksX3_both_5 : cX3_both.data.toList.drop 143 = dktX3_both_5 := dk_seg dksX3_both_4 24 rfl rfl
theorem dksX3_both_6 : cX3_both.data.toList.drop 167 = dktX3_both_6 := dk_seg dksX3_both_5 24 rfl rfl
theorem dksX3_both_7 : cX3_both.data.toList.drop 191 = dktX3_both_7 := dk_seg dksX3_both_6 24 rfl rfl
theorem dX3_both_0 : decode cX3_both 0 = .ok (.iload_n 0, 1) := dk_26 (dk_at dksX3_both_0 0 rfl rfl)
theorem dX3_both_1 : decode cX3_both 1 = .ok (.tableswitch 190 2 15 #[71, 75, 111, 126, 141, 156, 171, 190, 186, 190, 190, 79, 83, 97], 71) := by decide +kernel
theorem dX3_both_72 : decode cX3_both 72 = .ok (.lload_n 1, 1) := dk_31 (dk_at dksX3_both_2 0 rfl rfl)
theorem dX3_both_73 : decode cX3_both 73 = .ok (.lload_n 3, 1) := dk_33 (dk_at dksX3_both_2 1 rfl rfl)
theorem dX3_both_74 : decode cX3_both 74 = .ok (.ladd, 1) := dk_97 (dk_at dksX3_both_2 2 rfl rfl)
theorem dX3_both_75 : decode cX3_both 75 = .ok (.lreturn, 1) := dk_173 (dk_at dksX3_both_2 3 rfl rfl)
theorem dX3_both_76 : decode cX3_both 76 = .ok (.lload_n 1, 1) := dk_31 (dk_at dksX3_both_2 4 rfl rfl)
theorem dX3_both_77 : decode cX3_both 77 = .ok (.lload_n 3, 1) := dk_33 (dk_at dksX3_both_2 5 rfl rfl)
theorem dX3_both_78 : decode cX3_both 78 = .ok (.lsub, 1) := dk_101 (dk_at dksX3_both_2 6 rfl rfl)
theorem dX3_both_79 : decode cX3_both 79 = .ok (.lreturn, 1) := dk_173 (dk_at dksX3_both_2 7 rfl rfl)
theorem dX3_both_80 : decode cX3_both 80 = .ok (.lload_n 1, 1) := dk_31 (dk_at dksX3_both_2 8 rfl rfl)
theorem dX3_both_81 : decode cX3_both 81 = .ok (.lload_n 3, 1) := dk_33 (dk_at dksX3_both_2 9 rfl rfl)
theorem dX3_both_82 : decode cX3_both 82 = .ok (.lmul, 1) := dk_105 (dk_at dksX3_both_2 10 rfl rfl)
theorem dX3_both_83 : decode cX3_both 83 = .ok (.lreturn, 1) := dk_173 (dk_at dksX3_both_2 11 rfl rfl)
theorem dX3_both_84 : decode cX3_both 84 = .ok (.lload_n 3, 1) := dk_33 (dk_at dksX3_both_2 12 rfl rfl)
theorem dX3_both_85 : decode cX3_both 85 = .ok (.lconst 0, 1) := dk_9 (dk_at dksX3_both_2 13 rfl rfl)
theorem dX3_both_86 : decode cX3_both 86 = .ok (.lcmp, 1) := dk_148 (dk_at dksX3_both_2 14 rfl rfl)
theorem dX3_both_87 : decode cX3_both 87 = .ok (.ifCond .ne 7, 3) := dk_154 0 7 (dk_at dksX3_both_2 15 rfl rfl)
theorem dX3_both_90 : decode cX3_both 90 = .ok (.lconst 0, 1) := dk_9 (dk_at dksX3_both_2 18 rfl rfl)
theorem dX3_both_91 : decode cX3_both 91 = .ok (.goto 6, 3) := dk_167 0 6 (dk_at dksX3_both_2 19 rfl rfl)
theorem dX3_both_94 : decode cX3_both 94 = .ok (.lload_n 1, 1) := dk_31 (dk_at dksX3_both_2 22 rfl rfl)
theorem dX3_both_95 : decode cX3_both 95 = .ok (.lload_n 3, 1) := dk_33 (dk_at dksX3_both_2 23 rfl rfl)
theorem dX3_both_96 : decode cX3_both 96 = .ok (.ldiv, 1) := dk_109 (dk_at dksX3_both_3 0 rfl rfl)
theorem dX3_both_97 : decode cX3_both 97 = .ok (.lreturn, 1) := dk_173 (dk_at dksX3_both_3 1 rfl rfl)
theorem dX3_both_98 : decode cX3_both 98 = .ok (.lload_n 3, 1) := dk_33 (dk_at dksX3_both_3 2 rfl rfl)
theorem dX3_both_99 : decode cX3_both 99 = .ok (.lconst 0, 1) := dk_9 (dk_at dksX3_both_3 3 rfl rfl)
theorem dX3_both_100 : decode cX3_both 100 = .ok (.lcmp, 1) := dk_148 (dk_at dksX3_both_3 4 rfl rfl)
theorem dX3_both_101 : decode cX3_both 101 = .ok (.ifCond .ne 7, 3) := dk_154 0 7 (dk_at dksX3_both_3 5 rfl rfl)
theorem dX3_both_104 : decode cX3_both 104 = .ok (.lconst 0, 1) := dk_9 (dk_at dksX3_both_3 8 rfl rfl)
theorem dX3_both_105 : decode cX3_both 105 = .ok (.goto 6, 3) := dk_167 0 6 (dk_at dksX3_both_3 9 rfl rfl)
theorem dX3_both_108 : decode cX3_both 108 = .ok (.lload_n 1, 1) := dk_31 (dk_at dksX3_both_3 12 rfl rfl)
theorem dX3_both_109 : decode cX3_both 109 = .ok (.lload_n 3, 1) := dk_33 (dk_at dksX3_both_3 13 rfl rfl)
theorem dX3_both_110 : decode cX3_both 110 = .ok (.lrem, 1) := dk_113 (dk_at dksX3_both_3 14 rfl rfl)
theorem dX3_both_111 : decode cX3_both 111 = .ok (.lreturn, 1) := dk_173 (dk_at dksX3_both_3 15 rfl rfl)
theorem dX3_both_112 : decode cX3_both 112 = .ok (.lload_n 1, 1) := dk_31 (dk_at dksX3_both_3 16 rfl rfl)
theorem dX3_both_113 : decode cX3_both 113 = .ok (.lload_n 3, 1) := dk_33 (dk_at dksX3_both_3 17 rfl rfl)
theorem dX3_both_114 : decode cX3_both 114 = .ok (.lcmp, 1) := dk_148 (dk_at dksX3_both_3 18 rfl rfl)
theorem dX3_both_115 : decode cX3_both 115 = .ok (.ifCond .ge 7, 3) := dk_156 0 7 (dk_at dksX3_both_3 19 rfl rfl)
theorem dX3_both_118 : decode cX3_both 118 = .ok (.iconst 1, 1) := dk_4 (dk_at dksX3_both_3 22 rfl rfl)
theorem dX3_both_119 : decode cX3_both 119 = .ok (.goto 4, 3) := dk_167 0 4 (dk_at dksX3_both_4 0 rfl rfl)
theorem dX3_both_122 : decode cX3_both 122 = .ok (.iconst 0, 1) := dk_3 (dk_at dksX3_both_4 3 rfl rfl)
theorem dX3_both_123 : decode cX3_both 123 = .ok (.invokestatic 437, 3) := dk_184 1 181 (dk_at dksX3_both_4 4 rfl rfl)
theorem dX3_both_126 : decode cX3_both 126 = .ok (.lreturn, 1) := dk_173 (dk_at dksX3_both_4 7 rfl rfl)
theorem dX3_both_127 : decode cX3_both 127 = .ok (.lload_n 1, 1) := dk_31 (dk_at dksX3_both_4 8 rfl rfl)
theorem dX3_both_128 : decode cX3_both 128 = .ok (.lload_n 3, 1) := dk_33 (dk_at dksX3_both_4 9 rfl rfl)
theorem dX3_both_129 : decode cX3_both 129 = .ok (.lcmp, 1) := dk_148 (dk_at dksX3_both_4 10 rfl rfl)
theorem dX3_both_130 : decode cX3_both 130 = .ok (.ifCond .gt 7, 3) := dk_157 0 7 (dk_at dksX3_both_4 11 rfl rfl)
theorem dX3_both_133 : decode cX3_both 133 = .ok (.iconst 1, 1) := dk_4 (dk_at dksX3_both_4 14 rfl rfl)
theorem dX3_both_134 : decode cX3_both 134 = .ok (.goto 4, 3) := dk_167 0 4 (dk_at dksX3_both_4 15 rfl rfl)
theorem dX3_both_137 : decode cX3_both 137 = .ok (.iconst 0, 1) := dk_3 (dk_at dksX3_both_4 18 rfl rfl)
theorem dX3_both_138 : decode cX3_both 138 = .ok (.invokestatic 437, 3) := dk_184 1 181 (dk_at dksX3_both_4 19 rfl rfl)
theorem dX3_both_141 : decode cX3_both 141 = .ok (.lreturn, 1) := dk_173 (dk_at dksX3_both_4 22 rfl rfl)
theorem dX3_both_142 : decode cX3_both 142 = .ok (.lload_n 1, 1) := dk_31 (dk_at dksX3_both_4 23 rfl rfl)
theorem dX3_both_143 : decode cX3_both 143 = .ok (.lload_n 3, 1) := dk_33 (dk_at dksX3_both_5 0 rfl rfl)
theorem dX3_both_144 : decode cX3_both 144 = .ok (.lcmp, 1) := dk_148 (dk_at dksX3_both_5 1 rfl rfl)
theorem dX3_both_145 : decode cX3_both 145 = .ok (.ifCond .ne 7, 3) := dk_154 0 7 (dk_at dksX3_both_5 2 rfl rfl)
theorem dX3_both_148 : decode cX3_both 148 = .ok (.iconst 1, 1) := dk_4 (dk_at dksX3_both_5 5 rfl rfl)
theorem dX3_both_149 : decode cX3_both 149 = .ok (.goto 4, 3) := dk_167 0 4 (dk_at dksX3_both_5 6 rfl rfl)
theorem dX3_both_152 : decode cX3_both 152 = .ok (.iconst 0, 1) := dk_3 (dk_at dksX3_both_5 9 rfl rfl)
theorem dX3_both_153 : decode cX3_both 153 = .ok (.invokestatic 437, 3) := dk_184 1 181 (dk_at dksX3_both_5 10 rfl rfl)
theorem dX3_both_156 : decode cX3_both 156 = .ok (.lreturn, 1) := dk_173 (dk_at dksX3_both_5 13 rfl rfl)
theorem dX3_both_157 : decode cX3_both 157 = .ok (.lload_n 1, 1) := dk_31 (dk_at dksX3_both_5 14 rfl rfl)
theorem dX3_both_158 : decode cX3_both 158 = .ok (.lload_n 3, 1) := dk_33 (dk_at dksX3_both_5 15 rfl rfl)
theorem dX3_both_159 : decode cX3_both 159 = .ok (.lcmp, 1) := dk_148 (dk_at dksX3_both_5 16 rfl rfl)
theorem dX3_both_160 : decode cX3_both 160 = .ok (.ifCond .lt 7, 3) := dk_155 0 7 (dk_at dksX3_both_5 17 rfl rfl)
theorem dX3_both_163 : decode cX3_both 163 = .ok (.iconst 1, 1) := dk_4 (dk_at dksX3_both_5 20 rfl rfl)
theorem dX3_both_164 : decode cX3_both 164 = .ok (.goto 4, 3) := dk_167 0 4 (dk_at dksX3_both_5 21 rfl rfl)
theorem dX3_both_167 : decode cX3_both 167 = .ok (.iconst 0, 1) := dk_3 (dk_at dksX3_both_6 0 rfl rfl)
theorem dX3_both_168 : decode cX3_both 168 = .ok (.invokestatic 437, 3) := dk_184 1 181 (dk_at dksX3_both_6 1 rfl rfl)
theorem dX3_both_171 : decode cX3_both 171 = .ok (.lreturn, 1) := dk_173 (dk_at dksX3_both_6 4 rfl rfl)
theorem dX3_both_172 : decode cX3_both 172 = .ok (.lload_n 1, 1) := dk_31 (dk_at dksX3_both_6 5 rfl rfl)
theorem dX3_both_173 : decode cX3_both 173 = .ok (.lload_n 3, 1) := dk_33 (dk_at dksX3_both_6 6 rfl rfl)
theorem dX3_both_174 : decode cX3_both 174 = .ok (.lcmp, 1) := dk_148 (dk_at dksX3_both_6 7 rfl rfl)
theorem dX3_both_175 : decode cX3_both 175 = .ok (.ifCond .le 7, 3) := dk_158 0 7 (dk_at dksX3_both_6 8 rfl rfl)
theorem dX3_both_178 : decode cX3_both 178 = .ok (.iconst 1, 1) := dk_4 (dk_at dksX3_both_6 11 rfl rfl)
theorem dX3_both_179 : decode cX3_both 179 = .ok (.goto 4, 3) := dk_167 0 4 (dk_at dksX3_both_6 12 rfl rfl)
theorem dX3_both_182 : decode cX3_both 182 = .ok (.iconst 0, 1) := dk_3 (dk_at dksX3_both_6 15 rfl rfl)
theorem dX3_both_183 : decode cX3_both 183 = .ok (.invokestatic 437, 3) := dk_184 1 181 (dk_at dksX3_both_6 16 rfl rfl)
theorem dX3_both_186 : decode cX3_both 186 = .ok (.lreturn, 1) := dk_173 (dk_at dksX3_both_6 19 rfl rfl)
theorem dX3_both_187 : decode cX3_both 187 = .ok (.lload_n 1, 1) := dk_31 (dk_at dksX3_both_6 20 rfl rfl)
theorem dX3_both_188 : decode cX3_both 188 = .ok (.lload_n 3, 1) := dk_33 (dk_at dksX3_both_6 21 rfl rfl)
theorem dX3_both_189 : decode cX3_both 189 = .ok (.land, 1) := dk_127 (dk_at dksX3_both_6 22 rfl rfl)
theorem dX3_both_190 : decode cX3_both 190 = .ok (.lreturn, 1) := dk_173 (dk_at dksX3_both_6 23 rfl rfl)
theorem dX3_both_191 : decode cX3_both 191 = .ok (.lload_n 1, 1) := dk_31 (dk_at dksX3_both_7 0 rfl rfl)
theorem dX3_both_192 : decode cX3_both 192 = .ok (.lload_n 3, 1) := dk_33 (dk_at dksX3_both_7 1 rfl rfl)
theorem dX3_both_193 : decode cX3_both 193 = .ok (.lor, 1) := dk_129 (dk_at dksX3_both_7 2 rfl rfl)
theorem dX3_both_194 : decode cX3_both 194 = .ok (.lreturn, 1) := dk_173 (dk_at dksX3_both_7 3 rfl rfl)
abbrev cX3_truth : ByteArray := prog_21_method_62_code
def yX3_truth : MethodName := ⟨RX3, "truth", "(Z)J"⟩
def dkwX3_truth_0 : List UInt8 := [26, 153, 0, 7, 10, 167, 0, 4, 9, 173]
abbrev dktX3_truth_0 : List UInt8 := dkwX3_truth_0 ++ []
theorem dksX3_truth_0 : cX3_truth.data.toList.drop 0 = dktX3_truth_0 := by decide +kernel
theorem dX3_truth_0 : decode cX3_truth 0 = .ok (.iload_n 0, 1) := dk_26 (dk_at dksX3_truth_0 0 rfl rfl)
theorem dX3_truth_1 : decode cX3_truth 1 = .ok (.ifCond .eq 7, 3) := dk_153 0 7 (dk_at dksX3_truth_0 1 rfl rfl)
theorem dX3_truth_4 : decode cX3_truth 4 = .ok (.lconst 1, 1) := dk_10 (dk_at dksX3_truth_0 4 rfl rfl)
theorem dX3_truth_5 : decode cX3_truth 5 = .ok (.goto 4, 3) := dk_167 0 4 (dk_at dksX3_truth_0 5 rfl rfl)
theorem dX3_truth_8 : decode cX3_truth 8 = .ok (.lconst 0, 1) := dk_9 (dk_at dksX3_truth_0 8 rfl rfl)
theorem dX3_truth_9 : decode cX3_truth 9 = .ok (.lreturn, 1) := dk_173 (dk_at dksX3_truth_0 9 rfl rfl)
abbrev cX3_follows : ByteArray := prog_21_method_105_code
def yX3_follows : MethodName := ⟨RX3, "follows", "(II)I"⟩
def dkwX3_follows_1 : List UInt8 := [153, 0, 7, 4, 167, 0, 8, 3, 167, 0, 4, 2, 172]
abbrev dktX3_follows_1 : List UInt8 := dkwX3_follows_1 ++ []
def dkwX3_follows_0 : List UInt8 := [42, 27, 182, 2, 36, 153, 0, 28, 42, 28, 182, 1, 217, 153, 0, 20, 42, 27, 28, 182, 2, 39]
abbrev dktX3_follows_0 : List UInt8 := dkwX3_follows_0 ++ dktX3_follows_1
theorem dksX3_follows_0 : cX3_follows.data.toList.drop 0 = dktX3_follows_0 := by decide +kernel
theorem dksX3_follows_1 : cX3_follows.data.toList.drop 22 = dktX3_follows_1 := dk_seg dksX3_follows_0 22 rfl rfl
theorem dX3_follows_0 : decode cX3_follows 0 = .ok (.aload_n 0, 1) := dk_42 (dk_at dksX3_follows_0 0 rfl rfl)
theorem dX3_follows_1 : decode cX3_follows 1 = .ok (.iload_n 1, 1) := dk_27 (dk_at dksX3_follows_0 1 rfl rfl)
theorem dX3_follows_2 : decode cX3_follows 2 = .ok (.invokevirtual 548, 3) := dk_182 2 36 (dk_at dksX3_follows_0 2 rfl rfl)
theorem dX3_follows_5 : decode cX3_follows 5 = .ok (.ifCond .eq 28, 3) := dk_153 0 28 (dk_at dksX3_follows_0 5 rfl rfl)
theorem dX3_follows_8 : decode cX3_follows 8 = .ok (.aload_n 0, 1) := dk_42 (dk_at dksX3_follows_0 8 rfl rfl)
theorem dX3_follows_9 : decode cX3_follows 9 = .ok (.iload_n 2, 1) := dk_28 (dk_at dksX3_follows_0 9 rfl rfl)
theorem dX3_follows_10 : decode cX3_follows 10 = .ok (.invokevirtual 473, 3) := dk_182 1 217 (dk_at dksX3_follows_0 10 rfl rfl)
theorem dX3_follows_13 : decode cX3_follows 13 = .ok (.ifCond .eq 20, 3) := dk_153 0 20 (dk_at dksX3_follows_0 13 rfl rfl)
theorem dX3_follows_16 : decode cX3_follows 16 = .ok (.aload_n 0, 1) := dk_42 (dk_at dksX3_follows_0 16 rfl rfl)
theorem dX3_follows_17 : decode cX3_follows 17 = .ok (.iload_n 1, 1) := dk_27 (dk_at dksX3_follows_0 17 rfl rfl)
theorem dX3_follows_18 : decode cX3_follows 18 = .ok (.iload_n 2, 1) := dk_28 (dk_at dksX3_follows_0 18 rfl rfl)
theorem dX3_follows_19 : decode cX3_follows 19 = .ok (.invokevirtual 551, 3) := dk_182 2 39 (dk_at dksX3_follows_0 19 rfl rfl)
theorem dX3_follows_22 : decode cX3_follows 22 = .ok (.ifCond .eq 7, 3) := dk_153 0 7 (dk_at dksX3_follows_1 0 rfl rfl)
theorem dX3_follows_25 : decode cX3_follows 25 = .ok (.iconst 1, 1) := dk_4 (dk_at dksX3_follows_1 3 rfl rfl)
theorem dX3_follows_26 : decode cX3_follows 26 = .ok (.goto 8, 3) := dk_167 0 8 (dk_at dksX3_follows_1 4 rfl rfl)
theorem dX3_follows_29 : decode cX3_follows 29 = .ok (.iconst 0, 1) := dk_3 (dk_at dksX3_follows_1 7 rfl rfl)
theorem dX3_follows_30 : decode cX3_follows 30 = .ok (.goto 4, 3) := dk_167 0 4 (dk_at dksX3_follows_1 8 rfl rfl)
theorem dX3_follows_33 : decode cX3_follows 33 = .ok (.iconst (-1), 1) := dk_2 (dk_at dksX3_follows_1 11 rfl rfl)
theorem dX3_follows_34 : decode cX3_follows 34 = .ok (.ireturn, 1) := dk_172 (dk_at dksX3_follows_1 12 rfl rfl)
abbrev cX3_isSet : ByteArray := prog_21_method_104_code
def yX3_isSet : MethodName := ⟨RX3, "isSet", "(I)Z"⟩
def dkwX3_isSet_1 : List UInt8 := [153, 0, 7, 4, 167, 0, 4, 3, 172]
abbrev dktX3_isSet_1 : List UInt8 := dkwX3_isSet_1 ++ []
def dkwX3_isSet_0 : List UInt8 := [42, 182, 0, 186, 153, 0, 25, 27, 133, 9, 4, 42, 180, 0, 183, 120, 4, 100, 133, 184, 0, 179]
abbrev dktX3_isSet_0 : List UInt8 := dkwX3_isSet_0 ++ dktX3_isSet_1
theorem dksX3_isSet_0 : cX3_isSet.data.toList.drop 0 = dktX3_isSet_0 := by decide +kernel
theorem dksX3_isSet_1 : cX3_isSet.data.toList.drop 22 = dktX3_isSet_1 := dk_seg dksX3_isSet_0 22 rfl rfl
theorem dX3_isSet_0 : decode cX3_isSet 0 = .ok (.aload_n 0, 1) := dk_42 (dk_at dksX3_isSet_0 0 rfl rfl)
theorem dX3_isSet_1 : decode cX3_isSet 1 = .ok (.invokevirtual 186, 3) := dk_182 0 186 (dk_at dksX3_isSet_0 1 rfl rfl)
theorem dX3_isSet_4 : decode cX3_isSet 4 = .ok (.ifCond .eq 25, 3) := dk_153 0 25 (dk_at dksX3_isSet_0 4 rfl rfl)
theorem dX3_isSet_7 : decode cX3_isSet 7 = .ok (.iload_n 1, 1) := dk_27 (dk_at dksX3_isSet_0 7 rfl rfl)
theorem dX3_isSet_8 : decode cX3_isSet 8 = .ok (.i2l, 1) := dk_133 (dk_at dksX3_isSet_0 8 rfl rfl)
theorem dX3_isSet_9 : decode cX3_isSet 9 = .ok (.lconst 0, 1) := dk_9 (dk_at dksX3_isSet_0 9 rfl rfl)
theorem dX3_isSet_10 : decode cX3_isSet 10 = .ok (.iconst 1, 1) := dk_4 (dk_at dksX3_isSet_0 10 rfl rfl)
theorem dX3_isSet_11 : decode cX3_isSet 11 = .ok (.aload_n 0, 1) := dk_42 (dk_at dksX3_isSet_0 11 rfl rfl)
theorem dX3_isSet_12 : decode cX3_isSet 12 = .ok (.getfield 183, 3) := dk_180 0 183 (dk_at dksX3_isSet_0 12 rfl rfl)
theorem dX3_isSet_15 : decode cX3_isSet 15 = .ok (.ishl, 1) := dk_120 (dk_at dksX3_isSet_0 15 rfl rfl)
theorem dX3_isSet_16 : decode cX3_isSet 16 = .ok (.iconst 1, 1) := dk_4 (dk_at dksX3_isSet_0 16 rfl rfl)
theorem dX3_isSet_17 : decode cX3_isSet 17 = .ok (.isub, 1) := dk_100 (dk_at dksX3_isSet_0 17 rfl rfl)
theorem dX3_isSet_18 : decode cX3_isSet 18 = .ok (.i2l, 1) := dk_133 (dk_at dksX3_isSet_0 18 rfl rfl)
theorem dX3_isSet_19 : decode cX3_isSet 19 = .ok (.invokestatic 179, 3) := dk_184 0 179 (dk_at dksX3_isSet_0 19 rfl rfl)
theorem dX3_isSet_22 : decode cX3_isSet 22 = .ok (.ifCond .eq 7, 3) := dk_153 0 7 (dk_at dksX3_isSet_1 0 rfl rfl)
theorem dX3_isSet_25 : decode cX3_isSet 25 = .ok (.iconst 1, 1) := dk_4 (dk_at dksX3_isSet_1 3 rfl rfl)
theorem dX3_isSet_26 : decode cX3_isSet 26 = .ok (.goto 4, 3) := dk_167 0 4 (dk_at dksX3_isSet_1 4 rfl rfl)
theorem dX3_isSet_29 : decode cX3_isSet 29 = .ok (.iconst 0, 1) := dk_3 (dk_at dksX3_isSet_1 7 rfl rfl)
theorem dX3_isSet_30 : decode cX3_isSet 30 = .ok (.ireturn, 1) := dk_172 (dk_at dksX3_isSet_1 8 rfl rfl)
abbrev cX3_doesFollow : ByteArray := prog_21_method_103_code
def yX3_doesFollow : MethodName := ⟨RX3, "doesFollow", "(II)Z"⟩
def dkwX3_doesFollow_3 : List UInt8 := [132, 5, 1, 167, 255, 213, 21, 4, 153, 0, 5, 3, 172, 132, 3, 1, 167, 255, 173, 4, 172]
abbrev dktX3_doesFollow_3 : List UInt8 := dkwX3_doesFollow_3 ++ []
def dkwX3_doesFollow_2 : List UInt8 := [184, 1, 112, 153, 0, 13, 42, 21, 5, 29, 182, 1, 223, 153, 0, 7, 4, 167, 0, 4, 3, 54, 4]
abbrev dktX3_doesFollow_2 : List UInt8 := dkwX3_doesFollow_2 ++ dktX3_doesFollow_3
def dkwX3_doesFollow_1 : List UInt8 := [54, 4, 3, 54, 5, 21, 5, 42, 180, 0, 183, 162, 0, 40, 21, 4, 153, 0, 35, 27, 21, 5]
abbrev dktX3_doesFollow_1 : List UInt8 := dkwX3_doesFollow_1 ++ dktX3_doesFollow_2
def dkwX3_doesFollow_0 : List UInt8 := [3, 62, 29, 42, 182, 0, 190, 162, 0, 81, 42, 28, 29, 182, 1, 223, 154, 0, 7, 4, 167, 0, 4, 3]
abbrev dktX3_doesFollow_0 : List UInt8 := dkwX3_doesFollow_0 ++ dktX3_doesFollow_1
theorem dksX3_doesFollow_0 : cX3_doesFollow.data.toList.drop 0 = dktX3_doesFollow_0 := by decide +kernel
theorem dksX3_doesFollow_1 : cX3_doesFollow.data.toList.drop 24 = dktX3_doesFollow_1 := dk_seg dksX3_doesFollow_0 24 rfl rfl
theorem dksX3_doesFollow_2 : cX3_doesFollow.data.toList.drop 46 = dktX3_doesFollow_2 := dk_seg dksX3_doesFollow_1 22 rfl rfl
theorem dksX3_doesFollow_3 : cX3_doesFollow.data.toList.drop 69 = dktX3_doesFollow_3 := dk_seg dksX3_doesFollow_2 23 rfl rfl
theorem dX3_doesFollow_0 : decode cX3_doesFollow 0 = .ok (.iconst 0, 1) := dk_3 (dk_at dksX3_doesFollow_0 0 rfl rfl)
theorem dX3_doesFollow_1 : decode cX3_doesFollow 1 = .ok (.istore_n 3, 1) := dk_62 (dk_at dksX3_doesFollow_0 1 rfl rfl)
theorem dX3_doesFollow_2 : decode cX3_doesFollow 2 = .ok (.iload_n 3, 1) := dk_29 (dk_at dksX3_doesFollow_0 2 rfl rfl)
theorem dX3_doesFollow_3 : decode cX3_doesFollow 3 = .ok (.aload_n 0, 1) := dk_42 (dk_at dksX3_doesFollow_0 3 rfl rfl)
theorem dX3_doesFollow_4 : decode cX3_doesFollow 4 = .ok (.invokevirtual 190, 3) := dk_182 0 190 (dk_at dksX3_doesFollow_0 4 rfl rfl)
theorem dX3_doesFollow_7 : decode cX3_doesFollow 7 = .ok (.if_icmp .ge 81, 3) := dk_162 0 81 (dk_at dksX3_doesFollow_0 7 rfl rfl)
theorem dX3_doesFollow_10 : decode cX3_doesFollow 10 = .ok (.aload_n 0, 1) := dk_42 (dk_at dksX3_doesFollow_0 10 rfl rfl)
theorem dX3_doesFollow_11 : decode cX3_doesFollow 11 = .ok (.iload_n 2, 1) := dk_28 (dk_at dksX3_doesFollow_0 11 rfl rfl)
theorem dX3_doesFollow_12 : decode cX3_doesFollow 12 = .ok (.iload_n 3, 1) := dk_29 (dk_at dksX3_doesFollow_0 12 rfl rfl)
theorem dX3_doesFollow_13 : decode cX3_doesFollow 13 = .ok (.invokevirtual 479, 3) := dk_182 1 223 (dk_at dksX3_doesFollow_0 13 rfl rfl)
theorem dX3_doesFollow_16 : decode cX3_doesFollow 16 = .ok (.ifCond .ne 7, 3) := dk_154 0 7 (dk_at dksX3_doesFollow_0 16 rfl rfl)
theorem dX3_doesFollow_19 : decode cX3_doesFollow 19 = .ok (.iconst 1, 1) := dk_4 (dk_at dksX3_doesFollow_0 19 rfl rfl)
theorem dX3_doesFollow_20 : decode cX3_doesFollow 20 = .ok (.goto 4, 3) := dk_167 0 4 (dk_at dksX3_doesFollow_0 20 rfl rfl)
theorem dX3_doesFollow_23 : decode cX3_doesFollow 23 = .ok (.iconst 0, 1) := dk_3 (dk_at dksX3_doesFollow_0 23 rfl rfl)
theorem dX3_doesFollow_24 : decode cX3_doesFollow 24 = .ok (.istore 4, 2) := dk_54 4 (dk_at dksX3_doesFollow_1 0 rfl rfl)
theorem dX3_doesFollow_26 : decode cX3_doesFollow 26 = .ok (.iconst 0, 1) := dk_3 (dk_at dksX3_doesFollow_1 2 rfl rfl)
theorem dX3_doesFollow_27 : decode cX3_doesFollow 27 = .ok (.istore 5, 2) := dk_54 5 (dk_at dksX3_doesFollow_1 3 rfl rfl)
theorem dX3_doesFollow_29 : decode cX3_doesFollow 29 = .ok (.iload 5, 2) := dk_21 5 (dk_at dksX3_doesFollow_1 5 rfl rfl)
theorem dX3_doesFollow_31 : decode cX3_doesFollow 31 = .ok (.aload_n 0, 1) := dk_42 (dk_at dksX3_doesFollow_1 7 rfl rfl)
theorem dX3_doesFollow_32 : decode cX3_doesFollow 32 = .ok (.getfield 183, 3) := dk_180 0 183 (dk_at dksX3_doesFollow_1 8 rfl rfl)
theorem dX3_doesFollow_35 : decode cX3_doesFollow 35 = .ok (.if_icmp .ge 40, 3) := dk_162 0 40 (dk_at dksX3_doesFollow_1 11 rfl rfl)
theorem dX3_doesFollow_38 : decode cX3_doesFollow 38 = .ok (.iload 4, 2) := dk_21 4 (dk_at dksX3_doesFollow_1 14 rfl rfl)
theorem dX3_doesFollow_40 : decode cX3_doesFollow 40 = .ok (.ifCond .eq 35, 3) := dk_153 0 35 (dk_at dksX3_doesFollow_1 16 rfl rfl)
theorem dX3_doesFollow_43 : decode cX3_doesFollow 43 = .ok (.iload_n 1, 1) := dk_27 (dk_at dksX3_doesFollow_1 19 rfl rfl)
theorem dX3_doesFollow_44 : decode cX3_doesFollow 44 = .ok (.iload 5, 2) := dk_21 5 (dk_at dksX3_doesFollow_1 20 rfl rfl)
theorem dX3_doesFollow_46 : decode cX3_doesFollow 46 = .ok (.invokestatic 368, 3) := dk_184 1 112 (dk_at dksX3_doesFollow_2 0 rfl rfl)
theorem dX3_doesFollow_49 : decode cX3_doesFollow 49 = .ok (.ifCond .eq 13, 3) := dk_153 0 13 (dk_at dksX3_doesFollow_2 3 rfl rfl)
theorem dX3_doesFollow_52 : decode cX3_doesFollow 52 = .ok (.aload_n 0, 1) := dk_42 (dk_at dksX3_doesFollow_2 6 rfl rfl)
theorem dX3_doesFollow_53 : decode cX3_doesFollow 53 = .ok (.iload 5, 2) := dk_21 5 (dk_at dksX3_doesFollow_2 7 rfl rfl)
theorem dX3_doesFollow_55 : decode cX3_doesFollow 55 = .ok (.iload_n 3, 1) := dk_29 (dk_at dksX3_doesFollow_2 9 rfl rfl)
theorem dX3_doesFollow_56 : decode cX3_doesFollow 56 = .ok (.invokevirtual 479, 3) := dk_182 1 223 (dk_at dksX3_doesFollow_2 10 rfl rfl)
theorem dX3_doesFollow_59 : decode cX3_doesFollow 59 = .ok (.ifCond .eq 7, 3) := dk_153 0 7 (dk_at dksX3_doesFollow_2 13 rfl rfl)
theorem dX3_doesFollow_62 : decode cX3_doesFollow 62 = .ok (.iconst 1, 1) := dk_4 (dk_at dksX3_doesFollow_2 16 rfl rfl)
theorem dX3_doesFollow_63 : decode cX3_doesFollow 63 = .ok (.goto 4, 3) := dk_167 0 4 (dk_at dksX3_doesFollow_2 17 rfl rfl)
theorem dX3_doesFollow_66 : decode cX3_doesFollow 66 = .ok (.iconst 0, 1) := dk_3 (dk_at dksX3_doesFollow_2 20 rfl rfl)
theorem dX3_doesFollow_67 : decode cX3_doesFollow 67 = .ok (.istore 4, 2) := dk_54 4 (dk_at dksX3_doesFollow_2 21 rfl rfl)
theorem dX3_doesFollow_69 : decode cX3_doesFollow 69 = .ok (.iinc 5 1, 3) := dk_132 5 1 (dk_at dksX3_doesFollow_3 0 rfl rfl)
theorem dX3_doesFollow_72 : decode cX3_doesFollow 72 = .ok (.goto (-43), 3) := dk_167 255 213 (dk_at dksX3_doesFollow_3 3 rfl rfl)
theorem dX3_doesFollow_75 : decode cX3_doesFollow 75 = .ok (.iload 4, 2) := dk_21 4 (dk_at dksX3_doesFollow_3 6 rfl rfl)
theorem dX3_doesFollow_77 : decode cX3_doesFollow 77 = .ok (.ifCond .eq 5, 3) := dk_153 0 5 (dk_at dksX3_doesFollow_3 8 rfl rfl)
theorem dX3_doesFollow_80 : decode cX3_doesFollow 80 = .ok (.iconst 0, 1) := dk_3 (dk_at dksX3_doesFollow_3 11 rfl rfl)
theorem dX3_doesFollow_81 : decode cX3_doesFollow 81 = .ok (.ireturn, 1) := dk_172 (dk_at dksX3_doesFollow_3 12 rfl rfl)
theorem dX3_doesFollow_82 : decode cX3_doesFollow 82 = .ok (.iinc 3 1, 3) := dk_132 3 1 (dk_at dksX3_doesFollow_3 13 rfl rfl)
theorem dX3_doesFollow_85 : decode cX3_doesFollow 85 = .ok (.goto (-83), 3) := dk_167 255 173 (dk_at dksX3_doesFollow_3 16 rfl rfl)
theorem dX3_doesFollow_88 : decode cX3_doesFollow 88 = .ok (.iconst 1, 1) := dk_4 (dk_at dksX3_doesFollow_3 19 rfl rfl)
theorem dX3_doesFollow_89 : decode cX3_doesFollow 89 = .ok (.ireturn, 1) := dk_172 (dk_at dksX3_doesFollow_3 20 rfl rfl)
abbrev cX3_fewest : ByteArray := prog_21_method_106_code
def yX3_fewest : MethodName := ⟨RX3, "fewest", "(II)I"⟩
def dkwX3_fewest_4 : List UInt8 := [160, 0, 7, 4, 167, 0, 4, 3, 54, 5, 21, 4, 27, 100, 27, 126, 54, 4, 167, 255, 183, 29, 172]
abbrev dktX3_fewest_4 : List UInt8 := dkwX3_fewest_4 ++ []
def dkwX3_fewest_3 : List UInt8 := [153, 0, 18, 42, 21, 4, 28, 182, 2, 39, 153, 0, 8, 21, 4, 167, 0, 4, 29, 62, 21, 4, 27]
abbrev dktX3_fewest_3 : List UInt8 := dkwX3_fewest_3 ++ dktX3_fewest_4
def dkwX3_fewest_2 : List UInt8 := [159, 0, 15, 21, 4, 184, 1, 188, 29, 184, 1, 188, 162, 0, 7, 4, 167, 0, 4, 3, 54, 6, 21, 6]
abbrev dktX3_fewest_2 : List UInt8 := dkwX3_fewest_2 ++ dktX3_fewest_3
def dkwX3_fewest_1 : List UInt8 := [164, 0, 5, 2, 172, 16, 254, 62, 3, 54, 4, 3, 54, 5, 21, 5, 154, 0, 74, 29, 16, 254]
abbrev dktX3_fewest_1 : List UInt8 := dkwX3_fewest_1 ++ dktX3_fewest_2
def dkwX3_fewest_0 : List UInt8 := [42, 27, 182, 2, 36, 153, 0, 20, 42, 28, 182, 1, 217, 153, 0, 12, 27, 184, 1, 188, 16, 12]
abbrev dktX3_fewest_0 : List UInt8 := dkwX3_fewest_0 ++ dktX3_fewest_1
theorem dksX3_fewest_0 : cX3_fewest.data.toList.drop 0 = dktX3_fewest_0 := by decide +kernel
theorem dksX3_fewest_1 : cX3_fewest.data.toList.drop 22 = dktX3_fewest_1 := dk_seg dksX3_fewest_0 22 rfl rfl
theorem dksX3_fewest_2 : cX3_fewest.data.toList.drop 44 = dktX3_fewest_2 := dk_seg dksX3_fewest_1 22 rfl rfl
theorem dksX3_fewest_3 : cX3_fewest.data.toList.drop 68 = dktX3_fewest_3 := dk_seg dksX3_fewest_2 24 rfl rfl
theorem dksX3_fewest_4 : cX3_fewest.data.toList.drop 91 = dktX3_fewest_4 := dk_seg dksX3_fewest_3 23 rfl rfl
theorem dX3_fewest_0 : decode cX3_fewest 0 = .ok (.aload_n 0, 1) := dk_42 (dk_at dksX3_fewest_0 0 rfl rfl)
theorem dX3_fewest_1 : decode cX3_fewest 1 = .ok (.iload_n 1, 1) := dk_27 (dk_at dksX3_fewest_0 1 rfl rfl)
theorem dX3_fewest_2 : decode cX3_fewest 2 = .ok (.invokevirtual 548, 3) := dk_182 2 36 (dk_at dksX3_fewest_0 2 rfl rfl)
theorem dX3_fewest_5 : decode cX3_fewest 5 = .ok (.ifCond .eq 20, 3) := dk_153 0 20 (dk_at dksX3_fewest_0 5 rfl rfl)
theorem dX3_fewest_8 : decode cX3_fewest 8 = .ok (.aload_n 0, 1) := dk_42 (dk_at dksX3_fewest_0 8 rfl rfl)
theorem dX3_fewest_9 : decode cX3_fewest 9 = .ok (.iload_n 2, 1) := dk_28 (dk_at dksX3_fewest_0 9 rfl rfl)
theorem dX3_fewest_10 : decode cX3_fewest 10 = .ok (.invokevirtual 473, 3) := dk_182 1 217 (dk_at dksX3_fewest_0 10 rfl rfl)
theorem dX3_fewest_13 : decode cX3_fewest 13 = .ok (.ifCond .eq 12, 3) := dk_153 0 12 (dk_at dksX3_fewest_0 13 rfl rfl)
theorem dX3_fewest_16 : decode cX3_fewest 16 = .ok (.iload_n 1, 1) := dk_27 (dk_at dksX3_fewest_0 16 rfl rfl)
theorem dX3_fewest_17 : decode cX3_fewest 17 = .ok (.invokestatic 444, 3) := dk_184 1 188 (dk_at dksX3_fewest_0 17 rfl rfl)
theorem dX3_fewest_20 : decode cX3_fewest 20 = .ok (.bipush 12, 2) := dk_16 12 (dk_at dksX3_fewest_0 20 rfl rfl)
theorem dX3_fewest_22 : decode cX3_fewest 22 = .ok (.if_icmp .le 5, 3) := dk_164 0 5 (dk_at dksX3_fewest_1 0 rfl rfl)
theorem dX3_fewest_25 : decode cX3_fewest 25 = .ok (.iconst (-1), 1) := dk_2 (dk_at dksX3_fewest_1 3 rfl rfl)
theorem dX3_fewest_26 : decode cX3_fewest 26 = .ok (.ireturn, 1) := dk_172 (dk_at dksX3_fewest_1 4 rfl rfl)
theorem dX3_fewest_27 : decode cX3_fewest 27 = .ok (.bipush (-2), 2) := dk_16 254 (dk_at dksX3_fewest_1 5 rfl rfl)
theorem dX3_fewest_29 : decode cX3_fewest 29 = .ok (.istore_n 3, 1) := dk_62 (dk_at dksX3_fewest_1 7 rfl rfl)
theorem dX3_fewest_30 : decode cX3_fewest 30 = .ok (.iconst 0, 1) := dk_3 (dk_at dksX3_fewest_1 8 rfl rfl)
theorem dX3_fewest_31 : decode cX3_fewest 31 = .ok (.istore 4, 2) := dk_54 4 (dk_at dksX3_fewest_1 9 rfl rfl)
theorem dX3_fewest_33 : decode cX3_fewest 33 = .ok (.iconst 0, 1) := dk_3 (dk_at dksX3_fewest_1 11 rfl rfl)
theorem dX3_fewest_34 : decode cX3_fewest 34 = .ok (.istore 5, 2) := dk_54 5 (dk_at dksX3_fewest_1 12 rfl rfl)
theorem dX3_fewest_36 : decode cX3_fewest 36 = .ok (.iload 5, 2) := dk_21 5 (dk_at dksX3_fewest_1 14 rfl rfl)
theorem dX3_fewest_38 : decode cX3_fewest 38 = .ok (.ifCond .ne 74, 3) := dk_154 0 74 (dk_at dksX3_fewest_1 16 rfl rfl)
theorem dX3_fewest_41 : decode cX3_fewest 41 = .ok (.iload_n 3, 1) := dk_29 (dk_at dksX3_fewest_1 19 rfl rfl)
theorem dX3_fewest_42 : decode cX3_fewest 42 = .ok (.bipush (-2), 2) := dk_16 254 (dk_at dksX3_fewest_1 20 rfl rfl)
theorem dX3_fewest_44 : decode cX3_fewest 44 = .ok (.if_icmp .eq 15, 3) := dk_159 0 15 (dk_at dksX3_fewest_2 0 rfl rfl)
theorem dX3_fewest_47 : decode cX3_fewest 47 = .ok (.iload 4, 2) := dk_21 4 (dk_at dksX3_fewest_2 3 rfl rfl)
theorem dX3_fewest_49 : decode cX3_fewest 49 = .ok (.invokestatic 444, 3) := dk_184 1 188 (dk_at dksX3_fewest_2 5 rfl rfl)
theorem dX3_fewest_52 : decode cX3_fewest 52 = .ok (.iload_n 3, 1) := dk_29 (dk_at dksX3_fewest_2 8 rfl rfl)
theorem dX3_fewest_53 : decode cX3_fewest 53 = .ok (.invokestatic 444, 3) := dk_184 1 188 (dk_at dksX3_fewest_2 9 rfl rfl)
theorem dX3_fewest_56 : decode cX3_fewest 56 = .ok (.if_icmp .ge 7, 3) := dk_162 0 7 (dk_at dksX3_fewest_2 12 rfl rfl)
theorem dX3_fewest_59 : decode cX3_fewest 59 = .ok (.iconst 1, 1) := dk_4 (dk_at dksX3_fewest_2 15 rfl rfl)
theorem dX3_fewest_60 : decode cX3_fewest 60 = .ok (.goto 4, 3) := dk_167 0 4 (dk_at dksX3_fewest_2 16 rfl rfl)
theorem dX3_fewest_63 : decode cX3_fewest 63 = .ok (.iconst 0, 1) := dk_3 (dk_at dksX3_fewest_2 19 rfl rfl)
theorem dX3_fewest_64 : decode cX3_fewest 64 = .ok (.istore 6, 2) := dk_54 6 (dk_at dksX3_fewest_2 20 rfl rfl)
theorem dX3_fewest_66 : decode cX3_fewest 66 = .ok (.iload 6, 2) := dk_21 6 (dk_at dksX3_fewest_2 22 rfl rfl)
theorem dX3_fewest_68 : decode cX3_fewest 68 = .ok (.ifCond .eq 18, 3) := dk_153 0 18 (dk_at dksX3_fewest_3 0 rfl rfl)
theorem dX3_fewest_71 : decode cX3_fewest 71 = .ok (.aload_n 0, 1) := dk_42 (dk_at dksX3_fewest_3 3 rfl rfl)
theorem dX3_fewest_72 : decode cX3_fewest 72 = .ok (.iload 4, 2) := dk_21 4 (dk_at dksX3_fewest_3 4 rfl rfl)
theorem dX3_fewest_74 : decode cX3_fewest 74 = .ok (.iload_n 2, 1) := dk_28 (dk_at dksX3_fewest_3 6 rfl rfl)
theorem dX3_fewest_75 : decode cX3_fewest 75 = .ok (.invokevirtual 551, 3) := dk_182 2 39 (dk_at dksX3_fewest_3 7 rfl rfl)
theorem dX3_fewest_78 : decode cX3_fewest 78 = .ok (.ifCond .eq 8, 3) := dk_153 0 8 (dk_at dksX3_fewest_3 10 rfl rfl)
theorem dX3_fewest_81 : decode cX3_fewest 81 = .ok (.iload 4, 2) := dk_21 4 (dk_at dksX3_fewest_3 13 rfl rfl)
theorem dX3_fewest_83 : decode cX3_fewest 83 = .ok (.goto 4, 3) := dk_167 0 4 (dk_at dksX3_fewest_3 15 rfl rfl)
theorem dX3_fewest_86 : decode cX3_fewest 86 = .ok (.iload_n 3, 1) := dk_29 (dk_at dksX3_fewest_3 18 rfl rfl)
theorem dX3_fewest_87 : decode cX3_fewest 87 = .ok (.istore_n 3, 1) := dk_62 (dk_at dksX3_fewest_3 19 rfl rfl)
theorem dX3_fewest_88 : decode cX3_fewest 88 = .ok (.iload 4, 2) := dk_21 4 (dk_at dksX3_fewest_3 20 rfl rfl)
theorem dX3_fewest_90 : decode cX3_fewest 90 = .ok (.iload_n 1, 1) := dk_27 (dk_at dksX3_fewest_3 22 rfl rfl)
theorem dX3_fewest_91 : decode cX3_fewest 91 = .ok (.if_icmp .ne 7, 3) := dk_160 0 7 (dk_at dksX3_fewest_4 0 rfl rfl)
theorem dX3_fewest_94 : decode cX3_fewest 94 = .ok (.iconst 1, 1) := dk_4 (dk_at dksX3_fewest_4 3 rfl rfl)
theorem dX3_fewest_95 : decode cX3_fewest 95 = .ok (.goto 4, 3) := dk_167 0 4 (dk_at dksX3_fewest_4 4 rfl rfl)
theorem dX3_fewest_98 : decode cX3_fewest 98 = .ok (.iconst 0, 1) := dk_3 (dk_at dksX3_fewest_4 7 rfl rfl)
theorem dX3_fewest_99 : decode cX3_fewest 99 = .ok (.istore 5, 2) := dk_54 5 (dk_at dksX3_fewest_4 8 rfl rfl)
theorem dX3_fewest_101 : decode cX3_fewest 101 = .ok (.iload 4, 2) := dk_21 4 (dk_at dksX3_fewest_4 10 rfl rfl)
theorem dX3_fewest_103 : decode cX3_fewest 103 = .ok (.iload_n 1, 1) := dk_27 (dk_at dksX3_fewest_4 12 rfl rfl)
theorem dX3_fewest_104 : decode cX3_fewest 104 = .ok (.isub, 1) := dk_100 (dk_at dksX3_fewest_4 13 rfl rfl)
theorem dX3_fewest_105 : decode cX3_fewest 105 = .ok (.iload_n 1, 1) := dk_27 (dk_at dksX3_fewest_4 14 rfl rfl)
theorem dX3_fewest_106 : decode cX3_fewest 106 = .ok (.iand, 1) := dk_126 (dk_at dksX3_fewest_4 15 rfl rfl)
theorem dX3_fewest_107 : decode cX3_fewest 107 = .ok (.istore 4, 2) := dk_54 4 (dk_at dksX3_fewest_4 16 rfl rfl)
theorem dX3_fewest_109 : decode cX3_fewest 109 = .ok (.goto (-73), 3) := dk_167 255 183 (dk_at dksX3_fewest_4 18 rfl rfl)
theorem dX3_fewest_112 : decode cX3_fewest 112 = .ok (.iload_n 3, 1) := dk_29 (dk_at dksX3_fewest_4 21 rfl rfl)
theorem dX3_fewest_113 : decode cX3_fewest 113 = .ok (.ireturn, 1) := dk_172 (dk_at dksX3_fewest_4 22 rfl rfl)
abbrev cX3_opposite : ByteArray := prog_21_method_107_code
def yX3_opposite : MethodName := ⟨RX3, "opposite", "(II)I"⟩
def dkwX3_opposite_2 : List UInt8 := [153, 0, 14, 42, 28, 29, 182, 1, 223, 153, 0, 5, 3, 172, 132, 3, 1, 167, 255, 225, 4, 172]
abbrev dktX3_opposite_2 : List UInt8 := dkwX3_opposite_2 ++ []
def dkwX3_opposite_1 : List UInt8 := [182, 0, 186, 154, 0, 5, 2, 172, 3, 62, 29, 42, 182, 0, 190, 162, 0, 29, 42, 27, 29, 182, 1, 223]
abbrev dktX3_opposite_1 : List UInt8 := dkwX3_opposite_1 ++ dktX3_opposite_2
def dkwX3_opposite_0 : List UInt8 := [42, 27, 182, 1, 217, 153, 0, 23, 42, 28, 182, 1, 217, 153, 0, 15, 27, 28, 159, 0, 10, 42]
abbrev dktX3_opposite_0 : List UInt8 := dkwX3_opposite_0 ++ dktX3_opposite_1
theorem dksX3_opposite_0 : cX3_opposite.data.toList.drop 0 = dktX3_opposite_0 := by decide +kernel
theorem dksX3_opposite_1 : cX3_opposite.data.toList.drop 22 = dktX3_opposite_1 := dk_seg dksX3_opposite_0 22 rfl rfl
theorem dksX3_opposite_2 : cX3_opposite.data.toList.drop 46 = dktX3_opposite_2 := dk_seg dksX3_opposite_1 24 rfl rfl
theorem dX3_opposite_0 : decode cX3_opposite 0 = .ok (.aload_n 0, 1) := dk_42 (dk_at dksX3_opposite_0 0 rfl rfl)
theorem dX3_opposite_1 : decode cX3_opposite 1 = .ok (.iload_n 1, 1) := dk_27 (dk_at dksX3_opposite_0 1 rfl rfl)
theorem dX3_opposite_2 : decode cX3_opposite 2 = .ok (.invokevirtual 473, 3) := dk_182 1 217 (dk_at dksX3_opposite_0 2 rfl rfl)
theorem dX3_opposite_5 : decode cX3_opposite 5 = .ok (.ifCond .eq 23, 3) := dk_153 0 23 (dk_at dksX3_opposite_0 5 rfl rfl)
theorem dX3_opposite_8 : decode cX3_opposite 8 = .ok (.aload_n 0, 1) := dk_42 (dk_at dksX3_opposite_0 8 rfl rfl)
theorem dX3_opposite_9 : decode cX3_opposite 9 = .ok (.iload_n 2, 1) := dk_28 (dk_at dksX3_opposite_0 9 rfl rfl)
theorem dX3_opposite_10 : decode cX3_opposite 10 = .ok (.invokevirtual 473, 3) := dk_182 1 217 (dk_at dksX3_opposite_0 10 rfl rfl)
theorem dX3_opposite_13 : decode cX3_opposite 13 = .ok (.ifCond .eq 15, 3) := dk_153 0 15 (dk_at dksX3_opposite_0 13 rfl rfl)
theorem dX3_opposite_16 : decode cX3_opposite 16 = .ok (.iload_n 1, 1) := dk_27 (dk_at dksX3_opposite_0 16 rfl rfl)
theorem dX3_opposite_17 : decode cX3_opposite 17 = .ok (.iload_n 2, 1) := dk_28 (dk_at dksX3_opposite_0 17 rfl rfl)
theorem dX3_opposite_18 : decode cX3_opposite 18 = .ok (.if_icmp .eq 10, 3) := dk_159 0 10 (dk_at dksX3_opposite_0 18 rfl rfl)
theorem dX3_opposite_21 : decode cX3_opposite 21 = .ok (.aload_n 0, 1) := dk_42 (dk_at dksX3_opposite_0 21 rfl rfl)
theorem dX3_opposite_22 : decode cX3_opposite 22 = .ok (.invokevirtual 186, 3) := dk_182 0 186 (dk_at dksX3_opposite_1 0 rfl rfl)
theorem dX3_opposite_25 : decode cX3_opposite 25 = .ok (.ifCond .ne 5, 3) := dk_154 0 5 (dk_at dksX3_opposite_1 3 rfl rfl)
theorem dX3_opposite_28 : decode cX3_opposite 28 = .ok (.iconst (-1), 1) := dk_2 (dk_at dksX3_opposite_1 6 rfl rfl)
theorem dX3_opposite_29 : decode cX3_opposite 29 = .ok (.ireturn, 1) := dk_172 (dk_at dksX3_opposite_1 7 rfl rfl)
theorem dX3_opposite_30 : decode cX3_opposite 30 = .ok (.iconst 0, 1) := dk_3 (dk_at dksX3_opposite_1 8 rfl rfl)
theorem dX3_opposite_31 : decode cX3_opposite 31 = .ok (.istore_n 3, 1) := dk_62 (dk_at dksX3_opposite_1 9 rfl rfl)
theorem dX3_opposite_32 : decode cX3_opposite 32 = .ok (.iload_n 3, 1) := dk_29 (dk_at dksX3_opposite_1 10 rfl rfl)
theorem dX3_opposite_33 : decode cX3_opposite 33 = .ok (.aload_n 0, 1) := dk_42 (dk_at dksX3_opposite_1 11 rfl rfl)
theorem dX3_opposite_34 : decode cX3_opposite 34 = .ok (.invokevirtual 190, 3) := dk_182 0 190 (dk_at dksX3_opposite_1 12 rfl rfl)
theorem dX3_opposite_37 : decode cX3_opposite 37 = .ok (.if_icmp .ge 29, 3) := dk_162 0 29 (dk_at dksX3_opposite_1 15 rfl rfl)
theorem dX3_opposite_40 : decode cX3_opposite 40 = .ok (.aload_n 0, 1) := dk_42 (dk_at dksX3_opposite_1 18 rfl rfl)
theorem dX3_opposite_41 : decode cX3_opposite 41 = .ok (.iload_n 1, 1) := dk_27 (dk_at dksX3_opposite_1 19 rfl rfl)
theorem dX3_opposite_42 : decode cX3_opposite 42 = .ok (.iload_n 3, 1) := dk_29 (dk_at dksX3_opposite_1 20 rfl rfl)
theorem dX3_opposite_43 : decode cX3_opposite 43 = .ok (.invokevirtual 479, 3) := dk_182 1 223 (dk_at dksX3_opposite_1 21 rfl rfl)
theorem dX3_opposite_46 : decode cX3_opposite 46 = .ok (.ifCond .eq 14, 3) := dk_153 0 14 (dk_at dksX3_opposite_2 0 rfl rfl)
theorem dX3_opposite_49 : decode cX3_opposite 49 = .ok (.aload_n 0, 1) := dk_42 (dk_at dksX3_opposite_2 3 rfl rfl)
theorem dX3_opposite_50 : decode cX3_opposite 50 = .ok (.iload_n 2, 1) := dk_28 (dk_at dksX3_opposite_2 4 rfl rfl)
theorem dX3_opposite_51 : decode cX3_opposite 51 = .ok (.iload_n 3, 1) := dk_29 (dk_at dksX3_opposite_2 5 rfl rfl)
theorem dX3_opposite_52 : decode cX3_opposite 52 = .ok (.invokevirtual 479, 3) := dk_182 1 223 (dk_at dksX3_opposite_2 6 rfl rfl)
theorem dX3_opposite_55 : decode cX3_opposite 55 = .ok (.ifCond .eq 5, 3) := dk_153 0 5 (dk_at dksX3_opposite_2 9 rfl rfl)
theorem dX3_opposite_58 : decode cX3_opposite 58 = .ok (.iconst 0, 1) := dk_3 (dk_at dksX3_opposite_2 12 rfl rfl)
theorem dX3_opposite_59 : decode cX3_opposite 59 = .ok (.ireturn, 1) := dk_172 (dk_at dksX3_opposite_2 13 rfl rfl)
theorem dX3_opposite_60 : decode cX3_opposite 60 = .ok (.iinc 3 1, 3) := dk_132 3 1 (dk_at dksX3_opposite_2 14 rfl rfl)
theorem dX3_opposite_63 : decode cX3_opposite 63 = .ok (.goto (-31), 3) := dk_167 255 225 (dk_at dksX3_opposite_2 17 rfl rfl)
theorem dX3_opposite_66 : decode cX3_opposite 66 = .ok (.iconst 1, 1) := dk_4 (dk_at dksX3_opposite_2 20 rfl rfl)
theorem dX3_opposite_67 : decode cX3_opposite 67 = .ok (.ireturn, 1) := dk_172 (dk_at dksX3_opposite_2 21 rfl rfl)
abbrev cX3_when : ByteArray := prog_21_method_108_code
def yX3_when : MethodName := ⟨RX3, "when", "(II)I"⟩
def dkwX3_when_7 : List UInt8 := [172]
abbrev dktX3_when_7 : List UInt8 := dkwX3_when_7 ++ []
def dkwX3_when_6 : List UInt8 := [161, 0, 16, 42, 27, 21, 4, 182, 1, 223, 153, 0, 6, 21, 5, 172, 132, 5, 1, 167, 255, 163, 16, 254]
abbrev dktX3_when_6 : List UInt8 := dkwX3_when_6 ++ dktX3_when_7
def dkwX3_when_5 : List UInt8 := [42, 180, 0, 40, 21, 6, 46, 120, 167, 0, 4, 3, 130, 54, 4, 132, 6, 1, 167, 255, 200, 21, 5, 29]
abbrev dktX3_when_5 : List UInt8 := dkwX3_when_5 ++ dktX3_when_6
def dkwX3_when_4 : List UInt8 := [180, 0, 9, 16, 6, 46, 164, 0, 39, 21, 4, 42, 180, 0, 43, 21, 6, 46, 21, 5, 160, 0, 15, 4]
abbrev dktX3_when_4 : List UInt8 := dkwX3_when_4 ++ dktX3_when_5
def dkwX3_when_3 : List UInt8 := [16, 100, 96, 162, 0, 90, 3, 54, 6, 21, 6, 42, 180, 0, 9, 8, 46, 162, 0, 51, 21, 5, 42]
abbrev dktX3_when_3 : List UInt8 := dkwX3_when_3 ++ dktX3_when_4
def dkwX3_when_2 : List UInt8 := [16, 6, 46, 62, 42, 180, 0, 9, 4, 46, 54, 4, 42, 180, 0, 9, 16, 6, 46, 54, 5, 21, 5, 29]
abbrev dktX3_when_2 : List UInt8 := dkwX3_when_2 ++ dktX3_when_3
def dkwX3_when_1 : List UInt8 := [154, 0, 5, 2, 172, 28, 42, 180, 0, 9, 16, 6, 46, 164, 0, 7, 28, 167, 0, 10, 42, 180, 0, 9]
abbrev dktX3_when_1 : List UInt8 := dkwX3_when_1 ++ dktX3_when_2
def dkwX3_when_0 : List UInt8 := [42, 27, 182, 1, 217, 153, 0, 22, 42, 182, 0, 186, 153, 0, 15, 28, 133, 9, 20, 2, 42, 184, 0, 179]
abbrev dktX3_when_0 : List UInt8 := dkwX3_when_0 ++ dktX3_when_1
theorem dksX3_when_0 : cX3_when.data.toList.drop 0 = dktX3_when_0 := by decide +kernel
theorem dksX3_when_1 : cX3_when.data.toList.drop 24 = dktX3_when_1 := dk_seg dksX3_when_0 24 rfl rfl
theorem dksX3_when_2 : cX3_when.data.toList.drop 48 = dktX3_when_2 := dk_seg dksX3_when_1 24 rfl rfl
theorem dksX3_when_3 : cX3_when.data.toList.drop 72 = dktX3_when_3 := dk_seg dksX3_when_2 24 rfl rfl
theorem dksX3_when_4 : cX3_when.data.toList.drop 95 = dktX3_when_4 := dk_seg dksX3_when_3 23 rfl rfl
theorem dksX3_when_5 : cX3_when.data.toList.drop 119 = dktX3_when_5 := dk_seg dksX3_when_4 24 rfl rfl
theorem dksX3_when_6 : cX3_when.data.toList.drop 143 = dktX3_when_6 := dk_seg dksX3_when_5 24 rfl rfl
theorem dksX3_when_7 : cX3_when.data.toList.drop 167 = dktX3_when_7 := dk_seg dksX3_when_6 24 rfl rfl
theorem dX3_when_0 : decode cX3_when 0 = .ok (.aload_n 0, 1) := dk_42 (dk_at dksX3_when_0 0 rfl rfl)
theorem dX3_when_1 : decode cX3_when 1 = .ok (.iload_n 1, 1) := dk_27 (dk_at dksX3_when_0 1 rfl rfl)
theorem dX3_when_2 : decode cX3_when 2 = .ok (.invokevirtual 473, 3) := dk_182 1 217 (dk_at dksX3_when_0 2 rfl rfl)
theorem dX3_when_5 : decode cX3_when 5 = .ok (.ifCond .eq 22, 3) := dk_153 0 22 (dk_at dksX3_when_0 5 rfl rfl)
theorem dX3_when_8 : decode cX3_when 8 = .ok (.aload_n 0, 1) := dk_42 (dk_at dksX3_when_0 8 rfl rfl)
theorem dX3_when_9 : decode cX3_when 9 = .ok (.invokevirtual 186, 3) := dk_182 0 186 (dk_at dksX3_when_0 9 rfl rfl)
theorem dX3_when_12 : decode cX3_when 12 = .ok (.ifCond .eq 15, 3) := dk_153 0 15 (dk_at dksX3_when_0 12 rfl rfl)
theorem dX3_when_15 : decode cX3_when 15 = .ok (.iload_n 2, 1) := dk_28 (dk_at dksX3_when_0 15 rfl rfl)
theorem dX3_when_16 : decode cX3_when 16 = .ok (.i2l, 1) := dk_133 (dk_at dksX3_when_0 16 rfl rfl)
theorem dX3_when_17 : decode cX3_when 17 = .ok (.lconst 0, 1) := dk_9 (dk_at dksX3_when_0 17 rfl rfl)
theorem dX3_when_18 : decode cX3_when 18 = .ok (.ldc2_w 554, 3) := dk_20 2 42 (dk_at dksX3_when_0 18 rfl rfl)
theorem dX3_when_21 : decode cX3_when 21 = .ok (.invokestatic 179, 3) := dk_184 0 179 (dk_at dksX3_when_0 21 rfl rfl)
theorem dX3_when_24 : decode cX3_when 24 = .ok (.ifCond .ne 5, 3) := dk_154 0 5 (dk_at dksX3_when_1 0 rfl rfl)
theorem dX3_when_27 : decode cX3_when 27 = .ok (.iconst (-1), 1) := dk_2 (dk_at dksX3_when_1 3 rfl rfl)
theorem dX3_when_28 : decode cX3_when 28 = .ok (.ireturn, 1) := dk_172 (dk_at dksX3_when_1 4 rfl rfl)
theorem dX3_when_29 : decode cX3_when 29 = .ok (.iload_n 2, 1) := dk_28 (dk_at dksX3_when_1 5 rfl rfl)
theorem dX3_when_30 : decode cX3_when 30 = .ok (.aload_n 0, 1) := dk_42 (dk_at dksX3_when_1 6 rfl rfl)
theorem dX3_when_31 : decode cX3_when 31 = .ok (.getfield 9, 3) := dk_180 0 9 (dk_at dksX3_when_1 7 rfl rfl)
theorem dX3_when_34 : decode cX3_when 34 = .ok (.bipush 6, 2) := dk_16 6 (dk_at dksX3_when_1 10 rfl rfl)
theorem dX3_when_36 : decode cX3_when 36 = .ok (.iaload, 1) := dk_46 (dk_at dksX3_when_1 12 rfl rfl)
theorem dX3_when_37 : decode cX3_when 37 = .ok (.if_icmp .le 7, 3) := dk_164 0 7 (dk_at dksX3_when_1 13 rfl rfl)
theorem dX3_when_40 : decode cX3_when 40 = .ok (.iload_n 2, 1) := dk_28 (dk_at dksX3_when_1 16 rfl rfl)
theorem dX3_when_41 : decode cX3_when 41 = .ok (.goto 10, 3) := dk_167 0 10 (dk_at dksX3_when_1 17 rfl rfl)
theorem dX3_when_44 : decode cX3_when 44 = .ok (.aload_n 0, 1) := dk_42 (dk_at dksX3_when_1 20 rfl rfl)
theorem dX3_when_45 : decode cX3_when 45 = .ok (.getfield 9, 3) := dk_180 0 9 (dk_at dksX3_when_1 21 rfl rfl)
theorem dX3_when_48 : decode cX3_when 48 = .ok (.bipush 6, 2) := dk_16 6 (dk_at dksX3_when_2 0 rfl rfl)
theorem dX3_when_50 : decode cX3_when 50 = .ok (.iaload, 1) := dk_46 (dk_at dksX3_when_2 2 rfl rfl)
theorem dX3_when_51 : decode cX3_when 51 = .ok (.istore_n 3, 1) := dk_62 (dk_at dksX3_when_2 3 rfl rfl)
theorem dX3_when_52 : decode cX3_when 52 = .ok (.aload_n 0, 1) := dk_42 (dk_at dksX3_when_2 4 rfl rfl)
theorem dX3_when_53 : decode cX3_when 53 = .ok (.getfield 9, 3) := dk_180 0 9 (dk_at dksX3_when_2 5 rfl rfl)
theorem dX3_when_56 : decode cX3_when 56 = .ok (.iconst 1, 1) := dk_4 (dk_at dksX3_when_2 8 rfl rfl)
theorem dX3_when_57 : decode cX3_when 57 = .ok (.iaload, 1) := dk_46 (dk_at dksX3_when_2 9 rfl rfl)
theorem dX3_when_58 : decode cX3_when 58 = .ok (.istore 4, 2) := dk_54 4 (dk_at dksX3_when_2 10 rfl rfl)
theorem dX3_when_60 : decode cX3_when 60 = .ok (.aload_n 0, 1) := dk_42 (dk_at dksX3_when_2 12 rfl rfl)
theorem dX3_when_61 : decode cX3_when 61 = .ok (.getfield 9, 3) := dk_180 0 9 (dk_at dksX3_when_2 13 rfl rfl)
theorem dX3_when_64 : decode cX3_when 64 = .ok (.bipush 6, 2) := dk_16 6 (dk_at dksX3_when_2 16 rfl rfl)
theorem dX3_when_66 : decode cX3_when 66 = .ok (.iaload, 1) := dk_46 (dk_at dksX3_when_2 18 rfl rfl)
theorem dX3_when_67 : decode cX3_when 67 = .ok (.istore 5, 2) := dk_54 5 (dk_at dksX3_when_2 19 rfl rfl)
theorem dX3_when_69 : decode cX3_when 69 = .ok (.iload 5, 2) := dk_21 5 (dk_at dksX3_when_2 21 rfl rfl)
theorem dX3_when_71 : decode cX3_when 71 = .ok (.iload_n 3, 1) := dk_29 (dk_at dksX3_when_2 23 rfl rfl)
theorem dX3_when_72 : decode cX3_when 72 = .ok (.bipush 100, 2) := dk_16 100 (dk_at dksX3_when_3 0 rfl rfl)
theorem dX3_when_74 : decode cX3_when 74 = .ok (.iadd, 1) := dk_96 (dk_at dksX3_when_3 2 rfl rfl)
theorem dX3_when_75 : decode cX3_when 75 = .ok (.if_icmp .ge 90, 3) := dk_162 0 90 (dk_at dksX3_when_3 3 rfl rfl)
theorem dX3_when_78 : decode cX3_when 78 = .ok (.iconst 0, 1) := dk_3 (dk_at dksX3_when_3 6 rfl rfl)
theorem dX3_when_79 : decode cX3_when 79 = .ok (.istore 6, 2) := dk_54 6 (dk_at dksX3_when_3 7 rfl rfl)
theorem dX3_when_81 : decode cX3_when 81 = .ok (.iload 6, 2) := dk_21 6 (dk_at dksX3_when_3 9 rfl rfl)
theorem dX3_when_83 : decode cX3_when 83 = .ok (.aload_n 0, 1) := dk_42 (dk_at dksX3_when_3 11 rfl rfl)
theorem dX3_when_84 : decode cX3_when 84 = .ok (.getfield 9, 3) := dk_180 0 9 (dk_at dksX3_when_3 12 rfl rfl)
theorem dX3_when_87 : decode cX3_when 87 = .ok (.iconst 5, 1) := dk_8 (dk_at dksX3_when_3 15 rfl rfl)
theorem dX3_when_88 : decode cX3_when 88 = .ok (.iaload, 1) := dk_46 (dk_at dksX3_when_3 16 rfl rfl)
theorem dX3_when_89 : decode cX3_when 89 = .ok (.if_icmp .ge 51, 3) := dk_162 0 51 (dk_at dksX3_when_3 17 rfl rfl)
theorem dX3_when_92 : decode cX3_when 92 = .ok (.iload 5, 2) := dk_21 5 (dk_at dksX3_when_3 20 rfl rfl)
theorem dX3_when_94 : decode cX3_when 94 = .ok (.aload_n 0, 1) := dk_42 (dk_at dksX3_when_3 22 rfl rfl)
theorem dX3_when_95 : decode cX3_when 95 = .ok (.getfield 9, 3) := dk_180 0 9 (dk_at dksX3_when_4 0 rfl rfl)
theorem dX3_when_98 : decode cX3_when 98 = .ok (.bipush 6, 2) := dk_16 6 (dk_at dksX3_when_4 3 rfl rfl)
theorem dX3_when_100 : decode cX3_when 100 = .ok (.iaload, 1) := dk_46 (dk_at dksX3_when_4 5 rfl rfl)
theorem dX3_when_101 : decode cX3_when 101 = .ok (.if_icmp .le 39, 3) := dk_164 0 39 (dk_at dksX3_when_4 6 rfl rfl)
theorem dX3_when_104 : decode cX3_when 104 = .ok (.iload 4, 2) := dk_21 4 (dk_at dksX3_when_4 9 rfl rfl)
theorem dX3_when_106 : decode cX3_when 106 = .ok (.aload_n 0, 1) := dk_42 (dk_at dksX3_when_4 11 rfl rfl)
theorem dX3_when_107 : decode cX3_when 107 = .ok (.getfield 43, 3) := dk_180 0 43 (dk_at dksX3_when_4 12 rfl rfl)
theorem dX3_when_110 : decode cX3_when 110 = .ok (.iload 6, 2) := dk_21 6 (dk_at dksX3_when_4 15 rfl rfl)
theorem dX3_when_112 : decode cX3_when 112 = .ok (.iaload, 1) := dk_46 (dk_at dksX3_when_4 17 rfl rfl)
theorem dX3_when_113 : decode cX3_when 113 = .ok (.iload 5, 2) := dk_21 5 (dk_at dksX3_when_4 18 rfl rfl)
theorem dX3_when_115 : decode cX3_when 115 = .ok (.if_icmp .ne 15, 3) := dk_160 0 15 (dk_at dksX3_when_4 20 rfl rfl)
theorem dX3_when_118 : decode cX3_when 118 = .ok (.iconst 1, 1) := dk_4 (dk_at dksX3_when_4 23 rfl rfl)
theorem dX3_when_119 : decode cX3_when 119 = .ok (.aload_n 0, 1) := dk_42 (dk_at dksX3_when_5 0 rfl rfl)
theorem dX3_when_120 : decode cX3_when 120 = .ok (.getfield 40, 3) := dk_180 0 40 (dk_at dksX3_when_5 1 rfl rfl)
theorem dX3_when_123 : decode cX3_when 123 = .ok (.iload 6, 2) := dk_21 6 (dk_at dksX3_when_5 4 rfl rfl)
theorem dX3_when_125 : decode cX3_when 125 = .ok (.iaload, 1) := dk_46 (dk_at dksX3_when_5 6 rfl rfl)
theorem dX3_when_126 : decode cX3_when 126 = .ok (.ishl, 1) := dk_120 (dk_at dksX3_when_5 7 rfl rfl)
theorem dX3_when_127 : decode cX3_when 127 = .ok (.goto 4, 3) := dk_167 0 4 (dk_at dksX3_when_5 8 rfl rfl)
theorem dX3_when_130 : decode cX3_when 130 = .ok (.iconst 0, 1) := dk_3 (dk_at dksX3_when_5 11 rfl rfl)
theorem dX3_when_131 : decode cX3_when 131 = .ok (.ixor, 1) := dk_130 (dk_at dksX3_when_5 12 rfl rfl)
theorem dX3_when_132 : decode cX3_when 132 = .ok (.istore 4, 2) := dk_54 4 (dk_at dksX3_when_5 13 rfl rfl)
theorem dX3_when_134 : decode cX3_when 134 = .ok (.iinc 6 1, 3) := dk_132 6 1 (dk_at dksX3_when_5 15 rfl rfl)
theorem dX3_when_137 : decode cX3_when 137 = .ok (.goto (-56), 3) := dk_167 255 200 (dk_at dksX3_when_5 18 rfl rfl)
theorem dX3_when_140 : decode cX3_when 140 = .ok (.iload 5, 2) := dk_21 5 (dk_at dksX3_when_5 21 rfl rfl)
theorem dX3_when_142 : decode cX3_when 142 = .ok (.iload_n 3, 1) := dk_29 (dk_at dksX3_when_5 23 rfl rfl)
theorem dX3_when_143 : decode cX3_when 143 = .ok (.if_icmp .lt 16, 3) := dk_161 0 16 (dk_at dksX3_when_6 0 rfl rfl)
theorem dX3_when_146 : decode cX3_when 146 = .ok (.aload_n 0, 1) := dk_42 (dk_at dksX3_when_6 3 rfl rfl)
theorem dX3_when_147 : decode cX3_when 147 = .ok (.iload_n 1, 1) := dk_27 (dk_at dksX3_when_6 4 rfl rfl)
theorem dX3_when_148 : decode cX3_when 148 = .ok (.iload 4, 2) := dk_21 4 (dk_at dksX3_when_6 5 rfl rfl)
theorem dX3_when_150 : decode cX3_when 150 = .ok (.invokevirtual 479, 3) := dk_182 1 223 (dk_at dksX3_when_6 7 rfl rfl)
theorem dX3_when_153 : decode cX3_when 153 = .ok (.ifCond .eq 6, 3) := dk_153 0 6 (dk_at dksX3_when_6 10 rfl rfl)
theorem dX3_when_156 : decode cX3_when 156 = .ok (.iload 5, 2) := dk_21 5 (dk_at dksX3_when_6 13 rfl rfl)
theorem dX3_when_158 : decode cX3_when 158 = .ok (.ireturn, 1) := dk_172 (dk_at dksX3_when_6 15 rfl rfl)
theorem dX3_when_159 : decode cX3_when 159 = .ok (.iinc 5 1, 3) := dk_132 5 1 (dk_at dksX3_when_6 16 rfl rfl)
theorem dX3_when_162 : decode cX3_when 162 = .ok (.goto (-93), 3) := dk_167 255 163 (dk_at dksX3_when_6 19 rfl rfl)
theorem dX3_when_165 : decode cX3_when 165 = .ok (.bipush (-2), 2) := dk_16 254 (dk_at dksX3_when_6 22 rfl rfl)
theorem dX3_when_167 : decode cX3_when 167 = .ok (.ireturn, 1) := dk_172 (dk_at dksX3_when_7 0 rfl rfl)
abbrev cX3_least : ByteArray := prog_21_method_113_code
def yX3_least : MethodName := ⟨RX3, "least", "(II)I"⟩
def dkwX3_least_7 : List UInt8 := [21, 4, 172]
abbrev dktX3_least_7 : List UInt8 := dkwX3_least_7 ++ []
def dkwX3_least_6 : List UInt8 := [182, 2, 53, 153, 0, 7, 4, 167, 0, 4, 3, 96, 54, 4, 132, 5, 1, 167, 255, 201, 42, 182, 2, 56]
abbrev dktX3_least_6 : List UInt8 := dkwX3_least_6 ++ dktX3_least_7
def dkwX3_least_5 : List UInt8 := [27, 159, 0, 32, 42, 180, 0, 13, 21, 5, 46, 42, 180, 0, 13, 27, 46, 160, 0, 16, 42, 21, 5]
abbrev dktX3_least_5 : List UInt8 := dkwX3_least_5 ++ dktX3_least_6
def dkwX3_least_4 : List UInt8 := [182, 2, 0, 3, 54, 4, 3, 54, 5, 21, 5, 42, 180, 0, 9, 5, 46, 162, 0, 50, 21, 4, 21, 5]
abbrev dktX3_least_4 : List UInt8 := dkwX3_least_4 ++ dktX3_least_5
def dkwX3_least_3 : List UInt8 := [167, 255, 211, 29, 16, 254, 159, 0, 7, 28, 154, 0, 5, 29, 172, 42, 182, 2, 50, 42, 16, 6, 29]
abbrev dktX3_least_3 : List UInt8 := dkwX3_least_3 ++ dktX3_least_4
def dkwX3_least_2 : List UInt8 := [159, 0, 17, 42, 21, 4, 182, 1, 235, 42, 29, 182, 1, 235, 162, 0, 6, 21, 4, 62, 132, 4, 1]
abbrev dktX3_least_2 : List UInt8 := dkwX3_least_2 ++ dktX3_least_3
def dkwX3_least_1 : List UInt8 := [54, 4, 21, 4, 42, 180, 0, 183, 162, 0, 42, 42, 27, 21, 4, 182, 2, 44, 153, 0, 26, 29, 16, 254]
abbrev dktX3_least_1 : List UInt8 := dkwX3_least_1 ++ dktX3_least_2
def dkwX3_least_0 : List UInt8 := [42, 27, 182, 1, 194, 153, 0, 13, 28, 133, 9, 10, 184, 0, 179, 154, 0, 5, 2, 172, 16, 254, 62, 3]
abbrev dktX3_least_0 : List UInt8 := dkwX3_least_0 ++ dktX3_least_1
theorem dksX3_least_0 : cX3_least.data.toList.drop 0 = dktX3_least_0 := by decide +kernel
theorem dksX3_least_1 : cX3_least.data.toList.drop 24 = dktX3_least_1 := dk_seg dksX3_least_0 24 rfl rfl
theorem dksX3_least_2 : cX3_least.data.toList.drop 48 = dktX3_least_2 := dk_seg dksX3_least_1 24 rfl rfl
theorem dksX3_least_3 : cX3_least.data.toList.drop 71 = dktX3_least_3 := dk_seg dksX3_least_2 23 rfl rfl
theorem dksX3_least_4 : cX3_least.data.toList.drop 94 = dktX3_least_4 := dk_seg dksX3_least_3 23 rfl rfl
theorem dksX3_least_5 : cX3_least.data.toList.drop 118 = dktX3_least_5 := dk_seg dksX3_least_4 24 rfl rfl
theorem dksX3_least_6 : cX3_least.data.toList.drop 141 = dktX3_least_6 := dk_seg dksX3_least_5 23 rfl rfl
theorem dksX3_least_7 : cX3_least.data.toList.drop 165 = dktX3_least_7 := dk_seg dksX3_least_6 24 rfl rfl
theorem dX3_least_0 : decode cX3_least 0 = .ok (.aload_n 0, 1) := dk_42 (dk_at dksX3_least_0 0 rfl rfl)
theorem dX3_least_1 : decode cX3_least 1 = .ok (.iload_n 1, 1) := dk_27 (dk_at dksX3_least_0 1 rfl rfl)
theorem dX3_least_2 : decode cX3_least 2 = .ok (.invokevirtual 450, 3) := dk_182 1 194 (dk_at dksX3_least_0 2 rfl rfl)
theorem dX3_least_5 : decode cX3_least 5 = .ok (.ifCond .eq 13, 3) := dk_153 0 13 (dk_at dksX3_least_0 5 rfl rfl)
theorem dX3_least_8 : decode cX3_least 8 = .ok (.iload_n 2, 1) := dk_28 (dk_at dksX3_least_0 8 rfl rfl)
theorem dX3_least_9 : decode cX3_least 9 = .ok (.i2l, 1) := dk_133 (dk_at dksX3_least_0 9 rfl rfl)
theorem dX3_least_10 : decode cX3_least 10 = .ok (.lconst 0, 1) := dk_9 (dk_at dksX3_least_0 10 rfl rfl)
theorem dX3_least_11 : decode cX3_least 11 = .ok (.lconst 1, 1) := dk_10 (dk_at dksX3_least_0 11 rfl rfl)
theorem dX3_least_12 : decode cX3_least 12 = .ok (.invokestatic 179, 3) := dk_184 0 179 (dk_at dksX3_least_0 12 rfl rfl)
theorem dX3_least_15 : decode cX3_least 15 = .ok (.ifCond .ne 5, 3) := dk_154 0 5 (dk_at dksX3_least_0 15 rfl rfl)
theorem dX3_least_18 : decode cX3_least 18 = .ok (.iconst (-1), 1) := dk_2 (dk_at dksX3_least_0 18 rfl rfl)
theorem dX3_least_19 : decode cX3_least 19 = .ok (.ireturn, 1) := dk_172 (dk_at dksX3_least_0 19 rfl rfl)
theorem dX3_least_20 : decode cX3_least 20 = .ok (.bipush (-2), 2) := dk_16 254 (dk_at dksX3_least_0 20 rfl rfl)
theorem dX3_least_22 : decode cX3_least 22 = .ok (.istore_n 3, 1) := dk_62 (dk_at dksX3_least_0 22 rfl rfl)
theorem dX3_least_23 : decode cX3_least 23 = .ok (.iconst 0, 1) := dk_3 (dk_at dksX3_least_0 23 rfl rfl)
theorem dX3_least_24 : decode cX3_least 24 = .ok (.istore 4, 2) := dk_54 4 (dk_at dksX3_least_1 0 rfl rfl)
theorem dX3_least_26 : decode cX3_least 26 = .ok (.iload 4, 2) := dk_21 4 (dk_at dksX3_least_1 2 rfl rfl)
theorem dX3_least_28 : decode cX3_least 28 = .ok (.aload_n 0, 1) := dk_42 (dk_at dksX3_least_1 4 rfl rfl)
theorem dX3_least_29 : decode cX3_least 29 = .ok (.getfield 183, 3) := dk_180 0 183 (dk_at dksX3_least_1 5 rfl rfl)
theorem dX3_least_32 : decode cX3_least 32 = .ok (.if_icmp .ge 42, 3) := dk_162 0 42 (dk_at dksX3_least_1 8 rfl rfl)
theorem dX3_least_35 : decode cX3_least 35 = .ok (.aload_n 0, 1) := dk_42 (dk_at dksX3_least_1 11 rfl rfl)
theorem dX3_least_36 : decode cX3_least 36 = .ok (.iload_n 1, 1) := dk_27 (dk_at dksX3_least_1 12 rfl rfl)
theorem dX3_least_37 : decode cX3_least 37 = .ok (.iload 4, 2) := dk_21 4 (dk_at dksX3_least_1 13 rfl rfl)
theorem dX3_least_39 : decode cX3_least 39 = .ok (.invokevirtual 556, 3) := dk_182 2 44 (dk_at dksX3_least_1 15 rfl rfl)
theorem dX3_least_42 : decode cX3_least 42 = .ok (.ifCond .eq 26, 3) := dk_153 0 26 (dk_at dksX3_least_1 18 rfl rfl)
theorem dX3_least_45 : decode cX3_least 45 = .ok (.iload_n 3, 1) := dk_29 (dk_at dksX3_least_1 21 rfl rfl)
theorem dX3_least_46 : decode cX3_least 46 = .ok (.bipush (-2), 2) := dk_16 254 (dk_at dksX3_least_1 22 rfl rfl)
theorem dX3_least_48 : decode cX3_least 48 = .ok (.if_icmp .eq 17, 3) := dk_159 0 17 (dk_at dksX3_least_2 0 rfl rfl)
theorem dX3_least_51 : decode cX3_least 51 = .ok (.aload_n 0, 1) := dk_42 (dk_at dksX3_least_2 3 rfl rfl)
theorem dX3_least_52 : decode cX3_least 52 = .ok (.iload 4, 2) := dk_21 4 (dk_at dksX3_least_2 4 rfl rfl)
theorem dX3_least_54 : decode cX3_least 54 = .ok (.invokevirtual 491, 3) := dk_182 1 235 (dk_at dksX3_least_2 6 rfl rfl)
theorem dX3_least_57 : decode cX3_least 57 = .ok (.aload_n 0, 1) := dk_42 (dk_at dksX3_least_2 9 rfl rfl)
theorem dX3_least_58 : decode cX3_least 58 = .ok (.iload_n 3, 1) := dk_29 (dk_at dksX3_least_2 10 rfl rfl)
theorem dX3_least_59 : decode cX3_least 59 = .ok (.invokevirtual 491, 3) := dk_182 1 235 (dk_at dksX3_least_2 11 rfl rfl)
theorem dX3_least_62 : decode cX3_least 62 = .ok (.if_icmp .ge 6, 3) := dk_162 0 6 (dk_at dksX3_least_2 14 rfl rfl)
theorem dX3_least_65 : decode cX3_least 65 = .ok (.iload 4, 2) := dk_21 4 (dk_at dksX3_least_2 17 rfl rfl)
theorem dX3_least_67 : decode cX3_least 67 = .ok (.istore_n 3, 1) := dk_62 (dk_at dksX3_least_2 19 rfl rfl)
theorem dX3_least_68 : decode cX3_least 68 = .ok (.iinc 4 1, 3) := dk_132 4 1 (dk_at dksX3_least_2 20 rfl rfl)
theorem dX3_least_71 : decode cX3_least 71 = .ok (.goto (-45), 3) := dk_167 255 211 (dk_at dksX3_least_3 0 rfl rfl)
theorem dX3_least_74 : decode cX3_least 74 = .ok (.iload_n 3, 1) := dk_29 (dk_at dksX3_least_3 3 rfl rfl)
theorem dX3_least_75 : decode cX3_least 75 = .ok (.bipush (-2), 2) := dk_16 254 (dk_at dksX3_least_3 4 rfl rfl)
theorem dX3_least_77 : decode cX3_least 77 = .ok (.if_icmp .eq 7, 3) := dk_159 0 7 (dk_at dksX3_least_3 6 rfl rfl)
theorem dX3_least_80 : decode cX3_least 80 = .ok (.iload_n 2, 1) := dk_28 (dk_at dksX3_least_3 9 rfl rfl)
theorem dX3_least_81 : decode cX3_least 81 = .ok (.ifCond .ne 5, 3) := dk_154 0 5 (dk_at dksX3_least_3 10 rfl rfl)
theorem dX3_least_84 : decode cX3_least 84 = .ok (.iload_n 3, 1) := dk_29 (dk_at dksX3_least_3 13 rfl rfl)
theorem dX3_least_85 : decode cX3_least 85 = .ok (.ireturn, 1) := dk_172 (dk_at dksX3_least_3 14 rfl rfl)
theorem dX3_least_86 : decode cX3_least 86 = .ok (.aload_n 0, 1) := dk_42 (dk_at dksX3_least_3 15 rfl rfl)
theorem dX3_least_87 : decode cX3_least 87 = .ok (.invokevirtual 562, 3) := dk_182 2 50 (dk_at dksX3_least_3 16 rfl rfl)
theorem dX3_least_90 : decode cX3_least 90 = .ok (.aload_n 0, 1) := dk_42 (dk_at dksX3_least_3 19 rfl rfl)
theorem dX3_least_91 : decode cX3_least 91 = .ok (.bipush 6, 2) := dk_16 6 (dk_at dksX3_least_3 20 rfl rfl)
theorem dX3_least_93 : decode cX3_least 93 = .ok (.iload_n 3, 1) := dk_29 (dk_at dksX3_least_3 22 rfl rfl)
theorem dX3_least_94 : decode cX3_least 94 = .ok (.invokevirtual 512, 3) := dk_182 2 0 (dk_at dksX3_least_4 0 rfl rfl)
theorem dX3_least_97 : decode cX3_least 97 = .ok (.iconst 0, 1) := dk_3 (dk_at dksX3_least_4 3 rfl rfl)
theorem dX3_least_98 : decode cX3_least 98 = .ok (.istore 4, 2) := dk_54 4 (dk_at dksX3_least_4 4 rfl rfl)
theorem dX3_least_100 : decode cX3_least 100 = .ok (.iconst 0, 1) := dk_3 (dk_at dksX3_least_4 6 rfl rfl)
theorem dX3_least_101 : decode cX3_least 101 = .ok (.istore 5, 2) := dk_54 5 (dk_at dksX3_least_4 7 rfl rfl)
theorem dX3_least_103 : decode cX3_least 103 = .ok (.iload 5, 2) := dk_21 5 (dk_at dksX3_least_4 9 rfl rfl)
theorem dX3_least_105 : decode cX3_least 105 = .ok (.aload_n 0, 1) := dk_42 (dk_at dksX3_least_4 11 rfl rfl)
theorem dX3_least_106 : decode cX3_least 106 = .ok (.getfield 9, 3) := dk_180 0 9 (dk_at dksX3_least_4 12 rfl rfl)
theorem dX3_least_109 : decode cX3_least 109 = .ok (.iconst 2, 1) := dk_5 (dk_at dksX3_least_4 15 rfl rfl)
theorem dX3_least_110 : decode cX3_least 110 = .ok (.iaload, 1) := dk_46 (dk_at dksX3_least_4 16 rfl rfl)
theorem dX3_least_111 : decode cX3_least 111 = .ok (.if_icmp .ge 50, 3) := dk_162 0 50 (dk_at dksX3_least_4 17 rfl rfl)
theorem dX3_least_114 : decode cX3_least 114 = .ok (.iload 4, 2) := dk_21 4 (dk_at dksX3_least_4 20 rfl rfl)
theorem dX3_least_116 : decode cX3_least 116 = .ok (.iload 5, 2) := dk_21 5 (dk_at dksX3_least_4 22 rfl rfl)
theorem dX3_least_118 : decode cX3_least 118 = .ok (.iload_n 1, 1) := dk_27 (dk_at dksX3_least_5 0 rfl rfl)
theorem dX3_least_119 : decode cX3_least 119 = .ok (.if_icmp .eq 32, 3) := dk_159 0 32 (dk_at dksX3_least_5 1 rfl rfl)
theorem dX3_least_122 : decode cX3_least 122 = .ok (.aload_n 0, 1) := dk_42 (dk_at dksX3_least_5 4 rfl rfl)
theorem dX3_least_123 : decode cX3_least 123 = .ok (.getfield 13, 3) := dk_180 0 13 (dk_at dksX3_least_5 5 rfl rfl)
theorem dX3_least_126 : decode cX3_least 126 = .ok (.iload 5, 2) := dk_21 5 (dk_at dksX3_least_5 8 rfl rfl)
theorem dX3_least_128 : decode cX3_least 128 = .ok (.iaload, 1) := dk_46 (dk_at dksX3_least_5 10 rfl rfl)
theorem dX3_least_129 : decode cX3_least 129 = .ok (.aload_n 0, 1) := dk_42 (dk_at dksX3_least_5 11 rfl rfl)
theorem dX3_least_130 : decode cX3_least 130 = .ok (.getfield 13, 3) := dk_180 0 13 (dk_at dksX3_least_5 12 rfl rfl)
theorem dX3_least_133 : decode cX3_least 133 = .ok (.iload_n 1, 1) := dk_27 (dk_at dksX3_least_5 15 rfl rfl)
theorem dX3_least_134 : decode cX3_least 134 = .ok (.iaload, 1) := dk_46 (dk_at dksX3_least_5 16 rfl rfl)
theorem dX3_least_135 : decode cX3_least 135 = .ok (.if_icmp .ne 16, 3) := dk_160 0 16 (dk_at dksX3_least_5 17 rfl rfl)
theorem dX3_least_138 : decode cX3_least 138 = .ok (.aload_n 0, 1) := dk_42 (dk_at dksX3_least_5 20 rfl rfl)
theorem dX3_least_139 : decode cX3_least 139 = .ok (.iload 5, 2) := dk_21 5 (dk_at dksX3_least_5 21 rfl rfl)
theorem dX3_least_141 : decode cX3_least 141 = .ok (.invokevirtual 565, 3) := dk_182 2 53 (dk_at dksX3_least_6 0 rfl rfl)
theorem dX3_least_144 : decode cX3_least 144 = .ok (.ifCond .eq 7, 3) := dk_153 0 7 (dk_at dksX3_least_6 3 rfl rfl)
theorem dX3_least_147 : decode cX3_least 147 = .ok (.iconst 1, 1) := dk_4 (dk_at dksX3_least_6 6 rfl rfl)
theorem dX3_least_148 : decode cX3_least 148 = .ok (.goto 4, 3) := dk_167 0 4 (dk_at dksX3_least_6 7 rfl rfl)
theorem dX3_least_151 : decode cX3_least 151 = .ok (.iconst 0, 1) := dk_3 (dk_at dksX3_least_6 10 rfl rfl)
theorem dX3_least_152 : decode cX3_least 152 = .ok (.iadd, 1) := dk_96 (dk_at dksX3_least_6 11 rfl rfl)
theorem dX3_least_153 : decode cX3_least 153 = .ok (.istore 4, 2) := dk_54 4 (dk_at dksX3_least_6 12 rfl rfl)
theorem dX3_least_155 : decode cX3_least 155 = .ok (.iinc 5 1, 3) := dk_132 5 1 (dk_at dksX3_least_6 14 rfl rfl)
theorem dX3_least_158 : decode cX3_least 158 = .ok (.goto (-55), 3) := dk_167 255 201 (dk_at dksX3_least_6 17 rfl rfl)
theorem dX3_least_161 : decode cX3_least 161 = .ok (.aload_n 0, 1) := dk_42 (dk_at dksX3_least_6 20 rfl rfl)
theorem dX3_least_162 : decode cX3_least 162 = .ok (.invokevirtual 568, 3) := dk_182 2 56 (dk_at dksX3_least_6 21 rfl rfl)
theorem dX3_least_165 : decode cX3_least 165 = .ok (.iload 4, 2) := dk_21 4 (dk_at dksX3_least_7 0 rfl rfl)
theorem dX3_least_167 : decode cX3_least 167 = .ok (.ireturn, 1) := dk_172 (dk_at dksX3_least_7 2 rfl rfl)
abbrev cX3_getsOver : ByteArray := prog_21_method_109_code
def yX3_getsOver : MethodName := ⟨RX3, "getsOver", "(II)Z"⟩
def dkwX3_getsOver_2 : List UInt8 := [180, 0, 16, 27, 46, 161, 0, 7, 4, 167, 0, 4, 3, 172]
abbrev dktX3_getsOver_2 : List UInt8 := dkwX3_getsOver_2 ++ []
def dkwX3_getsOver_1 : List UInt8 := [4, 46, 182, 1, 223, 153, 0, 31, 42, 16, 6, 28, 182, 1, 232, 154, 0, 21, 42, 28, 182, 1, 235, 42]
abbrev dktX3_getsOver_1 : List UInt8 := dkwX3_getsOver_1 ++ dktX3_getsOver_2
def dkwX3_getsOver_0 : List UInt8 := [42, 180, 0, 25, 27, 46, 154, 0, 54, 42, 27, 28, 182, 1, 232, 153, 0, 45, 42, 28, 42, 180, 0, 9]
abbrev dktX3_getsOver_0 : List UInt8 := dkwX3_getsOver_0 ++ dktX3_getsOver_1
theorem dksX3_getsOver_0 : cX3_getsOver.data.toList.drop 0 = dktX3_getsOver_0 := by decide +kernel
theorem dksX3_getsOver_1 : cX3_getsOver.data.toList.drop 24 = dktX3_getsOver_1 := dk_seg dksX3_getsOver_0 24 rfl rfl
theorem dksX3_getsOver_2 : cX3_getsOver.data.toList.drop 48 = dktX3_getsOver_2 := dk_seg dksX3_getsOver_1 24 rfl rfl
theorem dX3_getsOver_0 : decode cX3_getsOver 0 = .ok (.aload_n 0, 1) := dk_42 (dk_at dksX3_getsOver_0 0 rfl rfl)
theorem dX3_getsOver_1 : decode cX3_getsOver 1 = .ok (.getfield 25, 3) := dk_180 0 25 (dk_at dksX3_getsOver_0 1 rfl rfl)
theorem dX3_getsOver_4 : decode cX3_getsOver 4 = .ok (.iload_n 1, 1) := dk_27 (dk_at dksX3_getsOver_0 4 rfl rfl)
theorem dX3_getsOver_5 : decode cX3_getsOver 5 = .ok (.iaload, 1) := dk_46 (dk_at dksX3_getsOver_0 5 rfl rfl)
theorem dX3_getsOver_6 : decode cX3_getsOver 6 = .ok (.ifCond .ne 54, 3) := dk_154 0 54 (dk_at dksX3_getsOver_0 6 rfl rfl)
theorem dX3_getsOver_9 : decode cX3_getsOver 9 = .ok (.aload_n 0, 1) := dk_42 (dk_at dksX3_getsOver_0 9 rfl rfl)
theorem dX3_getsOver_10 : decode cX3_getsOver 10 = .ok (.iload_n 1, 1) := dk_27 (dk_at dksX3_getsOver_0 10 rfl rfl)
theorem dX3_getsOver_11 : decode cX3_getsOver 11 = .ok (.iload_n 2, 1) := dk_28 (dk_at dksX3_getsOver_0 11 rfl rfl)
theorem dX3_getsOver_12 : decode cX3_getsOver 12 = .ok (.invokevirtual 488, 3) := dk_182 1 232 (dk_at dksX3_getsOver_0 12 rfl rfl)
theorem dX3_getsOver_15 : decode cX3_getsOver 15 = .ok (.ifCond .eq 45, 3) := dk_153 0 45 (dk_at dksX3_getsOver_0 15 rfl rfl)
theorem dX3_getsOver_18 : decode cX3_getsOver 18 = .ok (.aload_n 0, 1) := dk_42 (dk_at dksX3_getsOver_0 18 rfl rfl)
theorem dX3_getsOver_19 : decode cX3_getsOver 19 = .ok (.iload_n 2, 1) := dk_28 (dk_at dksX3_getsOver_0 19 rfl rfl)
theorem dX3_getsOver_20 : decode cX3_getsOver 20 = .ok (.aload_n 0, 1) := dk_42 (dk_at dksX3_getsOver_0 20 rfl rfl)
theorem dX3_getsOver_21 : decode cX3_getsOver 21 = .ok (.getfield 9, 3) := dk_180 0 9 (dk_at dksX3_getsOver_0 21 rfl rfl)
theorem dX3_getsOver_24 : decode cX3_getsOver 24 = .ok (.iconst 1, 1) := dk_4 (dk_at dksX3_getsOver_1 0 rfl rfl)
theorem dX3_getsOver_25 : decode cX3_getsOver 25 = .ok (.iaload, 1) := dk_46 (dk_at dksX3_getsOver_1 1 rfl rfl)
theorem dX3_getsOver_26 : decode cX3_getsOver 26 = .ok (.invokevirtual 479, 3) := dk_182 1 223 (dk_at dksX3_getsOver_1 2 rfl rfl)
theorem dX3_getsOver_29 : decode cX3_getsOver 29 = .ok (.ifCond .eq 31, 3) := dk_153 0 31 (dk_at dksX3_getsOver_1 5 rfl rfl)
theorem dX3_getsOver_32 : decode cX3_getsOver 32 = .ok (.aload_n 0, 1) := dk_42 (dk_at dksX3_getsOver_1 8 rfl rfl)
theorem dX3_getsOver_33 : decode cX3_getsOver 33 = .ok (.bipush 6, 2) := dk_16 6 (dk_at dksX3_getsOver_1 9 rfl rfl)
theorem dX3_getsOver_35 : decode cX3_getsOver 35 = .ok (.iload_n 2, 1) := dk_28 (dk_at dksX3_getsOver_1 11 rfl rfl)
theorem dX3_getsOver_36 : decode cX3_getsOver 36 = .ok (.invokevirtual 488, 3) := dk_182 1 232 (dk_at dksX3_getsOver_1 12 rfl rfl)
theorem dX3_getsOver_39 : decode cX3_getsOver 39 = .ok (.ifCond .ne 21, 3) := dk_154 0 21 (dk_at dksX3_getsOver_1 15 rfl rfl)
theorem dX3_getsOver_42 : decode cX3_getsOver 42 = .ok (.aload_n 0, 1) := dk_42 (dk_at dksX3_getsOver_1 18 rfl rfl)
theorem dX3_getsOver_43 : decode cX3_getsOver 43 = .ok (.iload_n 2, 1) := dk_28 (dk_at dksX3_getsOver_1 19 rfl rfl)
theorem dX3_getsOver_44 : decode cX3_getsOver 44 = .ok (.invokevirtual 491, 3) := dk_182 1 235 (dk_at dksX3_getsOver_1 20 rfl rfl)
theorem dX3_getsOver_47 : decode cX3_getsOver 47 = .ok (.aload_n 0, 1) := dk_42 (dk_at dksX3_getsOver_1 23 rfl rfl)
theorem dX3_getsOver_48 : decode cX3_getsOver 48 = .ok (.getfield 16, 3) := dk_180 0 16 (dk_at dksX3_getsOver_2 0 rfl rfl)
theorem dX3_getsOver_51 : decode cX3_getsOver 51 = .ok (.iload_n 1, 1) := dk_27 (dk_at dksX3_getsOver_2 3 rfl rfl)
theorem dX3_getsOver_52 : decode cX3_getsOver 52 = .ok (.iaload, 1) := dk_46 (dk_at dksX3_getsOver_2 4 rfl rfl)
theorem dX3_getsOver_53 : decode cX3_getsOver 53 = .ok (.if_icmp .lt 7, 3) := dk_161 0 7 (dk_at dksX3_getsOver_2 5 rfl rfl)
theorem dX3_getsOver_56 : decode cX3_getsOver 56 = .ok (.iconst 1, 1) := dk_4 (dk_at dksX3_getsOver_2 8 rfl rfl)
theorem dX3_getsOver_57 : decode cX3_getsOver 57 = .ok (.goto 4, 3) := dk_167 0 4 (dk_at dksX3_getsOver_2 9 rfl rfl)
theorem dX3_getsOver_60 : decode cX3_getsOver 60 = .ok (.iconst 0, 1) := dk_3 (dk_at dksX3_getsOver_2 12 rfl rfl)
theorem dX3_getsOver_61 : decode cX3_getsOver 61 = .ok (.ireturn, 1) := dk_172 (dk_at dksX3_getsOver_2 13 rfl rfl)
abbrev cX3_keepsAll : ByteArray := prog_21_method_111_code
def yX3_keepsAll : MethodName := ⟨RX3, "keepsAll", "()V"⟩
def dkwX3_keepsAll_0 : List UInt8 := [42, 7, 3, 182, 2, 47, 177]
abbrev dktX3_keepsAll_0 : List UInt8 := dkwX3_keepsAll_0 ++ []
theorem dksX3_keepsAll_0 : cX3_keepsAll.data.toList.drop 0 = dktX3_keepsAll_0 := by decide +kernel
theorem dX3_keepsAll_0 : decode cX3_keepsAll 0 = .ok (.aload_n 0, 1) := dk_42 (dk_at dksX3_keepsAll_0 0 rfl rfl)
theorem dX3_keepsAll_1 : decode cX3_keepsAll 1 = .ok (.iconst 4, 1) := dk_7 (dk_at dksX3_keepsAll_0 1 rfl rfl)
theorem dX3_keepsAll_2 : decode cX3_keepsAll 2 = .ok (.iconst 0, 1) := dk_3 (dk_at dksX3_keepsAll_0 2 rfl rfl)
theorem dX3_keepsAll_3 : decode cX3_keepsAll 3 = .ok (.invokevirtual 559, 3) := dk_182 2 47 (dk_at dksX3_keepsAll_0 3 rfl rfl)
theorem dX3_keepsAll_6 : decode cX3_keepsAll 6 = .ok (.return_, 1) := dk_177 (dk_at dksX3_keepsAll_0 6 rfl rfl)
abbrev cX3_carriesAll : ByteArray := prog_21_method_134_code
def yX3_carriesAll : MethodName := ⟨RX3, "carriesAll", "(IZ)V"⟩
def dkwX3_carriesAll_7 : List UInt8 := [182, 2, 120, 177]
abbrev dktX3_carriesAll_7 : List UInt8 := dkwX3_carriesAll_7 ++ []
def dkwX3_carriesAll_6 : List UInt8 := [182, 2, 120, 42, 42, 180, 0, 49, 182, 2, 120, 42, 42, 180, 0, 52, 182, 2, 120, 42, 42, 180, 0, 142]
abbrev dktX3_carriesAll_6 : List UInt8 := dkwX3_carriesAll_6 ++ dktX3_carriesAll_7
def dkwX3_carriesAll_5 : List UInt8 := [182, 2, 120, 42, 42, 180, 0, 40, 182, 2, 120, 42, 42, 180, 0, 43, 182, 2, 120, 42, 42, 180, 0, 46]
abbrev dktX3_carriesAll_5 : List UInt8 := dkwX3_carriesAll_5 ++ dktX3_carriesAll_6
def dkwX3_carriesAll_4 : List UInt8 := [182, 2, 120, 42, 42, 180, 0, 31, 182, 2, 120, 42, 42, 180, 0, 34, 182, 2, 120, 42, 42, 180, 0, 37]
abbrev dktX3_carriesAll_4 : List UInt8 := dkwX3_carriesAll_4 ++ dktX3_carriesAll_5
def dkwX3_carriesAll_3 : List UInt8 := [182, 2, 120, 42, 42, 180, 0, 22, 182, 2, 120, 42, 42, 180, 0, 25, 182, 2, 120, 42, 42, 180, 0, 28]
abbrev dktX3_carriesAll_3 : List UInt8 := dkwX3_carriesAll_3 ++ dktX3_carriesAll_4
def dkwX3_carriesAll_2 : List UInt8 := [182, 2, 120, 42, 42, 180, 0, 13, 182, 2, 120, 42, 42, 180, 0, 16, 182, 2, 120, 42, 42, 180, 0, 19]
abbrev dktX3_carriesAll_2 : List UInt8 := dkwX3_carriesAll_2 ++ dktX3_carriesAll_3
def dkwX3_carriesAll_1 : List UInt8 := [42, 42, 180, 0, 145, 182, 2, 120, 42, 42, 180, 0, 145, 3, 46, 181, 1, 100, 42, 42, 180, 0, 9]
abbrev dktX3_carriesAll_1 : List UInt8 := dkwX3_carriesAll_1 ++ dktX3_carriesAll_2
def dkwX3_carriesAll_0 : List UInt8 := [42, 17, 6, 224, 27, 104, 181, 2, 117, 42, 28, 181, 2, 114, 42, 180, 0, 145, 3, 42, 180, 1, 100, 79]
abbrev dktX3_carriesAll_0 : List UInt8 := dkwX3_carriesAll_0 ++ dktX3_carriesAll_1
theorem dksX3_carriesAll_0 : cX3_carriesAll.data.toList.drop 0 = dktX3_carriesAll_0 := by decide +kernel
theorem dksX3_carriesAll_1 : cX3_carriesAll.data.toList.drop 24 = dktX3_carriesAll_1 := dk_seg dksX3_carriesAll_0 24 rfl rfl
theorem dksX3_carriesAll_2 : cX3_carriesAll.data.toList.drop 47 = dktX3_carriesAll_2 := dk_seg dksX3_carriesAll_1 23 rfl rfl
theorem dksX3_carriesAll_3 : cX3_carriesAll.data.toList.drop 71 = dktX3_carriesAll_3 := dk_seg dksX3_carriesAll_2 24 rfl rfl
theorem dksX3_carriesAll_4 : cX3_carriesAll.data.toList.drop 95 = dktX3_carriesAll_4 := dk_seg dksX3_carriesAll_3 24 rfl rfl
theorem dksX3_carriesAll_5 : cX3_carriesAll.data.toList.drop 119 = dktX3_carriesAll_5 := dk_seg dksX3_carriesAll_4 24 rfl rfl
theorem dksX3_carriesAll_6 : cX3_carriesAll.data.toList.drop 143 = dktX3_carriesAll_6 := dk_seg dksX3_carriesAll_5 24 rfl rfl
theorem dksX3_carriesAll_7 : cX3_carriesAll.data.toList.drop 167 = dktX3_carriesAll_7 := dk_seg dksX3_carriesAll_6 24 rfl rfl
theorem dX3_carriesAll_0 : decode cX3_carriesAll 0 = .ok (.aload_n 0, 1) := dk_42 (dk_at dksX3_carriesAll_0 0 rfl rfl)
theorem dX3_carriesAll_1 : decode cX3_carriesAll 1 = .ok (.sipush 1760, 3) := dk_17 6 224 (dk_at dksX3_carriesAll_0 1 rfl rfl)
theorem dX3_carriesAll_4 : decode cX3_carriesAll 4 = .ok (.iload_n 1, 1) := dk_27 (dk_at dksX3_carriesAll_0 4 rfl rfl)
theorem dX3_carriesAll_5 : decode cX3_carriesAll 5 = .ok (.imul, 1) := dk_104 (dk_at dksX3_carriesAll_0 5 rfl rfl)
theorem dX3_carriesAll_6 : decode cX3_carriesAll 6 = .ok (.putfield 629, 3) := dk_181 2 117 (dk_at dksX3_carriesAll_0 6 rfl rfl)
theorem dX3_carriesAll_9 : decode cX3_carriesAll 9 = .ok (.aload_n 0, 1) := dk_42 (dk_at dksX3_carriesAll_0 9 rfl rfl)
theorem dX3_carriesAll_10 : decode cX3_carriesAll 10 = .ok (.iload_n 2, 1) := dk_28 (dk_at dksX3_carriesAll_0 10 rfl rfl)
theorem dX3_carriesAll_11 : decode cX3_carriesAll 11 = .ok (.putfield 626, 3) := dk_181 2 114 (dk_at dksX3_carriesAll_0 11 rfl rfl)
theorem dX3_carriesAll_14 : decode cX3_carriesAll 14 = .ok (.aload_n 0, 1) := dk_42 (dk_at dksX3_carriesAll_0 14 rfl rfl)
theorem dX3_carriesAll_15 : decode cX3_carriesAll 15 = .ok (.getfield 145, 3) := dk_180 0 145 (dk_at dksX3_carriesAll_0 15 rfl rfl)
theorem dX3_carriesAll_18 : decode cX3_carriesAll 18 = .ok (.iconst 0, 1) := dk_3 (dk_at dksX3_carriesAll_0 18 rfl rfl)
theorem dX3_carriesAll_19 : decode cX3_carriesAll 19 = .ok (.aload_n 0, 1) := dk_42 (dk_at dksX3_carriesAll_0 19 rfl rfl)
theorem dX3_carriesAll_20 : decode cX3_carriesAll 20 = .ok (.getfield 356, 3) := dk_180 1 100 (dk_at dksX3_carriesAll_0 20 rfl rfl)
theorem dX3_carriesAll_23 : decode cX3_carriesAll 23 = .ok (.iastore, 1) := dk_79 (dk_at dksX3_carriesAll_0 23 rfl rfl)
theorem dX3_carriesAll_24 : decode cX3_carriesAll 24 = .ok (.aload_n 0, 1) := dk_42 (dk_at dksX3_carriesAll_1 0 rfl rfl)
theorem dX3_carriesAll_25 : decode cX3_carriesAll 25 = .ok (.aload_n 0, 1) := dk_42 (dk_at dksX3_carriesAll_1 1 rfl rfl)
theorem dX3_carriesAll_26 : decode cX3_carriesAll 26 = .ok (.getfield 145, 3) := dk_180 0 145 (dk_at dksX3_carriesAll_1 2 rfl rfl)
theorem dX3_carriesAll_29 : decode cX3_carriesAll 29 = .ok (.invokevirtual 632, 3) := dk_182 2 120 (dk_at dksX3_carriesAll_1 5 rfl rfl)
theorem dX3_carriesAll_32 : decode cX3_carriesAll 32 = .ok (.aload_n 0, 1) := dk_42 (dk_at dksX3_carriesAll_1 8 rfl rfl)
theorem dX3_carriesAll_33 : decode cX3_carriesAll 33 = .ok (.aload_n 0, 1) := dk_42 (dk_at dksX3_carriesAll_1 9 rfl rfl)
theorem dX3_carriesAll_34 : decode cX3_carriesAll 34 = .ok (.getfield 145, 3) := dk_180 0 145 (dk_at dksX3_carriesAll_1 10 rfl rfl)
theorem dX3_carriesAll_37 : decode cX3_carriesAll 37 = .ok (.iconst 0, 1) := dk_3 (dk_at dksX3_carriesAll_1 13 rfl rfl)
theorem dX3_carriesAll_38 : decode cX3_carriesAll 38 = .ok (.iaload, 1) := dk_46 (dk_at dksX3_carriesAll_1 14 rfl rfl)
theorem dX3_carriesAll_39 : decode cX3_carriesAll 39 = .ok (.putfield 356, 3) := dk_181 1 100 (dk_at dksX3_carriesAll_1 15 rfl rfl)
theorem dX3_carriesAll_42 : decode cX3_carriesAll 42 = .ok (.aload_n 0, 1) := dk_42 (dk_at dksX3_carriesAll_1 18 rfl rfl)
theorem dX3_carriesAll_43 : decode cX3_carriesAll 43 = .ok (.aload_n 0, 1) := dk_42 (dk_at dksX3_carriesAll_1 19 rfl rfl)
theorem dX3_carriesAll_44 : decode cX3_carriesAll 44 = .ok (.getfield 9, 3) := dk_180 0 9 (dk_at dksX3_carriesAll_1 20 rfl rfl)
theorem dX3_carriesAll_47 : decode cX3_carriesAll 47 = .ok (.invokevirtual 632, 3) := dk_182 2 120 (dk_at dksX3_carriesAll_2 0 rfl rfl)
theorem dX3_carriesAll_50 : decode cX3_carriesAll 50 = .ok (.aload_n 0, 1) := dk_42 (dk_at dksX3_carriesAll_2 3 rfl rfl)
theorem dX3_carriesAll_51 : decode cX3_carriesAll 51 = .ok (.aload_n 0, 1) := dk_42 (dk_at dksX3_carriesAll_2 4 rfl rfl)
theorem dX3_carriesAll_52 : decode cX3_carriesAll 52 = .ok (.getfield 13, 3) := dk_180 0 13 (dk_at dksX3_carriesAll_2 5 rfl rfl)
theorem dX3_carriesAll_55 : decode cX3_carriesAll 55 = .ok (.invokevirtual 632, 3) := dk_182 2 120 (dk_at dksX3_carriesAll_2 8 rfl rfl)
theorem dX3_carriesAll_58 : decode cX3_carriesAll 58 = .ok (.aload_n 0, 1) := dk_42 (dk_at dksX3_carriesAll_2 11 rfl rfl)
theorem dX3_carriesAll_59 : decode cX3_carriesAll 59 = .ok (.aload_n 0, 1) := dk_42 (dk_at dksX3_carriesAll_2 12 rfl rfl)
theorem dX3_carriesAll_60 : decode cX3_carriesAll 60 = .ok (.getfield 16, 3) := dk_180 0 16 (dk_at dksX3_carriesAll_2 13 rfl rfl)
theorem dX3_carriesAll_63 : decode cX3_carriesAll 63 = .ok (.invokevirtual 632, 3) := dk_182 2 120 (dk_at dksX3_carriesAll_2 16 rfl rfl)
theorem dX3_carriesAll_66 : decode cX3_carriesAll 66 = .ok (.aload_n 0, 1) := dk_42 (dk_at dksX3_carriesAll_2 19 rfl rfl)
theorem dX3_carriesAll_67 : decode cX3_carriesAll 67 = .ok (.aload_n 0, 1) := dk_42 (dk_at dksX3_carriesAll_2 20 rfl rfl)
theorem dX3_carriesAll_68 : decode cX3_carriesAll 68 = .ok (.getfield 19, 3) := dk_180 0 19 (dk_at dksX3_carriesAll_2 21 rfl rfl)
theorem dX3_carriesAll_71 : decode cX3_carriesAll 71 = .ok (.invokevirtual 632, 3) := dk_182 2 120 (dk_at dksX3_carriesAll_3 0 rfl rfl)
theorem dX3_carriesAll_74 : decode cX3_carriesAll 74 = .ok (.aload_n 0, 1) := dk_42 (dk_at dksX3_carriesAll_3 3 rfl rfl)
theorem dX3_carriesAll_75 : decode cX3_carriesAll 75 = .ok (.aload_n 0, 1) := dk_42 (dk_at dksX3_carriesAll_3 4 rfl rfl)
theorem dX3_carriesAll_76 : decode cX3_carriesAll 76 = .ok (.getfield 22, 3) := dk_180 0 22 (dk_at dksX3_carriesAll_3 5 rfl rfl)
theorem dX3_carriesAll_79 : decode cX3_carriesAll 79 = .ok (.invokevirtual 632, 3) := dk_182 2 120 (dk_at dksX3_carriesAll_3 8 rfl rfl)
theorem dX3_carriesAll_82 : decode cX3_carriesAll 82 = .ok (.aload_n 0, 1) := dk_42 (dk_at dksX3_carriesAll_3 11 rfl rfl)
theorem dX3_carriesAll_83 : decode cX3_carriesAll 83 = .ok (.aload_n 0, 1) := dk_42 (dk_at dksX3_carriesAll_3 12 rfl rfl)
theorem dX3_carriesAll_84 : decode cX3_carriesAll 84 = .ok (.getfield 25, 3) := dk_180 0 25 (dk_at dksX3_carriesAll_3 13 rfl rfl)
theorem dX3_carriesAll_87 : decode cX3_carriesAll 87 = .ok (.invokevirtual 632, 3) := dk_182 2 120 (dk_at dksX3_carriesAll_3 16 rfl rfl)
theorem dX3_carriesAll_90 : decode cX3_carriesAll 90 = .ok (.aload_n 0, 1) := dk_42 (dk_at dksX3_carriesAll_3 19 rfl rfl)
theorem dX3_carriesAll_91 : decode cX3_carriesAll 91 = .ok (.aload_n 0, 1) := dk_42 (dk_at dksX3_carriesAll_3 20 rfl rfl)
theorem dX3_carriesAll_92 : decode cX3_carriesAll 92 = .ok (.getfield 28, 3) := dk_180 0 28 (dk_at dksX3_carriesAll_3 21 rfl rfl)
theorem dX3_carriesAll_95 : decode cX3_carriesAll 95 = .ok (.invokevirtual 632, 3) := dk_182 2 120 (dk_at dksX3_carriesAll_4 0 rfl rfl)
theorem dX3_carriesAll_98 : decode cX3_carriesAll 98 = .ok (.aload_n 0, 1) := dk_42 (dk_at dksX3_carriesAll_4 3 rfl rfl)
theorem dX3_carriesAll_99 : decode cX3_carriesAll 99 = .ok (.aload_n 0, 1) := dk_42 (dk_at dksX3_carriesAll_4 4 rfl rfl)
theorem dX3_carriesAll_100 : decode cX3_carriesAll 100 = .ok (.getfield 31, 3) := dk_180 0 31 (dk_at dksX3_carriesAll_4 5 rfl rfl)
theorem dX3_carriesAll_103 : decode cX3_carriesAll 103 = .ok (.invokevirtual 632, 3) := dk_182 2 120 (dk_at dksX3_carriesAll_4 8 rfl rfl)
theorem dX3_carriesAll_106 : decode cX3_carriesAll 106 = .ok (.aload_n 0, 1) := dk_42 (dk_at dksX3_carriesAll_4 11 rfl rfl)
theorem dX3_carriesAll_107 : decode cX3_carriesAll 107 = .ok (.aload_n 0, 1) := dk_42 (dk_at dksX3_carriesAll_4 12 rfl rfl)
theorem dX3_carriesAll_108 : decode cX3_carriesAll 108 = .ok (.getfield 34, 3) := dk_180 0 34 (dk_at dksX3_carriesAll_4 13 rfl rfl)
theorem dX3_carriesAll_111 : decode cX3_carriesAll 111 = .ok (.invokevirtual 632, 3) := dk_182 2 120 (dk_at dksX3_carriesAll_4 16 rfl rfl)
theorem dX3_carriesAll_114 : decode cX3_carriesAll 114 = .ok (.aload_n 0, 1) := dk_42 (dk_at dksX3_carriesAll_4 19 rfl rfl)
theorem dX3_carriesAll_115 : decode cX3_carriesAll 115 = .ok (.aload_n 0, 1) := dk_42 (dk_at dksX3_carriesAll_4 20 rfl rfl)
theorem dX3_carriesAll_116 : decode cX3_carriesAll 116 = .ok (.getfield 37, 3) := dk_180 0 37 (dk_at dksX3_carriesAll_4 21 rfl rfl)
theorem dX3_carriesAll_119 : decode cX3_carriesAll 119 = .ok (.invokevirtual 632, 3) := dk_182 2 120 (dk_at dksX3_carriesAll_5 0 rfl rfl)
theorem dX3_carriesAll_122 : decode cX3_carriesAll 122 = .ok (.aload_n 0, 1) := dk_42 (dk_at dksX3_carriesAll_5 3 rfl rfl)
theorem dX3_carriesAll_123 : decode cX3_carriesAll 123 = .ok (.aload_n 0, 1) := dk_42 (dk_at dksX3_carriesAll_5 4 rfl rfl)
theorem dX3_carriesAll_124 : decode cX3_carriesAll 124 = .ok (.getfield 40, 3) := dk_180 0 40 (dk_at dksX3_carriesAll_5 5 rfl rfl)
theorem dX3_carriesAll_127 : decode cX3_carriesAll 127 = .ok (.invokevirtual 632, 3) := dk_182 2 120 (dk_at dksX3_carriesAll_5 8 rfl rfl)
theorem dX3_carriesAll_130 : decode cX3_carriesAll 130 = .ok (.aload_n 0, 1) := dk_42 (dk_at dksX3_carriesAll_5 11 rfl rfl)
theorem dX3_carriesAll_131 : decode cX3_carriesAll 131 = .ok (.aload_n 0, 1) := dk_42 (dk_at dksX3_carriesAll_5 12 rfl rfl)
theorem dX3_carriesAll_132 : decode cX3_carriesAll 132 = .ok (.getfield 43, 3) := dk_180 0 43 (dk_at dksX3_carriesAll_5 13 rfl rfl)
theorem dX3_carriesAll_135 : decode cX3_carriesAll 135 = .ok (.invokevirtual 632, 3) := dk_182 2 120 (dk_at dksX3_carriesAll_5 16 rfl rfl)
theorem dX3_carriesAll_138 : decode cX3_carriesAll 138 = .ok (.aload_n 0, 1) := dk_42 (dk_at dksX3_carriesAll_5 19 rfl rfl)
theorem dX3_carriesAll_139 : decode cX3_carriesAll 139 = .ok (.aload_n 0, 1) := dk_42 (dk_at dksX3_carriesAll_5 20 rfl rfl)
theorem dX3_carriesAll_140 : decode cX3_carriesAll 140 = .ok (.getfield 46, 3) := dk_180 0 46 (dk_at dksX3_carriesAll_5 21 rfl rfl)
theorem dX3_carriesAll_143 : decode cX3_carriesAll 143 = .ok (.invokevirtual 632, 3) := dk_182 2 120 (dk_at dksX3_carriesAll_6 0 rfl rfl)
theorem dX3_carriesAll_146 : decode cX3_carriesAll 146 = .ok (.aload_n 0, 1) := dk_42 (dk_at dksX3_carriesAll_6 3 rfl rfl)
theorem dX3_carriesAll_147 : decode cX3_carriesAll 147 = .ok (.aload_n 0, 1) := dk_42 (dk_at dksX3_carriesAll_6 4 rfl rfl)
theorem dX3_carriesAll_148 : decode cX3_carriesAll 148 = .ok (.getfield 49, 3) := dk_180 0 49 (dk_at dksX3_carriesAll_6 5 rfl rfl)
theorem dX3_carriesAll_151 : decode cX3_carriesAll 151 = .ok (.invokevirtual 632, 3) := dk_182 2 120 (dk_at dksX3_carriesAll_6 8 rfl rfl)
theorem dX3_carriesAll_154 : decode cX3_carriesAll 154 = .ok (.aload_n 0, 1) := dk_42 (dk_at dksX3_carriesAll_6 11 rfl rfl)
theorem dX3_carriesAll_155 : decode cX3_carriesAll 155 = .ok (.aload_n 0, 1) := dk_42 (dk_at dksX3_carriesAll_6 12 rfl rfl)
theorem dX3_carriesAll_156 : decode cX3_carriesAll 156 = .ok (.getfield 52, 3) := dk_180 0 52 (dk_at dksX3_carriesAll_6 13 rfl rfl)
theorem dX3_carriesAll_159 : decode cX3_carriesAll 159 = .ok (.invokevirtual 632, 3) := dk_182 2 120 (dk_at dksX3_carriesAll_6 16 rfl rfl)
theorem dX3_carriesAll_162 : decode cX3_carriesAll 162 = .ok (.aload_n 0, 1) := dk_42 (dk_at dksX3_carriesAll_6 19 rfl rfl)
theorem dX3_carriesAll_163 : decode cX3_carriesAll 163 = .ok (.aload_n 0, 1) := dk_42 (dk_at dksX3_carriesAll_6 20 rfl rfl)
theorem dX3_carriesAll_164 : decode cX3_carriesAll 164 = .ok (.getfield 142, 3) := dk_180 0 142 (dk_at dksX3_carriesAll_6 21 rfl rfl)
theorem dX3_carriesAll_167 : decode cX3_carriesAll 167 = .ok (.invokevirtual 632, 3) := dk_182 2 120 (dk_at dksX3_carriesAll_7 0 rfl rfl)
theorem dX3_carriesAll_170 : decode cX3_carriesAll 170 = .ok (.return_, 1) := dk_177 (dk_at dksX3_carriesAll_7 3 rfl rfl)
abbrev cX3_carryRow : ByteArray := prog_21_method_133_code
def yX3_carryRow : MethodName := ⟨RX3, "carryRow", "([I)V"⟩
def dkwX3_carryRow_2 : List UInt8 := [180, 2, 117, 4, 96, 181, 2, 117, 132, 2, 1, 167, 255, 203, 177]
abbrev dktX3_carryRow_2 : List UInt8 := dkwX3_carryRow_2 ++ []
def dkwX3_carryRow_1 : List UInt8 := [180, 2, 117, 46, 79, 167, 0, 15, 42, 180, 0, 169, 42, 180, 2, 117, 43, 28, 46, 79, 42, 89]
abbrev dktX3_carryRow_1 : List UInt8 := dkwX3_carryRow_1 ++ dktX3_carryRow_2
def dkwX3_carryRow_0 : List UInt8 := [3, 61, 28, 43, 190, 162, 0, 53, 42, 180, 2, 114, 153, 0, 18, 43, 28, 42, 180, 0, 169, 42]
abbrev dktX3_carryRow_0 : List UInt8 := dkwX3_carryRow_0 ++ dktX3_carryRow_1
theorem dksX3_carryRow_0 : cX3_carryRow.data.toList.drop 0 = dktX3_carryRow_0 := by decide +kernel
theorem dksX3_carryRow_1 : cX3_carryRow.data.toList.drop 22 = dktX3_carryRow_1 := dk_seg dksX3_carryRow_0 22 rfl rfl
theorem dksX3_carryRow_2 : cX3_carryRow.data.toList.drop 44 = dktX3_carryRow_2 := dk_seg dksX3_carryRow_1 22 rfl rfl
theorem dX3_carryRow_0 : decode cX3_carryRow 0 = .ok (.iconst 0, 1) := dk_3 (dk_at dksX3_carryRow_0 0 rfl rfl)
theorem dX3_carryRow_1 : decode cX3_carryRow 1 = .ok (.istore_n 2, 1) := dk_61 (dk_at dksX3_carryRow_0 1 rfl rfl)
theorem dX3_carryRow_2 : decode cX3_carryRow 2 = .ok (.iload_n 2, 1) := dk_28 (dk_at dksX3_carryRow_0 2 rfl rfl)
theorem dX3_carryRow_3 : decode cX3_carryRow 3 = .ok (.aload_n 1, 1) := dk_43 (dk_at dksX3_carryRow_0 3 rfl rfl)
theorem dX3_carryRow_4 : decode cX3_carryRow 4 = .ok (.arraylength, 1) := dk_190 (dk_at dksX3_carryRow_0 4 rfl rfl)
theorem dX3_carryRow_5 : decode cX3_carryRow 5 = .ok (.if_icmp .ge 53, 3) := dk_162 0 53 (dk_at dksX3_carryRow_0 5 rfl rfl)
theorem dX3_carryRow_8 : decode cX3_carryRow 8 = .ok (.aload_n 0, 1) := dk_42 (dk_at dksX3_carryRow_0 8 rfl rfl)
theorem dX3_carryRow_9 : decode cX3_carryRow 9 = .ok (.getfield 626, 3) := dk_180 2 114 (dk_at dksX3_carryRow_0 9 rfl rfl)
theorem dX3_carryRow_12 : decode cX3_carryRow 12 = .ok (.ifCond .eq 18, 3) := dk_153 0 18 (dk_at dksX3_carryRow_0 12 rfl rfl)
theorem dX3_carryRow_15 : decode cX3_carryRow 15 = .ok (.aload_n 1, 1) := dk_43 (dk_at dksX3_carryRow_0 15 rfl rfl)
theorem dX3_carryRow_16 : decode cX3_carryRow 16 = .ok (.iload_n 2, 1) := dk_28 (dk_at dksX3_carryRow_0 16 rfl rfl)
theorem dX3_carryRow_17 : decode cX3_carryRow 17 = .ok (.aload_n 0, 1) := dk_42 (dk_at dksX3_carryRow_0 17 rfl rfl)
theorem dX3_carryRow_18 : decode cX3_carryRow 18 = .ok (.getfield 169, 3) := dk_180 0 169 (dk_at dksX3_carryRow_0 18 rfl rfl)
theorem dX3_carryRow_21 : decode cX3_carryRow 21 = .ok (.aload_n 0, 1) := dk_42 (dk_at dksX3_carryRow_0 21 rfl rfl)
theorem dX3_carryRow_22 : decode cX3_carryRow 22 = .ok (.getfield 629, 3) := dk_180 2 117 (dk_at dksX3_carryRow_1 0 rfl rfl)
theorem dX3_carryRow_25 : decode cX3_carryRow 25 = .ok (.iaload, 1) := dk_46 (dk_at dksX3_carryRow_1 3 rfl rfl)
theorem dX3_carryRow_26 : decode cX3_carryRow 26 = .ok (.iastore, 1) := dk_79 (dk_at dksX3_carryRow_1 4 rfl rfl)
theorem dX3_carryRow_27 : decode cX3_carryRow 27 = .ok (.goto 15, 3) := dk_167 0 15 (dk_at dksX3_carryRow_1 5 rfl rfl)
theorem dX3_carryRow_30 : decode cX3_carryRow 30 = .ok (.aload_n 0, 1) := dk_42 (dk_at dksX3_carryRow_1 8 rfl rfl)
theorem dX3_carryRow_31 : decode cX3_carryRow 31 = .ok (.getfield 169, 3) := dk_180 0 169 (dk_at dksX3_carryRow_1 9 rfl rfl)
theorem dX3_carryRow_34 : decode cX3_carryRow 34 = .ok (.aload_n 0, 1) := dk_42 (dk_at dksX3_carryRow_1 12 rfl rfl)
theorem dX3_carryRow_35 : decode cX3_carryRow 35 = .ok (.getfield 629, 3) := dk_180 2 117 (dk_at dksX3_carryRow_1 13 rfl rfl)
theorem dX3_carryRow_38 : decode cX3_carryRow 38 = .ok (.aload_n 1, 1) := dk_43 (dk_at dksX3_carryRow_1 16 rfl rfl)
theorem dX3_carryRow_39 : decode cX3_carryRow 39 = .ok (.iload_n 2, 1) := dk_28 (dk_at dksX3_carryRow_1 17 rfl rfl)
theorem dX3_carryRow_40 : decode cX3_carryRow 40 = .ok (.iaload, 1) := dk_46 (dk_at dksX3_carryRow_1 18 rfl rfl)
theorem dX3_carryRow_41 : decode cX3_carryRow 41 = .ok (.iastore, 1) := dk_79 (dk_at dksX3_carryRow_1 19 rfl rfl)
theorem dX3_carryRow_42 : decode cX3_carryRow 42 = .ok (.aload_n 0, 1) := dk_42 (dk_at dksX3_carryRow_1 20 rfl rfl)
theorem dX3_carryRow_43 : decode cX3_carryRow 43 = .ok (.dup, 1) := dk_89 (dk_at dksX3_carryRow_1 21 rfl rfl)
theorem dX3_carryRow_44 : decode cX3_carryRow 44 = .ok (.getfield 629, 3) := dk_180 2 117 (dk_at dksX3_carryRow_2 0 rfl rfl)
theorem dX3_carryRow_47 : decode cX3_carryRow 47 = .ok (.iconst 1, 1) := dk_4 (dk_at dksX3_carryRow_2 3 rfl rfl)
theorem dX3_carryRow_48 : decode cX3_carryRow 48 = .ok (.iadd, 1) := dk_96 (dk_at dksX3_carryRow_2 4 rfl rfl)
theorem dX3_carryRow_49 : decode cX3_carryRow 49 = .ok (.putfield 629, 3) := dk_181 2 117 (dk_at dksX3_carryRow_2 5 rfl rfl)
theorem dX3_carryRow_52 : decode cX3_carryRow 52 = .ok (.iinc 2 1, 3) := dk_132 2 1 (dk_at dksX3_carryRow_2 8 rfl rfl)
theorem dX3_carryRow_55 : decode cX3_carryRow 55 = .ok (.goto (-53), 3) := dk_167 255 203 (dk_at dksX3_carryRow_2 11 rfl rfl)
theorem dX3_carryRow_58 : decode cX3_carryRow 58 = .ok (.return_, 1) := dk_177 (dk_at dksX3_carryRow_2 14 rfl rfl)
abbrev cX3_canGetOver : ByteArray := prog_21_method_110_code
def yX3_canGetOver : MethodName := ⟨RX3, "canGetOver", "(I)Z"⟩
def dkwX3_canGetOver_1 : List UInt8 := [167, 255, 234, 3, 172]
abbrev dktX3_canGetOver_1 : List UInt8 := dkwX3_canGetOver_1 ++ []
def dkwX3_canGetOver_0 : List UInt8 := [3, 61, 28, 42, 180, 0, 183, 162, 0, 20, 42, 27, 28, 182, 2, 44, 153, 0, 5, 4, 172, 132, 2, 1]
abbrev dktX3_canGetOver_0 : List UInt8 := dkwX3_canGetOver_0 ++ dktX3_canGetOver_1
theorem dksX3_canGetOver_0 : cX3_canGetOver.data.toList.drop 0 = dktX3_canGetOver_0 := by decide +kernel
theorem dksX3_canGetOver_1 : cX3_canGetOver.data.toList.drop 24 = dktX3_canGetOver_1 := dk_seg dksX3_canGetOver_0 24 rfl rfl
theorem dX3_canGetOver_0 : decode cX3_canGetOver 0 = .ok (.iconst 0, 1) := dk_3 (dk_at dksX3_canGetOver_0 0 rfl rfl)
theorem dX3_canGetOver_1 : decode cX3_canGetOver 1 = .ok (.istore_n 2, 1) := dk_61 (dk_at dksX3_canGetOver_0 1 rfl rfl)
theorem dX3_canGetOver_2 : decode cX3_canGetOver 2 = .ok (.iload_n 2, 1) := dk_28 (dk_at dksX3_canGetOver_0 2 rfl rfl)
theorem dX3_canGetOver_3 : decode cX3_canGetOver 3 = .ok (.aload_n 0, 1) := dk_42 (dk_at dksX3_canGetOver_0 3 rfl rfl)
theorem dX3_canGetOver_4 : decode cX3_canGetOver 4 = .ok (.getfield 183, 3) := dk_180 0 183 (dk_at dksX3_canGetOver_0 4 rfl rfl)
theorem dX3_canGetOver_7 : decode cX3_canGetOver 7 = .ok (.if_icmp .ge 20, 3) := dk_162 0 20 (dk_at dksX3_canGetOver_0 7 rfl rfl)
theorem dX3_canGetOver_10 : decode cX3_canGetOver 10 = .ok (.aload_n 0, 1) := dk_42 (dk_at dksX3_canGetOver_0 10 rfl rfl)
theorem dX3_canGetOver_11 : decode cX3_canGetOver 11 = .ok (.iload_n 1, 1) := dk_27 (dk_at dksX3_canGetOver_0 11 rfl rfl)
theorem dX3_canGetOver_12 : decode cX3_canGetOver 12 = .ok (.iload_n 2, 1) := dk_28 (dk_at dksX3_canGetOver_0 12 rfl rfl)
theorem dX3_canGetOver_13 : decode cX3_canGetOver 13 = .ok (.invokevirtual 556, 3) := dk_182 2 44 (dk_at dksX3_canGetOver_0 13 rfl rfl)
theorem dX3_canGetOver_16 : decode cX3_canGetOver 16 = .ok (.ifCond .eq 5, 3) := dk_153 0 5 (dk_at dksX3_canGetOver_0 16 rfl rfl)
theorem dX3_canGetOver_19 : decode cX3_canGetOver 19 = .ok (.iconst 1, 1) := dk_4 (dk_at dksX3_canGetOver_0 19 rfl rfl)
theorem dX3_canGetOver_20 : decode cX3_canGetOver 20 = .ok (.ireturn, 1) := dk_172 (dk_at dksX3_canGetOver_0 20 rfl rfl)
theorem dX3_canGetOver_21 : decode cX3_canGetOver 21 = .ok (.iinc 2 1, 3) := dk_132 2 1 (dk_at dksX3_canGetOver_0 21 rfl rfl)
theorem dX3_canGetOver_24 : decode cX3_canGetOver 24 = .ok (.goto (-22), 3) := dk_167 255 234 (dk_at dksX3_canGetOver_1 0 rfl rfl)
theorem dX3_canGetOver_27 : decode cX3_canGetOver 27 = .ok (.iconst 0, 1) := dk_3 (dk_at dksX3_canGetOver_1 3 rfl rfl)
theorem dX3_canGetOver_28 : decode cX3_canGetOver 28 = .ok (.ireturn, 1) := dk_172 (dk_at dksX3_canGetOver_1 4 rfl rfl)
abbrev cX3_laysBack : ByteArray := prog_21_method_112_code
def yX3_laysBack : MethodName := ⟨RX3, "laysBack", "()V"⟩
def dkwX3_laysBack_0 : List UInt8 := [42, 7, 4, 182, 2, 47, 177]
abbrev dktX3_laysBack_0 : List UInt8 := dkwX3_laysBack_0 ++ []
theorem dksX3_laysBack_0 : cX3_laysBack.data.toList.drop 0 = dktX3_laysBack_0 := by decide +kernel
theorem dX3_laysBack_0 : decode cX3_laysBack 0 = .ok (.aload_n 0, 1) := dk_42 (dk_at dksX3_laysBack_0 0 rfl rfl)
theorem dX3_laysBack_1 : decode cX3_laysBack 1 = .ok (.iconst 4, 1) := dk_7 (dk_at dksX3_laysBack_0 1 rfl rfl)
theorem dX3_laysBack_2 : decode cX3_laysBack 2 = .ok (.iconst 1, 1) := dk_4 (dk_at dksX3_laysBack_0 2 rfl rfl)
theorem dX3_laysBack_3 : decode cX3_laysBack 3 = .ok (.invokevirtual 559, 3) := dk_182 2 47 (dk_at dksX3_laysBack_0 3 rfl rfl)
theorem dX3_laysBack_6 : decode cX3_laysBack 6 = .ok (.return_, 1) := dk_177 (dk_at dksX3_laysBack_0 6 rfl rfl)
abbrev cX3_plan : ByteArray := prog_21_method_118_code
def yX3_plan : MethodName := ⟨RX3, "plan", "(II)I"⟩
def dkwX3_plan_4 : List UInt8 := [42, 180, 0, 157, 29, 46, 16, 8, 108, 46, 167, 0, 12, 42, 180, 0, 157, 29, 46, 16, 8, 112, 172]
abbrev dktX3_plan_4 : List UInt8 := dkwX3_plan_4 ++ []
def dkwX3_plan_3 : List UInt8 := [154, 0, 10, 42, 180, 2, 62, 167, 0, 5, 16, 254, 172, 28, 5, 112, 4, 160, 0, 20, 42, 180, 0, 151]
abbrev dktX3_plan_3 : List UInt8 := dkwX3_plan_3 ++ dktX3_plan_4
def dkwX3_plan_2 : List UInt8 := [42, 182, 2, 76, 28, 4, 100, 5, 108, 62, 28, 153, 0, 11, 29, 42, 180, 2, 62, 161, 0, 17, 28]
abbrev dktX3_plan_2 : List UInt8 := dkwX3_plan_2 ++ dktX3_plan_3
def dkwX3_plan_1 : List UInt8 := [184, 0, 179, 154, 0, 5, 2, 172, 42, 27, 182, 2, 73, 42, 180, 2, 59, 7, 164, 0, 6, 16, 253, 172]
abbrev dktX3_plan_1 : List UInt8 := dkwX3_plan_1 ++ dktX3_plan_2
def dkwX3_plan_0 : List UInt8 := [42, 182, 0, 186, 153, 0, 25, 27, 133, 9, 10, 184, 0, 179, 153, 0, 15, 28, 133, 9, 20, 2, 71]
abbrev dktX3_plan_0 : List UInt8 := dkwX3_plan_0 ++ dktX3_plan_1
theorem dksX3_plan_0 : cX3_plan.data.toList.drop 0 = dktX3_plan_0 := by decide +kernel
theorem dksX3_plan_1 : cX3_plan.data.toList.drop 23 = dktX3_plan_1 := dk_seg dksX3_plan_0 23 rfl rfl
theorem dksX3_plan_2 : cX3_plan.data.toList.drop 47 = dktX3_plan_2 := dk_seg dksX3_plan_1 24 rfl rfl
theorem dksX3_plan_3 : cX3_plan.data.toList.drop 70 = dktX3_plan_3 := dk_seg dksX3_plan_2 23 rfl rfl
theorem dksX3_plan_4 : cX3_plan.data.toList.drop 94 = dktX3_plan_4 := dk_seg dksX3_plan_3 24 rfl rfl
theorem dX3_plan_0 : decode cX3_plan 0 = .ok (.aload_n 0, 1) := dk_42 (dk_at dksX3_plan_0 0 rfl rfl)
theorem dX3_plan_1 : decode cX3_plan 1 = .ok (.invokevirtual 186, 3) := dk_182 0 186 (dk_at dksX3_plan_0 1 rfl rfl)
theorem dX3_plan_4 : decode cX3_plan 4 = .ok (.ifCond .eq 25, 3) := dk_153 0 25 (dk_at dksX3_plan_0 4 rfl rfl)
theorem dX3_plan_7 : decode cX3_plan 7 = .ok (.iload_n 1, 1) := dk_27 (dk_at dksX3_plan_0 7 rfl rfl)
theorem dX3_plan_8 : decode cX3_plan 8 = .ok (.i2l, 1) := dk_133 (dk_at dksX3_plan_0 8 rfl rfl)
theorem dX3_plan_9 : decode cX3_plan 9 = .ok (.lconst 0, 1) := dk_9 (dk_at dksX3_plan_0 9 rfl rfl)
theorem dX3_plan_10 : decode cX3_plan 10 = .ok (.lconst 1, 1) := dk_10 (dk_at dksX3_plan_0 10 rfl rfl)
theorem dX3_plan_11 : decode cX3_plan 11 = .ok (.invokestatic 179, 3) := dk_184 0 179 (dk_at dksX3_plan_0 11 rfl rfl)
theorem dX3_plan_14 : decode cX3_plan 14 = .ok (.ifCond .eq 15, 3) := dk_153 0 15 (dk_at dksX3_plan_0 14 rfl rfl)
theorem dX3_plan_17 : decode cX3_plan 17 = .ok (.iload_n 2, 1) := dk_28 (dk_at dksX3_plan_0 17 rfl rfl)
theorem dX3_plan_18 : decode cX3_plan 18 = .ok (.i2l, 1) := dk_133 (dk_at dksX3_plan_0 18 rfl rfl)
theorem dX3_plan_19 : decode cX3_plan 19 = .ok (.lconst 0, 1) := dk_9 (dk_at dksX3_plan_0 19 rfl rfl)
theorem dX3_plan_20 : decode cX3_plan 20 = .ok (.ldc2_w 583, 3) := dk_20 2 71 (dk_at dksX3_plan_0 20 rfl rfl)
theorem dX3_plan_23 : decode cX3_plan 23 = .ok (.invokestatic 179, 3) := dk_184 0 179 (dk_at dksX3_plan_1 0 rfl rfl)
theorem dX3_plan_26 : decode cX3_plan 26 = .ok (.ifCond .ne 5, 3) := dk_154 0 5 (dk_at dksX3_plan_1 3 rfl rfl)
theorem dX3_plan_29 : decode cX3_plan 29 = .ok (.iconst (-1), 1) := dk_2 (dk_at dksX3_plan_1 6 rfl rfl)
theorem dX3_plan_30 : decode cX3_plan 30 = .ok (.ireturn, 1) := dk_172 (dk_at dksX3_plan_1 7 rfl rfl)
theorem dX3_plan_31 : decode cX3_plan 31 = .ok (.aload_n 0, 1) := dk_42 (dk_at dksX3_plan_1 8 rfl rfl)
theorem dX3_plan_32 : decode cX3_plan 32 = .ok (.iload_n 1, 1) := dk_27 (dk_at dksX3_plan_1 9 rfl rfl)
theorem dX3_plan_33 : decode cX3_plan 33 = .ok (.invokevirtual 585, 3) := dk_182 2 73 (dk_at dksX3_plan_1 10 rfl rfl)
theorem dX3_plan_36 : decode cX3_plan 36 = .ok (.aload_n 0, 1) := dk_42 (dk_at dksX3_plan_1 13 rfl rfl)
theorem dX3_plan_37 : decode cX3_plan 37 = .ok (.getfield 571, 3) := dk_180 2 59 (dk_at dksX3_plan_1 14 rfl rfl)
theorem dX3_plan_40 : decode cX3_plan 40 = .ok (.iconst 4, 1) := dk_7 (dk_at dksX3_plan_1 17 rfl rfl)
theorem dX3_plan_41 : decode cX3_plan 41 = .ok (.if_icmp .le 6, 3) := dk_164 0 6 (dk_at dksX3_plan_1 18 rfl rfl)
theorem dX3_plan_44 : decode cX3_plan 44 = .ok (.bipush (-3), 2) := dk_16 253 (dk_at dksX3_plan_1 21 rfl rfl)
theorem dX3_plan_46 : decode cX3_plan 46 = .ok (.ireturn, 1) := dk_172 (dk_at dksX3_plan_1 23 rfl rfl)
theorem dX3_plan_47 : decode cX3_plan 47 = .ok (.aload_n 0, 1) := dk_42 (dk_at dksX3_plan_2 0 rfl rfl)
theorem dX3_plan_48 : decode cX3_plan 48 = .ok (.invokevirtual 588, 3) := dk_182 2 76 (dk_at dksX3_plan_2 1 rfl rfl)
theorem dX3_plan_51 : decode cX3_plan 51 = .ok (.iload_n 2, 1) := dk_28 (dk_at dksX3_plan_2 4 rfl rfl)
theorem dX3_plan_52 : decode cX3_plan 52 = .ok (.iconst 1, 1) := dk_4 (dk_at dksX3_plan_2 5 rfl rfl)
theorem dX3_plan_53 : decode cX3_plan 53 = .ok (.isub, 1) := dk_100 (dk_at dksX3_plan_2 6 rfl rfl)
theorem dX3_plan_54 : decode cX3_plan 54 = .ok (.iconst 2, 1) := dk_5 (dk_at dksX3_plan_2 7 rfl rfl)
theorem dX3_plan_55 : decode cX3_plan 55 = .ok (.idiv, 1) := dk_108 (dk_at dksX3_plan_2 8 rfl rfl)
theorem dX3_plan_56 : decode cX3_plan 56 = .ok (.istore_n 3, 1) := dk_62 (dk_at dksX3_plan_2 9 rfl rfl)
theorem dX3_plan_57 : decode cX3_plan 57 = .ok (.iload_n 2, 1) := dk_28 (dk_at dksX3_plan_2 10 rfl rfl)
theorem dX3_plan_58 : decode cX3_plan 58 = .ok (.ifCond .eq 11, 3) := dk_153 0 11 (dk_at dksX3_plan_2 11 rfl rfl)
theorem dX3_plan_61 : decode cX3_plan 61 = .ok (.iload_n 3, 1) := dk_29 (dk_at dksX3_plan_2 14 rfl rfl)
theorem dX3_plan_62 : decode cX3_plan 62 = .ok (.aload_n 0, 1) := dk_42 (dk_at dksX3_plan_2 15 rfl rfl)
theorem dX3_plan_63 : decode cX3_plan 63 = .ok (.getfield 574, 3) := dk_180 2 62 (dk_at dksX3_plan_2 16 rfl rfl)
theorem dX3_plan_66 : decode cX3_plan 66 = .ok (.if_icmp .lt 17, 3) := dk_161 0 17 (dk_at dksX3_plan_2 19 rfl rfl)
theorem dX3_plan_69 : decode cX3_plan 69 = .ok (.iload_n 2, 1) := dk_28 (dk_at dksX3_plan_2 22 rfl rfl)
theorem dX3_plan_70 : decode cX3_plan 70 = .ok (.ifCond .ne 10, 3) := dk_154 0 10 (dk_at dksX3_plan_3 0 rfl rfl)
theorem dX3_plan_73 : decode cX3_plan 73 = .ok (.aload_n 0, 1) := dk_42 (dk_at dksX3_plan_3 3 rfl rfl)
theorem dX3_plan_74 : decode cX3_plan 74 = .ok (.getfield 574, 3) := dk_180 2 62 (dk_at dksX3_plan_3 4 rfl rfl)
theorem dX3_plan_77 : decode cX3_plan 77 = .ok (.goto 5, 3) := dk_167 0 5 (dk_at dksX3_plan_3 7 rfl rfl)
theorem dX3_plan_80 : decode cX3_plan 80 = .ok (.bipush (-2), 2) := dk_16 254 (dk_at dksX3_plan_3 10 rfl rfl)
theorem dX3_plan_82 : decode cX3_plan 82 = .ok (.ireturn, 1) := dk_172 (dk_at dksX3_plan_3 12 rfl rfl)
theorem dX3_plan_83 : decode cX3_plan 83 = .ok (.iload_n 2, 1) := dk_28 (dk_at dksX3_plan_3 13 rfl rfl)
theorem dX3_plan_84 : decode cX3_plan 84 = .ok (.iconst 2, 1) := dk_5 (dk_at dksX3_plan_3 14 rfl rfl)
theorem dX3_plan_85 : decode cX3_plan 85 = .ok (.irem, 1) := dk_112 (dk_at dksX3_plan_3 15 rfl rfl)
theorem dX3_plan_86 : decode cX3_plan 86 = .ok (.iconst 1, 1) := dk_4 (dk_at dksX3_plan_3 16 rfl rfl)
theorem dX3_plan_87 : decode cX3_plan 87 = .ok (.if_icmp .ne 20, 3) := dk_160 0 20 (dk_at dksX3_plan_3 17 rfl rfl)
theorem dX3_plan_90 : decode cX3_plan 90 = .ok (.aload_n 0, 1) := dk_42 (dk_at dksX3_plan_3 20 rfl rfl)
theorem dX3_plan_91 : decode cX3_plan 91 = .ok (.getfield 151, 3) := dk_180 0 151 (dk_at dksX3_plan_3 21 rfl rfl)
theorem dX3_plan_94 : decode cX3_plan 94 = .ok (.aload_n 0, 1) := dk_42 (dk_at dksX3_plan_4 0 rfl rfl)
theorem dX3_plan_95 : decode cX3_plan 95 = .ok (.getfield 157, 3) := dk_180 0 157 (dk_at dksX3_plan_4 1 rfl rfl)
theorem dX3_plan_98 : decode cX3_plan 98 = .ok (.iload_n 3, 1) := dk_29 (dk_at dksX3_plan_4 4 rfl rfl)
theorem dX3_plan_99 : decode cX3_plan 99 = .ok (.iaload, 1) := dk_46 (dk_at dksX3_plan_4 5 rfl rfl)
theorem dX3_plan_100 : decode cX3_plan 100 = .ok (.bipush 8, 2) := dk_16 8 (dk_at dksX3_plan_4 6 rfl rfl)
theorem dX3_plan_102 : decode cX3_plan 102 = .ok (.idiv, 1) := dk_108 (dk_at dksX3_plan_4 8 rfl rfl)
theorem dX3_plan_103 : decode cX3_plan 103 = .ok (.iaload, 1) := dk_46 (dk_at dksX3_plan_4 9 rfl rfl)
theorem dX3_plan_104 : decode cX3_plan 104 = .ok (.goto 12, 3) := dk_167 0 12 (dk_at dksX3_plan_4 10 rfl rfl)
theorem dX3_plan_107 : decode cX3_plan 107 = .ok (.aload_n 0, 1) := dk_42 (dk_at dksX3_plan_4 13 rfl rfl)
theorem dX3_plan_108 : decode cX3_plan 108 = .ok (.getfield 157, 3) := dk_180 0 157 (dk_at dksX3_plan_4 14 rfl rfl)
theorem dX3_plan_111 : decode cX3_plan 111 = .ok (.iload_n 3, 1) := dk_29 (dk_at dksX3_plan_4 17 rfl rfl)
theorem dX3_plan_112 : decode cX3_plan 112 = .ok (.iaload, 1) := dk_46 (dk_at dksX3_plan_4 18 rfl rfl)
theorem dX3_plan_113 : decode cX3_plan 113 = .ok (.bipush 8, 2) := dk_16 8 (dk_at dksX3_plan_4 19 rfl rfl)
theorem dX3_plan_115 : decode cX3_plan 115 = .ok (.irem, 1) := dk_112 (dk_at dksX3_plan_4 21 rfl rfl)
theorem dX3_plan_116 : decode cX3_plan 116 = .ok (.ireturn, 1) := dk_172 (dk_at dksX3_plan_4 22 rfl rfl)
abbrev cX3_laysThere : ByteArray := prog_21_method_114_code
def yX3_laysThere : MethodName := ⟨RX3, "laysThere", "(I)V"⟩
def dkwX3_laysThere_2 : List UInt8 := [180, 2, 59, 4, 96, 181, 2, 59, 132, 2, 1, 167, 255, 204, 177]
abbrev dktX3_laysThere_2 : List UInt8 := dkwX3_laysThere_2 ++ []
def dkwX3_laysThere_1 : List UInt8 := [160, 0, 32, 42, 180, 0, 25, 28, 46, 154, 0, 23, 42, 180, 0, 151, 42, 180, 2, 59, 28, 79, 42, 89]
abbrev dktX3_laysThere_1 : List UInt8 := dkwX3_laysThere_1 ++ dktX3_laysThere_2
def dkwX3_laysThere_0 : List UInt8 := [42, 3, 181, 2, 59, 3, 61, 28, 42, 180, 0, 9, 5, 46, 162, 0, 48, 42, 180, 0, 13, 28, 46, 27]
abbrev dktX3_laysThere_0 : List UInt8 := dkwX3_laysThere_0 ++ dktX3_laysThere_1
theorem dksX3_laysThere_0 : cX3_laysThere.data.toList.drop 0 = dktX3_laysThere_0 := by decide +kernel
theorem dksX3_laysThere_1 : cX3_laysThere.data.toList.drop 24 = dktX3_laysThere_1 := dk_seg dksX3_laysThere_0 24 rfl rfl
theorem dksX3_laysThere_2 : cX3_laysThere.data.toList.drop 48 = dktX3_laysThere_2 := dk_seg dksX3_laysThere_1 24 rfl rfl
theorem dX3_laysThere_0 : decode cX3_laysThere 0 = .ok (.aload_n 0, 1) := dk_42 (dk_at dksX3_laysThere_0 0 rfl rfl)
theorem dX3_laysThere_1 : decode cX3_laysThere 1 = .ok (.iconst 0, 1) := dk_3 (dk_at dksX3_laysThere_0 1 rfl rfl)
theorem dX3_laysThere_2 : decode cX3_laysThere 2 = .ok (.putfield 571, 3) := dk_181 2 59 (dk_at dksX3_laysThere_0 2 rfl rfl)
theorem dX3_laysThere_5 : decode cX3_laysThere 5 = .ok (.iconst 0, 1) := dk_3 (dk_at dksX3_laysThere_0 5 rfl rfl)
theorem dX3_laysThere_6 : decode cX3_laysThere 6 = .ok (.istore_n 2, 1) := dk_61 (dk_at dksX3_laysThere_0 6 rfl rfl)
theorem dX3_laysThere_7 : decode cX3_laysThere 7 = .ok (.iload_n 2, 1) := dk_28 (dk_at dksX3_laysThere_0 7 rfl rfl)
theorem dX3_laysThere_8 : decode cX3_laysThere 8 = .ok (.aload_n 0, 1) := dk_42 (dk_at dksX3_laysThere_0 8 rfl rfl)
theorem dX3_laysThere_9 : decode cX3_laysThere 9 = .ok (.getfield 9, 3) := dk_180 0 9 (dk_at dksX3_laysThere_0 9 rfl rfl)
theorem dX3_laysThere_12 : decode cX3_laysThere 12 = .ok (.iconst 2, 1) := dk_5 (dk_at dksX3_laysThere_0 12 rfl rfl)
theorem dX3_laysThere_13 : decode cX3_laysThere 13 = .ok (.iaload, 1) := dk_46 (dk_at dksX3_laysThere_0 13 rfl rfl)
theorem dX3_laysThere_14 : decode cX3_laysThere 14 = .ok (.if_icmp .ge 48, 3) := dk_162 0 48 (dk_at dksX3_laysThere_0 14 rfl rfl)
theorem dX3_laysThere_17 : decode cX3_laysThere 17 = .ok (.aload_n 0, 1) := dk_42 (dk_at dksX3_laysThere_0 17 rfl rfl)
theorem dX3_laysThere_18 : decode cX3_laysThere 18 = .ok (.getfield 13, 3) := dk_180 0 13 (dk_at dksX3_laysThere_0 18 rfl rfl)
theorem dX3_laysThere_21 : decode cX3_laysThere 21 = .ok (.iload_n 2, 1) := dk_28 (dk_at dksX3_laysThere_0 21 rfl rfl)
theorem dX3_laysThere_22 : decode cX3_laysThere 22 = .ok (.iaload, 1) := dk_46 (dk_at dksX3_laysThere_0 22 rfl rfl)
theorem dX3_laysThere_23 : decode cX3_laysThere 23 = .ok (.iload_n 1, 1) := dk_27 (dk_at dksX3_laysThere_0 23 rfl rfl)
theorem dX3_laysThere_24 : decode cX3_laysThere 24 = .ok (.if_icmp .ne 32, 3) := dk_160 0 32 (dk_at dksX3_laysThere_1 0 rfl rfl)
theorem dX3_laysThere_27 : decode cX3_laysThere 27 = .ok (.aload_n 0, 1) := dk_42 (dk_at dksX3_laysThere_1 3 rfl rfl)
theorem dX3_laysThere_28 : decode cX3_laysThere 28 = .ok (.getfield 25, 3) := dk_180 0 25 (dk_at dksX3_laysThere_1 4 rfl rfl)
theorem dX3_laysThere_31 : decode cX3_laysThere 31 = .ok (.iload_n 2, 1) := dk_28 (dk_at dksX3_laysThere_1 7 rfl rfl)
theorem dX3_laysThere_32 : decode cX3_laysThere 32 = .ok (.iaload, 1) := dk_46 (dk_at dksX3_laysThere_1 8 rfl rfl)
theorem dX3_laysThere_33 : decode cX3_laysThere 33 = .ok (.ifCond .ne 23, 3) := dk_154 0 23 (dk_at dksX3_laysThere_1 9 rfl rfl)
theorem dX3_laysThere_36 : decode cX3_laysThere 36 = .ok (.aload_n 0, 1) := dk_42 (dk_at dksX3_laysThere_1 12 rfl rfl)
theorem dX3_laysThere_37 : decode cX3_laysThere 37 = .ok (.getfield 151, 3) := dk_180 0 151 (dk_at dksX3_laysThere_1 13 rfl rfl)
theorem dX3_laysThere_40 : decode cX3_laysThere 40 = .ok (.aload_n 0, 1) := dk_42 (dk_at dksX3_laysThere_1 16 rfl rfl)
theorem dX3_laysThere_41 : decode cX3_laysThere 41 = .ok (.getfield 571, 3) := dk_180 2 59 (dk_at dksX3_laysThere_1 17 rfl rfl)
theorem dX3_laysThere_44 : decode cX3_laysThere 44 = .ok (.iload_n 2, 1) := dk_28 (dk_at dksX3_laysThere_1 20 rfl rfl)
theorem dX3_laysThere_45 : decode cX3_laysThere 45 = .ok (.iastore, 1) := dk_79 (dk_at dksX3_laysThere_1 21 rfl rfl)
theorem dX3_laysThere_46 : decode cX3_laysThere 46 = .ok (.aload_n 0, 1) := dk_42 (dk_at dksX3_laysThere_1 22 rfl rfl)
theorem dX3_laysThere_47 : decode cX3_laysThere 47 = .ok (.dup, 1) := dk_89 (dk_at dksX3_laysThere_1 23 rfl rfl)
theorem dX3_laysThere_48 : decode cX3_laysThere 48 = .ok (.getfield 571, 3) := dk_180 2 59 (dk_at dksX3_laysThere_2 0 rfl rfl)
theorem dX3_laysThere_51 : decode cX3_laysThere 51 = .ok (.iconst 1, 1) := dk_4 (dk_at dksX3_laysThere_2 3 rfl rfl)
theorem dX3_laysThere_52 : decode cX3_laysThere 52 = .ok (.iadd, 1) := dk_96 (dk_at dksX3_laysThere_2 4 rfl rfl)
theorem dX3_laysThere_53 : decode cX3_laysThere 53 = .ok (.putfield 571, 3) := dk_181 2 59 (dk_at dksX3_laysThere_2 5 rfl rfl)
theorem dX3_laysThere_56 : decode cX3_laysThere 56 = .ok (.iinc 2 1, 3) := dk_132 2 1 (dk_at dksX3_laysThere_2 8 rfl rfl)
theorem dX3_laysThere_59 : decode cX3_laysThere 59 = .ok (.goto (-52), 3) := dk_167 255 204 (dk_at dksX3_laysThere_2 11 rfl rfl)
theorem dX3_laysThere_62 : decode cX3_laysThere 62 = .ok (.return_, 1) := dk_177 (dk_at dksX3_laysThere_2 14 rfl rfl)
abbrev cX3_findsPlan : ByteArray := prog_21_method_117_code
def yX3_findsPlan : MethodName := ⟨RX3, "findsPlan", "()V"⟩
def dkwX3_findsPlan_7 : List UInt8 := [180, 2, 59, 104, 4, 100, 79, 42, 27, 3, 182, 2, 65, 167, 255, 100, 42, 3, 4, 182, 2, 65, 177]
abbrev dktX3_findsPlan_7 : List UInt8 := dkwX3_findsPlan_7 ++ []
def dkwX3_findsPlan_6 : List UInt8 := [132, 1, 1, 42, 180, 0, 154, 27, 27, 42, 180, 2, 59, 162, 0, 7, 2, 167, 0, 12, 16, 8, 42]
abbrev dktX3_findsPlan_6 : List UInt8 := dkwX3_findsPlan_6 ++ dktX3_findsPlan_7
def dkwX3_findsPlan_5 : List UInt8 := [180, 2, 62, 164, 0, 21, 42, 27, 4, 96, 181, 2, 62, 42, 180, 0, 154, 42, 180, 0, 157, 184, 1, 96]
abbrev dktX3_findsPlan_5 : List UInt8 := dkwX3_findsPlan_5 ++ dktX3_findsPlan_6
def dkwX3_findsPlan_4 : List UInt8 := [180, 0, 151, 28, 46, 29, 182, 2, 44, 153, 0, 74, 42, 16, 6, 29, 182, 2, 0, 27, 4, 96, 42]
abbrev dktX3_findsPlan_4 : List UInt8 := dkwX3_findsPlan_4 ++ dktX3_findsPlan_5
def dkwX3_findsPlan_3 : List UInt8 := [167, 0, 105, 29, 42, 180, 0, 183, 162, 0, 97, 42, 27, 28, 182, 2, 68, 154, 0, 88, 42, 42]
abbrev dktX3_findsPlan_3 : List UInt8 := dkwX3_findsPlan_3 ++ dktX3_findsPlan_4
def dkwX3_findsPlan_2 : List UInt8 := [108, 61, 42, 180, 0, 154, 27, 46, 16, 8, 112, 62, 28, 42, 180, 2, 59, 161, 0, 9, 132, 1, 255]
abbrev dktX3_findsPlan_2 : List UInt8 := dkwX3_findsPlan_2 ++ dktX3_findsPlan_3
def dkwX3_findsPlan_1 : List UInt8 := [42, 180, 0, 154, 27, 92, 46, 4, 96, 79, 42, 27, 4, 182, 2, 65, 42, 180, 0, 154, 27, 46, 16, 8]
abbrev dktX3_findsPlan_1 : List UInt8 := dkwX3_findsPlan_1 ++ dktX3_findsPlan_2
def dkwX3_findsPlan_0 : List UInt8 := [42, 3, 181, 2, 62, 3, 60, 42, 180, 0, 154, 3, 2, 79, 42, 3, 3, 182, 2, 65, 27, 155, 0, 158]
abbrev dktX3_findsPlan_0 : List UInt8 := dkwX3_findsPlan_0 ++ dktX3_findsPlan_1
theorem dksX3_findsPlan_0 : cX3_findsPlan.data.toList.drop 0 = dktX3_findsPlan_0 := by decide +kernel
theorem dksX3_findsPlan_1 : cX3_findsPlan.data.toList.drop 24 = dktX3_findsPlan_1 := dk_seg dksX3_findsPlan_0 24 rfl rfl
theorem dksX3_findsPlan_2 : cX3_findsPlan.data.toList.drop 48 = dktX3_findsPlan_2 := dk_seg dksX3_findsPlan_1 24 rfl rfl
theorem dksX3_findsPlan_3 : cX3_findsPlan.data.toList.drop 71 = dktX3_findsPlan_3 := dk_seg dksX3_findsPlan_2 23 rfl rfl
theorem dksX3_findsPlan_4 : cX3_findsPlan.data.toList.drop 93 = dktX3_findsPlan_4 := dk_seg dksX3_findsPlan_3 22 rfl rfl
theorem dksX3_findsPlan_5 : cX3_findsPlan.data.toList.drop 116 = dktX3_findsPlan_5 := dk_seg dksX3_findsPlan_4 23 rfl rfl
theorem dksX3_findsPlan_6 : cX3_findsPlan.data.toList.drop 140 = dktX3_findsPlan_6 := dk_seg dksX3_findsPlan_5 24 rfl rfl
theorem dksX3_findsPlan_7 : cX3_findsPlan.data.toList.drop 163 = dktX3_findsPlan_7 := dk_seg dksX3_findsPlan_6 23 rfl rfl
theorem dX3_findsPlan_0 : decode cX3_findsPlan 0 = .ok (.aload_n 0, 1) := dk_42 (dk_at dksX3_findsPlan_0 0 rfl rfl)
theorem dX3_findsPlan_1 : decode cX3_findsPlan 1 = .ok (.iconst 0, 1) := dk_3 (dk_at dksX3_findsPlan_0 1 rfl rfl)
theorem dX3_findsPlan_2 : decode cX3_findsPlan 2 = .ok (.putfield 574, 3) := dk_181 2 62 (dk_at dksX3_findsPlan_0 2 rfl rfl)
theorem dX3_findsPlan_5 : decode cX3_findsPlan 5 = .ok (.iconst 0, 1) := dk_3 (dk_at dksX3_findsPlan_0 5 rfl rfl)
theorem dX3_findsPlan_6 : decode cX3_findsPlan 6 = .ok (.istore_n 1, 1) := dk_60 (dk_at dksX3_findsPlan_0 6 rfl rfl)
theorem dX3_findsPlan_7 : decode cX3_findsPlan 7 = .ok (.aload_n 0, 1) := dk_42 (dk_at dksX3_findsPlan_0 7 rfl rfl)
theorem dX3_findsPlan_8 : decode cX3_findsPlan 8 = .ok (.getfield 154, 3) := dk_180 0 154 (dk_at dksX3_findsPlan_0 8 rfl rfl)
theorem dX3_findsPlan_11 : decode cX3_findsPlan 11 = .ok (.iconst 0, 1) := dk_3 (dk_at dksX3_findsPlan_0 11 rfl rfl)
theorem dX3_findsPlan_12 : decode cX3_findsPlan 12 = .ok (.iconst (-1), 1) := dk_2 (dk_at dksX3_findsPlan_0 12 rfl rfl)
theorem dX3_findsPlan_13 : decode cX3_findsPlan 13 = .ok (.iastore, 1) := dk_79 (dk_at dksX3_findsPlan_0 13 rfl rfl)
theorem dX3_findsPlan_14 : decode cX3_findsPlan 14 = .ok (.aload_n 0, 1) := dk_42 (dk_at dksX3_findsPlan_0 14 rfl rfl)
theorem dX3_findsPlan_15 : decode cX3_findsPlan 15 = .ok (.iconst 0, 1) := dk_3 (dk_at dksX3_findsPlan_0 15 rfl rfl)
theorem dX3_findsPlan_16 : decode cX3_findsPlan 16 = .ok (.iconst 0, 1) := dk_3 (dk_at dksX3_findsPlan_0 16 rfl rfl)
theorem dX3_findsPlan_17 : decode cX3_findsPlan 17 = .ok (.invokevirtual 577, 3) := dk_182 2 65 (dk_at dksX3_findsPlan_0 17 rfl rfl)
theorem dX3_findsPlan_20 : decode cX3_findsPlan 20 = .ok (.iload_n 1, 1) := dk_27 (dk_at dksX3_findsPlan_0 20 rfl rfl)
theorem dX3_findsPlan_21 : decode cX3_findsPlan 21 = .ok (.ifCond .lt 158, 3) := dk_155 0 158 (dk_at dksX3_findsPlan_0 21 rfl rfl)
theorem dX3_findsPlan_24 : decode cX3_findsPlan 24 = .ok (.aload_n 0, 1) := dk_42 (dk_at dksX3_findsPlan_1 0 rfl rfl)
theorem dX3_findsPlan_25 : decode cX3_findsPlan 25 = .ok (.getfield 154, 3) := dk_180 0 154 (dk_at dksX3_findsPlan_1 1 rfl rfl)
theorem dX3_findsPlan_28 : decode cX3_findsPlan 28 = .ok (.iload_n 1, 1) := dk_27 (dk_at dksX3_findsPlan_1 4 rfl rfl)
theorem dX3_findsPlan_29 : decode cX3_findsPlan 29 = .ok (.dup2, 1) := dk_92 (dk_at dksX3_findsPlan_1 5 rfl rfl)
theorem dX3_findsPlan_30 : decode cX3_findsPlan 30 = .ok (.iaload, 1) := dk_46 (dk_at dksX3_findsPlan_1 6 rfl rfl)
theorem dX3_findsPlan_31 : decode cX3_findsPlan 31 = .ok (.iconst 1, 1) := dk_4 (dk_at dksX3_findsPlan_1 7 rfl rfl)
theorem dX3_findsPlan_32 : decode cX3_findsPlan 32 = .ok (.iadd, 1) := dk_96 (dk_at dksX3_findsPlan_1 8 rfl rfl)
theorem dX3_findsPlan_33 : decode cX3_findsPlan 33 = .ok (.iastore, 1) := dk_79 (dk_at dksX3_findsPlan_1 9 rfl rfl)
theorem dX3_findsPlan_34 : decode cX3_findsPlan 34 = .ok (.aload_n 0, 1) := dk_42 (dk_at dksX3_findsPlan_1 10 rfl rfl)
theorem dX3_findsPlan_35 : decode cX3_findsPlan 35 = .ok (.iload_n 1, 1) := dk_27 (dk_at dksX3_findsPlan_1 11 rfl rfl)
theorem dX3_findsPlan_36 : decode cX3_findsPlan 36 = .ok (.iconst 1, 1) := dk_4 (dk_at dksX3_findsPlan_1 12 rfl rfl)
theorem dX3_findsPlan_37 : decode cX3_findsPlan 37 = .ok (.invokevirtual 577, 3) := dk_182 2 65 (dk_at dksX3_findsPlan_1 13 rfl rfl)
theorem dX3_findsPlan_40 : decode cX3_findsPlan 40 = .ok (.aload_n 0, 1) := dk_42 (dk_at dksX3_findsPlan_1 16 rfl rfl)
theorem dX3_findsPlan_41 : decode cX3_findsPlan 41 = .ok (.getfield 154, 3) := dk_180 0 154 (dk_at dksX3_findsPlan_1 17 rfl rfl)
theorem dX3_findsPlan_44 : decode cX3_findsPlan 44 = .ok (.iload_n 1, 1) := dk_27 (dk_at dksX3_findsPlan_1 20 rfl rfl)
theorem dX3_findsPlan_45 : decode cX3_findsPlan 45 = .ok (.iaload, 1) := dk_46 (dk_at dksX3_findsPlan_1 21 rfl rfl)
theorem dX3_findsPlan_46 : decode cX3_findsPlan 46 = .ok (.bipush 8, 2) := dk_16 8 (dk_at dksX3_findsPlan_1 22 rfl rfl)
theorem dX3_findsPlan_48 : decode cX3_findsPlan 48 = .ok (.idiv, 1) := dk_108 (dk_at dksX3_findsPlan_2 0 rfl rfl)
theorem dX3_findsPlan_49 : decode cX3_findsPlan 49 = .ok (.istore_n 2, 1) := dk_61 (dk_at dksX3_findsPlan_2 1 rfl rfl)
theorem dX3_findsPlan_50 : decode cX3_findsPlan 50 = .ok (.aload_n 0, 1) := dk_42 (dk_at dksX3_findsPlan_2 2 rfl rfl)
theorem dX3_findsPlan_51 : decode cX3_findsPlan 51 = .ok (.getfield 154, 3) := dk_180 0 154 (dk_at dksX3_findsPlan_2 3 rfl rfl)
theorem dX3_findsPlan_54 : decode cX3_findsPlan 54 = .ok (.iload_n 1, 1) := dk_27 (dk_at dksX3_findsPlan_2 6 rfl rfl)
theorem dX3_findsPlan_55 : decode cX3_findsPlan 55 = .ok (.iaload, 1) := dk_46 (dk_at dksX3_findsPlan_2 7 rfl rfl)
theorem dX3_findsPlan_56 : decode cX3_findsPlan 56 = .ok (.bipush 8, 2) := dk_16 8 (dk_at dksX3_findsPlan_2 8 rfl rfl)
theorem dX3_findsPlan_58 : decode cX3_findsPlan 58 = .ok (.irem, 1) := dk_112 (dk_at dksX3_findsPlan_2 10 rfl rfl)
theorem dX3_findsPlan_59 : decode cX3_findsPlan 59 = .ok (.istore_n 3, 1) := dk_62 (dk_at dksX3_findsPlan_2 11 rfl rfl)
theorem dX3_findsPlan_60 : decode cX3_findsPlan 60 = .ok (.iload_n 2, 1) := dk_28 (dk_at dksX3_findsPlan_2 12 rfl rfl)
theorem dX3_findsPlan_61 : decode cX3_findsPlan 61 = .ok (.aload_n 0, 1) := dk_42 (dk_at dksX3_findsPlan_2 13 rfl rfl)
theorem dX3_findsPlan_62 : decode cX3_findsPlan 62 = .ok (.getfield 571, 3) := dk_180 2 59 (dk_at dksX3_findsPlan_2 14 rfl rfl)
theorem dX3_findsPlan_65 : decode cX3_findsPlan 65 = .ok (.if_icmp .lt 9, 3) := dk_161 0 9 (dk_at dksX3_findsPlan_2 17 rfl rfl)
theorem dX3_findsPlan_68 : decode cX3_findsPlan 68 = .ok (.iinc 1 (-1), 3) := dk_132 1 255 (dk_at dksX3_findsPlan_2 20 rfl rfl)
theorem dX3_findsPlan_71 : decode cX3_findsPlan 71 = .ok (.goto 105, 3) := dk_167 0 105 (dk_at dksX3_findsPlan_3 0 rfl rfl)
theorem dX3_findsPlan_74 : decode cX3_findsPlan 74 = .ok (.iload_n 3, 1) := dk_29 (dk_at dksX3_findsPlan_3 3 rfl rfl)
theorem dX3_findsPlan_75 : decode cX3_findsPlan 75 = .ok (.aload_n 0, 1) := dk_42 (dk_at dksX3_findsPlan_3 4 rfl rfl)
theorem dX3_findsPlan_76 : decode cX3_findsPlan 76 = .ok (.getfield 183, 3) := dk_180 0 183 (dk_at dksX3_findsPlan_3 5 rfl rfl)
theorem dX3_findsPlan_79 : decode cX3_findsPlan 79 = .ok (.if_icmp .ge 97, 3) := dk_162 0 97 (dk_at dksX3_findsPlan_3 8 rfl rfl)
theorem dX3_findsPlan_82 : decode cX3_findsPlan 82 = .ok (.aload_n 0, 1) := dk_42 (dk_at dksX3_findsPlan_3 11 rfl rfl)
theorem dX3_findsPlan_83 : decode cX3_findsPlan 83 = .ok (.iload_n 1, 1) := dk_27 (dk_at dksX3_findsPlan_3 12 rfl rfl)
theorem dX3_findsPlan_84 : decode cX3_findsPlan 84 = .ok (.iload_n 2, 1) := dk_28 (dk_at dksX3_findsPlan_3 13 rfl rfl)
theorem dX3_findsPlan_85 : decode cX3_findsPlan 85 = .ok (.invokevirtual 580, 3) := dk_182 2 68 (dk_at dksX3_findsPlan_3 14 rfl rfl)
theorem dX3_findsPlan_88 : decode cX3_findsPlan 88 = .ok (.ifCond .ne 88, 3) := dk_154 0 88 (dk_at dksX3_findsPlan_3 17 rfl rfl)
theorem dX3_findsPlan_91 : decode cX3_findsPlan 91 = .ok (.aload_n 0, 1) := dk_42 (dk_at dksX3_findsPlan_3 20 rfl rfl)
theorem dX3_findsPlan_92 : decode cX3_findsPlan 92 = .ok (.aload_n 0, 1) := dk_42 (dk_at dksX3_findsPlan_3 21 rfl rfl)
theorem dX3_findsPlan_93 : decode cX3_findsPlan 93 = .ok (.getfield 151, 3) := dk_180 0 151 (dk_at dksX3_findsPlan_4 0 rfl rfl)
theorem dX3_findsPlan_96 : decode cX3_findsPlan 96 = .ok (.iload_n 2, 1) := dk_28 (dk_at dksX3_findsPlan_4 3 rfl rfl)
theorem dX3_findsPlan_97 : decode cX3_findsPlan 97 = .ok (.iaload, 1) := dk_46 (dk_at dksX3_findsPlan_4 4 rfl rfl)
theorem dX3_findsPlan_98 : decode cX3_findsPlan 98 = .ok (.iload_n 3, 1) := dk_29 (dk_at dksX3_findsPlan_4 5 rfl rfl)
theorem dX3_findsPlan_99 : decode cX3_findsPlan 99 = .ok (.invokevirtual 556, 3) := dk_182 2 44 (dk_at dksX3_findsPlan_4 6 rfl rfl)
theorem dX3_findsPlan_102 : decode cX3_findsPlan 102 = .ok (.ifCond .eq 74, 3) := dk_153 0 74 (dk_at dksX3_findsPlan_4 9 rfl rfl)
theorem dX3_findsPlan_105 : decode cX3_findsPlan 105 = .ok (.aload_n 0, 1) := dk_42 (dk_at dksX3_findsPlan_4 12 rfl rfl)
theorem dX3_findsPlan_106 : decode cX3_findsPlan 106 = .ok (.bipush 6, 2) := dk_16 6 (dk_at dksX3_findsPlan_4 13 rfl rfl)
theorem dX3_findsPlan_108 : decode cX3_findsPlan 108 = .ok (.iload_n 3, 1) := dk_29 (dk_at dksX3_findsPlan_4 15 rfl rfl)
theorem dX3_findsPlan_109 : decode cX3_findsPlan 109 = .ok (.invokevirtual 512, 3) := dk_182 2 0 (dk_at dksX3_findsPlan_4 16 rfl rfl)
theorem dX3_findsPlan_112 : decode cX3_findsPlan 112 = .ok (.iload_n 1, 1) := dk_27 (dk_at dksX3_findsPlan_4 19 rfl rfl)
theorem dX3_findsPlan_113 : decode cX3_findsPlan 113 = .ok (.iconst 1, 1) := dk_4 (dk_at dksX3_findsPlan_4 20 rfl rfl)
theorem dX3_findsPlan_114 : decode cX3_findsPlan 114 = .ok (.iadd, 1) := dk_96 (dk_at dksX3_findsPlan_4 21 rfl rfl)
theorem dX3_findsPlan_115 : decode cX3_findsPlan 115 = .ok (.aload_n 0, 1) := dk_42 (dk_at dksX3_findsPlan_4 22 rfl rfl)
theorem dX3_findsPlan_116 : decode cX3_findsPlan 116 = .ok (.getfield 574, 3) := dk_180 2 62 (dk_at dksX3_findsPlan_5 0 rfl rfl)
theorem dX3_findsPlan_119 : decode cX3_findsPlan 119 = .ok (.if_icmp .le 21, 3) := dk_164 0 21 (dk_at dksX3_findsPlan_5 3 rfl rfl)
theorem dX3_findsPlan_122 : decode cX3_findsPlan 122 = .ok (.aload_n 0, 1) := dk_42 (dk_at dksX3_findsPlan_5 6 rfl rfl)
theorem dX3_findsPlan_123 : decode cX3_findsPlan 123 = .ok (.iload_n 1, 1) := dk_27 (dk_at dksX3_findsPlan_5 7 rfl rfl)
theorem dX3_findsPlan_124 : decode cX3_findsPlan 124 = .ok (.iconst 1, 1) := dk_4 (dk_at dksX3_findsPlan_5 8 rfl rfl)
theorem dX3_findsPlan_125 : decode cX3_findsPlan 125 = .ok (.iadd, 1) := dk_96 (dk_at dksX3_findsPlan_5 9 rfl rfl)
theorem dX3_findsPlan_126 : decode cX3_findsPlan 126 = .ok (.putfield 574, 3) := dk_181 2 62 (dk_at dksX3_findsPlan_5 10 rfl rfl)
theorem dX3_findsPlan_129 : decode cX3_findsPlan 129 = .ok (.aload_n 0, 1) := dk_42 (dk_at dksX3_findsPlan_5 13 rfl rfl)
theorem dX3_findsPlan_130 : decode cX3_findsPlan 130 = .ok (.getfield 154, 3) := dk_180 0 154 (dk_at dksX3_findsPlan_5 14 rfl rfl)
theorem dX3_findsPlan_133 : decode cX3_findsPlan 133 = .ok (.aload_n 0, 1) := dk_42 (dk_at dksX3_findsPlan_5 17 rfl rfl)
theorem dX3_findsPlan_134 : decode cX3_findsPlan 134 = .ok (.getfield 157, 3) := dk_180 0 157 (dk_at dksX3_findsPlan_5 18 rfl rfl)
theorem dX3_findsPlan_137 : decode cX3_findsPlan 137 = .ok (.invokestatic 352, 3) := dk_184 1 96 (dk_at dksX3_findsPlan_5 21 rfl rfl)
theorem dX3_findsPlan_140 : decode cX3_findsPlan 140 = .ok (.iinc 1 1, 3) := dk_132 1 1 (dk_at dksX3_findsPlan_6 0 rfl rfl)
theorem dX3_findsPlan_143 : decode cX3_findsPlan 143 = .ok (.aload_n 0, 1) := dk_42 (dk_at dksX3_findsPlan_6 3 rfl rfl)
theorem dX3_findsPlan_144 : decode cX3_findsPlan 144 = .ok (.getfield 154, 3) := dk_180 0 154 (dk_at dksX3_findsPlan_6 4 rfl rfl)
theorem dX3_findsPlan_147 : decode cX3_findsPlan 147 = .ok (.iload_n 1, 1) := dk_27 (dk_at dksX3_findsPlan_6 7 rfl rfl)
theorem dX3_findsPlan_148 : decode cX3_findsPlan 148 = .ok (.iload_n 1, 1) := dk_27 (dk_at dksX3_findsPlan_6 8 rfl rfl)
theorem dX3_findsPlan_149 : decode cX3_findsPlan 149 = .ok (.aload_n 0, 1) := dk_42 (dk_at dksX3_findsPlan_6 9 rfl rfl)
theorem dX3_findsPlan_150 : decode cX3_findsPlan 150 = .ok (.getfield 571, 3) := dk_180 2 59 (dk_at dksX3_findsPlan_6 10 rfl rfl)
theorem dX3_findsPlan_153 : decode cX3_findsPlan 153 = .ok (.if_icmp .ge 7, 3) := dk_162 0 7 (dk_at dksX3_findsPlan_6 13 rfl rfl)
theorem dX3_findsPlan_156 : decode cX3_findsPlan 156 = .ok (.iconst (-1), 1) := dk_2 (dk_at dksX3_findsPlan_6 16 rfl rfl)
theorem dX3_findsPlan_157 : decode cX3_findsPlan 157 = .ok (.goto 12, 3) := dk_167 0 12 (dk_at dksX3_findsPlan_6 17 rfl rfl)
theorem dX3_findsPlan_160 : decode cX3_findsPlan 160 = .ok (.bipush 8, 2) := dk_16 8 (dk_at dksX3_findsPlan_6 20 rfl rfl)
theorem dX3_findsPlan_162 : decode cX3_findsPlan 162 = .ok (.aload_n 0, 1) := dk_42 (dk_at dksX3_findsPlan_6 22 rfl rfl)
theorem dX3_findsPlan_163 : decode cX3_findsPlan 163 = .ok (.getfield 571, 3) := dk_180 2 59 (dk_at dksX3_findsPlan_7 0 rfl rfl)
theorem dX3_findsPlan_166 : decode cX3_findsPlan 166 = .ok (.imul, 1) := dk_104 (dk_at dksX3_findsPlan_7 3 rfl rfl)
theorem dX3_findsPlan_167 : decode cX3_findsPlan 167 = .ok (.iconst 1, 1) := dk_4 (dk_at dksX3_findsPlan_7 4 rfl rfl)
theorem dX3_findsPlan_168 : decode cX3_findsPlan 168 = .ok (.isub, 1) := dk_100 (dk_at dksX3_findsPlan_7 5 rfl rfl)
theorem dX3_findsPlan_169 : decode cX3_findsPlan 169 = .ok (.iastore, 1) := dk_79 (dk_at dksX3_findsPlan_7 6 rfl rfl)
theorem dX3_findsPlan_170 : decode cX3_findsPlan 170 = .ok (.aload_n 0, 1) := dk_42 (dk_at dksX3_findsPlan_7 7 rfl rfl)
theorem dX3_findsPlan_171 : decode cX3_findsPlan 171 = .ok (.iload_n 1, 1) := dk_27 (dk_at dksX3_findsPlan_7 8 rfl rfl)
theorem dX3_findsPlan_172 : decode cX3_findsPlan 172 = .ok (.iconst 0, 1) := dk_3 (dk_at dksX3_findsPlan_7 9 rfl rfl)
theorem dX3_findsPlan_173 : decode cX3_findsPlan 173 = .ok (.invokevirtual 577, 3) := dk_182 2 65 (dk_at dksX3_findsPlan_7 10 rfl rfl)
theorem dX3_findsPlan_176 : decode cX3_findsPlan 176 = .ok (.goto (-156), 3) := dk_167 255 100 (dk_at dksX3_findsPlan_7 13 rfl rfl)
theorem dX3_findsPlan_179 : decode cX3_findsPlan 179 = .ok (.aload_n 0, 1) := dk_42 (dk_at dksX3_findsPlan_7 16 rfl rfl)
theorem dX3_findsPlan_180 : decode cX3_findsPlan 180 = .ok (.iconst 0, 1) := dk_3 (dk_at dksX3_findsPlan_7 17 rfl rfl)
theorem dX3_findsPlan_181 : decode cX3_findsPlan 181 = .ok (.iconst 1, 1) := dk_4 (dk_at dksX3_findsPlan_7 18 rfl rfl)
theorem dX3_findsPlan_182 : decode cX3_findsPlan 182 = .ok (.invokevirtual 577, 3) := dk_182 2 65 (dk_at dksX3_findsPlan_7 19 rfl rfl)
theorem dX3_findsPlan_185 : decode cX3_findsPlan 185 = .ok (.return_, 1) := dk_177 (dk_at dksX3_findsPlan_7 22 rfl rfl)
abbrev cX3_bridgeTo : ByteArray := prog_21_method_115_code
def yX3_bridgeTo : MethodName := ⟨RX3, "bridgeTo", "(IZ)V"⟩
def dkwX3_bridgeTo_2 : List UInt8 := [180, 0, 52, 16, 48, 29, 96, 46, 79, 132, 3, 1, 167, 255, 200, 177]
abbrev dktX3_bridgeTo_2 : List UInt8 := dkwX3_bridgeTo_2 ++ []
def dkwX3_bridgeTo_1 : List UInt8 := [16, 8, 27, 104, 29, 96, 46, 79, 167, 0, 23, 42, 180, 0, 160, 16, 8, 27, 104, 29, 96, 42]
abbrev dktX3_bridgeTo_1 : List UInt8 := dkwX3_bridgeTo_1 ++ dktX3_bridgeTo_2
def dkwX3_bridgeTo_0 : List UInt8 := [3, 62, 29, 16, 8, 162, 0, 56, 28, 153, 0, 26, 42, 180, 0, 52, 16, 48, 29, 96, 42, 180, 0, 160]
abbrev dktX3_bridgeTo_0 : List UInt8 := dkwX3_bridgeTo_0 ++ dktX3_bridgeTo_1
theorem dksX3_bridgeTo_0 : cX3_bridgeTo.data.toList.drop 0 = dktX3_bridgeTo_0 := by decide +kernel
theorem dksX3_bridgeTo_1 : cX3_bridgeTo.data.toList.drop 24 = dktX3_bridgeTo_1 := dk_seg dksX3_bridgeTo_0 24 rfl rfl
theorem dksX3_bridgeTo_2 : cX3_bridgeTo.data.toList.drop 46 = dktX3_bridgeTo_2 := dk_seg dksX3_bridgeTo_1 22 rfl rfl
theorem dX3_bridgeTo_0 : decode cX3_bridgeTo 0 = .ok (.iconst 0, 1) := dk_3 (dk_at dksX3_bridgeTo_0 0 rfl rfl)
theorem dX3_bridgeTo_1 : decode cX3_bridgeTo 1 = .ok (.istore_n 3, 1) := dk_62 (dk_at dksX3_bridgeTo_0 1 rfl rfl)
theorem dX3_bridgeTo_2 : decode cX3_bridgeTo 2 = .ok (.iload_n 3, 1) := dk_29 (dk_at dksX3_bridgeTo_0 2 rfl rfl)
theorem dX3_bridgeTo_3 : decode cX3_bridgeTo 3 = .ok (.bipush 8, 2) := dk_16 8 (dk_at dksX3_bridgeTo_0 3 rfl rfl)
theorem dX3_bridgeTo_5 : decode cX3_bridgeTo 5 = .ok (.if_icmp .ge 56, 3) := dk_162 0 56 (dk_at dksX3_bridgeTo_0 5 rfl rfl)
theorem dX3_bridgeTo_8 : decode cX3_bridgeTo 8 = .ok (.iload_n 2, 1) := dk_28 (dk_at dksX3_bridgeTo_0 8 rfl rfl)
theorem dX3_bridgeTo_9 : decode cX3_bridgeTo 9 = .ok (.ifCond .eq 26, 3) := dk_153 0 26 (dk_at dksX3_bridgeTo_0 9 rfl rfl)
theorem dX3_bridgeTo_12 : decode cX3_bridgeTo 12 = .ok (.aload_n 0, 1) := dk_42 (dk_at dksX3_bridgeTo_0 12 rfl rfl)
theorem dX3_bridgeTo_13 : decode cX3_bridgeTo 13 = .ok (.getfield 52, 3) := dk_180 0 52 (dk_at dksX3_bridgeTo_0 13 rfl rfl)
theorem dX3_bridgeTo_16 : decode cX3_bridgeTo 16 = .ok (.bipush 48, 2) := dk_16 48 (dk_at dksX3_bridgeTo_0 16 rfl rfl)
theorem dX3_bridgeTo_18 : decode cX3_bridgeTo 18 = .ok (.iload_n 3, 1) := dk_29 (dk_at dksX3_bridgeTo_0 18 rfl rfl)
theorem dX3_bridgeTo_19 : decode cX3_bridgeTo 19 = .ok (.iadd, 1) := dk_96 (dk_at dksX3_bridgeTo_0 19 rfl rfl)
theorem dX3_bridgeTo_20 : decode cX3_bridgeTo 20 = .ok (.aload_n 0, 1) := dk_42 (dk_at dksX3_bridgeTo_0 20 rfl rfl)
theorem dX3_bridgeTo_21 : decode cX3_bridgeTo 21 = .ok (.getfield 160, 3) := dk_180 0 160 (dk_at dksX3_bridgeTo_0 21 rfl rfl)
theorem dX3_bridgeTo_24 : decode cX3_bridgeTo 24 = .ok (.bipush 8, 2) := dk_16 8 (dk_at dksX3_bridgeTo_1 0 rfl rfl)
theorem dX3_bridgeTo_26 : decode cX3_bridgeTo 26 = .ok (.iload_n 1, 1) := dk_27 (dk_at dksX3_bridgeTo_1 2 rfl rfl)
theorem dX3_bridgeTo_27 : decode cX3_bridgeTo 27 = .ok (.imul, 1) := dk_104 (dk_at dksX3_bridgeTo_1 3 rfl rfl)
theorem dX3_bridgeTo_28 : decode cX3_bridgeTo 28 = .ok (.iload_n 3, 1) := dk_29 (dk_at dksX3_bridgeTo_1 4 rfl rfl)
theorem dX3_bridgeTo_29 : decode cX3_bridgeTo 29 = .ok (.iadd, 1) := dk_96 (dk_at dksX3_bridgeTo_1 5 rfl rfl)
theorem dX3_bridgeTo_30 : decode cX3_bridgeTo 30 = .ok (.iaload, 1) := dk_46 (dk_at dksX3_bridgeTo_1 6 rfl rfl)
theorem dX3_bridgeTo_31 : decode cX3_bridgeTo 31 = .ok (.iastore, 1) := dk_79 (dk_at dksX3_bridgeTo_1 7 rfl rfl)
theorem dX3_bridgeTo_32 : decode cX3_bridgeTo 32 = .ok (.goto 23, 3) := dk_167 0 23 (dk_at dksX3_bridgeTo_1 8 rfl rfl)
theorem dX3_bridgeTo_35 : decode cX3_bridgeTo 35 = .ok (.aload_n 0, 1) := dk_42 (dk_at dksX3_bridgeTo_1 11 rfl rfl)
theorem dX3_bridgeTo_36 : decode cX3_bridgeTo 36 = .ok (.getfield 160, 3) := dk_180 0 160 (dk_at dksX3_bridgeTo_1 12 rfl rfl)
theorem dX3_bridgeTo_39 : decode cX3_bridgeTo 39 = .ok (.bipush 8, 2) := dk_16 8 (dk_at dksX3_bridgeTo_1 15 rfl rfl)
theorem dX3_bridgeTo_41 : decode cX3_bridgeTo 41 = .ok (.iload_n 1, 1) := dk_27 (dk_at dksX3_bridgeTo_1 17 rfl rfl)
theorem dX3_bridgeTo_42 : decode cX3_bridgeTo 42 = .ok (.imul, 1) := dk_104 (dk_at dksX3_bridgeTo_1 18 rfl rfl)
theorem dX3_bridgeTo_43 : decode cX3_bridgeTo 43 = .ok (.iload_n 3, 1) := dk_29 (dk_at dksX3_bridgeTo_1 19 rfl rfl)
theorem dX3_bridgeTo_44 : decode cX3_bridgeTo 44 = .ok (.iadd, 1) := dk_96 (dk_at dksX3_bridgeTo_1 20 rfl rfl)
theorem dX3_bridgeTo_45 : decode cX3_bridgeTo 45 = .ok (.aload_n 0, 1) := dk_42 (dk_at dksX3_bridgeTo_1 21 rfl rfl)
theorem dX3_bridgeTo_46 : decode cX3_bridgeTo 46 = .ok (.getfield 52, 3) := dk_180 0 52 (dk_at dksX3_bridgeTo_2 0 rfl rfl)
theorem dX3_bridgeTo_49 : decode cX3_bridgeTo 49 = .ok (.bipush 48, 2) := dk_16 48 (dk_at dksX3_bridgeTo_2 3 rfl rfl)
theorem dX3_bridgeTo_51 : decode cX3_bridgeTo 51 = .ok (.iload_n 3, 1) := dk_29 (dk_at dksX3_bridgeTo_2 5 rfl rfl)
theorem dX3_bridgeTo_52 : decode cX3_bridgeTo 52 = .ok (.iadd, 1) := dk_96 (dk_at dksX3_bridgeTo_2 6 rfl rfl)
theorem dX3_bridgeTo_53 : decode cX3_bridgeTo 53 = .ok (.iaload, 1) := dk_46 (dk_at dksX3_bridgeTo_2 7 rfl rfl)
theorem dX3_bridgeTo_54 : decode cX3_bridgeTo 54 = .ok (.iastore, 1) := dk_79 (dk_at dksX3_bridgeTo_2 8 rfl rfl)
theorem dX3_bridgeTo_55 : decode cX3_bridgeTo 55 = .ok (.iinc 3 1, 3) := dk_132 3 1 (dk_at dksX3_bridgeTo_2 9 rfl rfl)
theorem dX3_bridgeTo_58 : decode cX3_bridgeTo 58 = .ok (.goto (-56), 3) := dk_167 255 200 (dk_at dksX3_bridgeTo_2 12 rfl rfl)
theorem dX3_bridgeTo_61 : decode cX3_bridgeTo 61 = .ok (.return_, 1) := dk_177 (dk_at dksX3_bridgeTo_2 15 rfl rfl)
abbrev cX3_isUsed : ByteArray := prog_21_method_116_code
def yX3_isUsed : MethodName := ⟨RX3, "isUsed", "(II)Z"⟩
def dkwX3_isUsed_1 : List UInt8 := [132, 3, 1, 167, 255, 233, 3, 172]
abbrev dktX3_isUsed_1 : List UInt8 := dkwX3_isUsed_1 ++ []
def dkwX3_isUsed_0 : List UInt8 := [3, 62, 29, 27, 162, 0, 24, 42, 180, 0, 154, 29, 46, 16, 8, 108, 28, 160, 0, 5, 4, 172]
abbrev dktX3_isUsed_0 : List UInt8 := dkwX3_isUsed_0 ++ dktX3_isUsed_1
theorem dksX3_isUsed_0 : cX3_isUsed.data.toList.drop 0 = dktX3_isUsed_0 := by decide +kernel
theorem dksX3_isUsed_1 : cX3_isUsed.data.toList.drop 22 = dktX3_isUsed_1 := dk_seg dksX3_isUsed_0 22 rfl rfl
theorem dX3_isUsed_0 : decode cX3_isUsed 0 = .ok (.iconst 0, 1) := dk_3 (dk_at dksX3_isUsed_0 0 rfl rfl)
theorem dX3_isUsed_1 : decode cX3_isUsed 1 = .ok (.istore_n 3, 1) := dk_62 (dk_at dksX3_isUsed_0 1 rfl rfl)
theorem dX3_isUsed_2 : decode cX3_isUsed 2 = .ok (.iload_n 3, 1) := dk_29 (dk_at dksX3_isUsed_0 2 rfl rfl)
theorem dX3_isUsed_3 : decode cX3_isUsed 3 = .ok (.iload_n 1, 1) := dk_27 (dk_at dksX3_isUsed_0 3 rfl rfl)
theorem dX3_isUsed_4 : decode cX3_isUsed 4 = .ok (.if_icmp .ge 24, 3) := dk_162 0 24 (dk_at dksX3_isUsed_0 4 rfl rfl)
theorem dX3_isUsed_7 : decode cX3_isUsed 7 = .ok (.aload_n 0, 1) := dk_42 (dk_at dksX3_isUsed_0 7 rfl rfl)
theorem dX3_isUsed_8 : decode cX3_isUsed 8 = .ok (.getfield 154, 3) := dk_180 0 154 (dk_at dksX3_isUsed_0 8 rfl rfl)
theorem dX3_isUsed_11 : decode cX3_isUsed 11 = .ok (.iload_n 3, 1) := dk_29 (dk_at dksX3_isUsed_0 11 rfl rfl)
theorem dX3_isUsed_12 : decode cX3_isUsed 12 = .ok (.iaload, 1) := dk_46 (dk_at dksX3_isUsed_0 12 rfl rfl)
theorem dX3_isUsed_13 : decode cX3_isUsed 13 = .ok (.bipush 8, 2) := dk_16 8 (dk_at dksX3_isUsed_0 13 rfl rfl)
theorem dX3_isUsed_15 : decode cX3_isUsed 15 = .ok (.idiv, 1) := dk_108 (dk_at dksX3_isUsed_0 15 rfl rfl)
theorem dX3_isUsed_16 : decode cX3_isUsed 16 = .ok (.iload_n 2, 1) := dk_28 (dk_at dksX3_isUsed_0 16 rfl rfl)
theorem dX3_isUsed_17 : decode cX3_isUsed 17 = .ok (.if_icmp .ne 5, 3) := dk_160 0 5 (dk_at dksX3_isUsed_0 17 rfl rfl)
theorem dX3_isUsed_20 : decode cX3_isUsed 20 = .ok (.iconst 1, 1) := dk_4 (dk_at dksX3_isUsed_0 20 rfl rfl)
theorem dX3_isUsed_21 : decode cX3_isUsed 21 = .ok (.ireturn, 1) := dk_172 (dk_at dksX3_isUsed_0 21 rfl rfl)
theorem dX3_isUsed_22 : decode cX3_isUsed 22 = .ok (.iinc 3 1, 3) := dk_132 3 1 (dk_at dksX3_isUsed_1 0 rfl rfl)
theorem dX3_isUsed_25 : decode cX3_isUsed 25 = .ok (.goto (-23), 3) := dk_167 255 233 (dk_at dksX3_isUsed_1 3 rfl rfl)
theorem dX3_isUsed_28 : decode cX3_isUsed 28 = .ok (.iconst 0, 1) := dk_3 (dk_at dksX3_isUsed_1 6 rfl rfl)
theorem dX3_isUsed_29 : decode cX3_isUsed 29 = .ok (.ireturn, 1) := dk_172 (dk_at dksX3_isUsed_1 7 rfl rfl)
abbrev cX3_walk : ByteArray := prog_21_method_121_code
def yX3_walk : MethodName := ⟨RX3, "walk", "(II)I"⟩
def dkwX3_walk_7 : List UInt8 := [28, 4, 160, 0, 7, 29, 167, 0, 5, 21, 4, 172]
abbrev dktX3_walk_7 : List UInt8 := dkwX3_walk_7 ++ []
def dkwX3_walk_6 : List UInt8 := [21, 6, 153, 0, 8, 21, 5, 167, 0, 4, 29, 62, 132, 5, 1, 167, 255, 146, 29, 16, 254, 159, 0, 8]
abbrev dktX3_walk_6 : List UInt8 := dkwX3_walk_6 ++ dktX3_walk_7
def dkwX3_walk_5 : List UInt8 := [54, 6, 42, 182, 2, 56, 21, 6, 153, 0, 12, 42, 21, 5, 182, 2, 82, 167, 0, 5, 21, 4, 54, 4]
abbrev dktX3_walk_5 : List UInt8 := dkwX3_walk_5 ++ dktX3_walk_6
def dkwX3_walk_4 : List UInt8 := [42, 27, 42, 180, 0, 28, 21, 6, 46, 182, 2, 9, 132, 6, 1, 167, 255, 220, 42, 27, 182, 2, 53]
abbrev dktX3_walk_4 : List UInt8 := dkwX3_walk_4 ++ dktX3_walk_5
def dkwX3_walk_3 : List UInt8 := [3, 54, 6, 21, 6, 42, 180, 0, 9, 6, 46, 162, 0, 31, 21, 5, 21, 6, 184, 1, 112, 153, 0, 15]
abbrev dktX3_walk_3 : List UInt8 := dkwX3_walk_3 ++ dktX3_walk_4
def dkwX3_walk_2 : List UInt8 := [21, 5, 4, 42, 180, 0, 9, 6, 46, 120, 162, 0, 103, 42, 21, 5, 182, 2, 82, 21, 4, 162, 0, 86]
abbrev dktX3_walk_2 : List UInt8 := dkwX3_walk_2 ++ dktX3_walk_3
def dkwX3_walk_1 : List UInt8 := [16, 254, 62, 16, 24, 42, 180, 0, 22, 27, 46, 100, 4, 96, 54, 4, 42, 182, 2, 50, 3, 54, 5]
abbrev dktX3_walk_1 : List UInt8 := dkwX3_walk_1 ++ dktX3_walk_2
def dkwX3_walk_0 : List UInt8 := [42, 27, 182, 1, 194, 153, 0, 13, 28, 133, 9, 10, 184, 0, 179, 154, 0, 5, 2, 172, 42, 182, 2, 79]
abbrev dktX3_walk_0 : List UInt8 := dkwX3_walk_0 ++ dktX3_walk_1
theorem dksX3_walk_0 : cX3_walk.data.toList.drop 0 = dktX3_walk_0 := by decide +kernel
theorem dksX3_walk_1 : cX3_walk.data.toList.drop 24 = dktX3_walk_1 := dk_seg dksX3_walk_0 24 rfl rfl
theorem dksX3_walk_2 : cX3_walk.data.toList.drop 47 = dktX3_walk_2 := dk_seg dksX3_walk_1 23 rfl rfl
theorem dksX3_walk_3 : cX3_walk.data.toList.drop 71 = dktX3_walk_3 := dk_seg dksX3_walk_2 24 rfl rfl
theorem dksX3_walk_4 : cX3_walk.data.toList.drop 95 = dktX3_walk_4 := dk_seg dksX3_walk_3 24 rfl rfl
theorem dksX3_walk_5 : cX3_walk.data.toList.drop 118 = dktX3_walk_5 := dk_seg dksX3_walk_4 23 rfl rfl
theorem dksX3_walk_6 : cX3_walk.data.toList.drop 142 = dktX3_walk_6 := dk_seg dksX3_walk_5 24 rfl rfl
theorem dksX3_walk_7 : cX3_walk.data.toList.drop 166 = dktX3_walk_7 := dk_seg dksX3_walk_6 24 rfl rfl
theorem dX3_walk_0 : decode cX3_walk 0 = .ok (.aload_n 0, 1) := dk_42 (dk_at dksX3_walk_0 0 rfl rfl)
theorem dX3_walk_1 : decode cX3_walk 1 = .ok (.iload_n 1, 1) := dk_27 (dk_at dksX3_walk_0 1 rfl rfl)
theorem dX3_walk_2 : decode cX3_walk 2 = .ok (.invokevirtual 450, 3) := dk_182 1 194 (dk_at dksX3_walk_0 2 rfl rfl)
theorem dX3_walk_5 : decode cX3_walk 5 = .ok (.ifCond .eq 13, 3) := dk_153 0 13 (dk_at dksX3_walk_0 5 rfl rfl)
theorem dX3_walk_8 : decode cX3_walk 8 = .ok (.iload_n 2, 1) := dk_28 (dk_at dksX3_walk_0 8 rfl rfl)
theorem dX3_walk_9 : decode cX3_walk 9 = .ok (.i2l, 1) := dk_133 (dk_at dksX3_walk_0 9 rfl rfl)
theorem dX3_walk_10 : decode cX3_walk 10 = .ok (.lconst 0, 1) := dk_9 (dk_at dksX3_walk_0 10 rfl rfl)
theorem dX3_walk_11 : decode cX3_walk 11 = .ok (.lconst 1, 1) := dk_10 (dk_at dksX3_walk_0 11 rfl rfl)
theorem dX3_walk_12 : decode cX3_walk 12 = .ok (.invokestatic 179, 3) := dk_184 0 179 (dk_at dksX3_walk_0 12 rfl rfl)
theorem dX3_walk_15 : decode cX3_walk 15 = .ok (.ifCond .ne 5, 3) := dk_154 0 5 (dk_at dksX3_walk_0 15 rfl rfl)
theorem dX3_walk_18 : decode cX3_walk 18 = .ok (.iconst (-1), 1) := dk_2 (dk_at dksX3_walk_0 18 rfl rfl)
theorem dX3_walk_19 : decode cX3_walk 19 = .ok (.ireturn, 1) := dk_172 (dk_at dksX3_walk_0 19 rfl rfl)
theorem dX3_walk_20 : decode cX3_walk 20 = .ok (.aload_n 0, 1) := dk_42 (dk_at dksX3_walk_0 20 rfl rfl)
theorem dX3_walk_21 : decode cX3_walk 21 = .ok (.invokevirtual 591, 3) := dk_182 2 79 (dk_at dksX3_walk_0 21 rfl rfl)
theorem dX3_walk_24 : decode cX3_walk 24 = .ok (.bipush (-2), 2) := dk_16 254 (dk_at dksX3_walk_1 0 rfl rfl)
theorem dX3_walk_26 : decode cX3_walk 26 = .ok (.istore_n 3, 1) := dk_62 (dk_at dksX3_walk_1 2 rfl rfl)
theorem dX3_walk_27 : decode cX3_walk 27 = .ok (.bipush 24, 2) := dk_16 24 (dk_at dksX3_walk_1 3 rfl rfl)
theorem dX3_walk_29 : decode cX3_walk 29 = .ok (.aload_n 0, 1) := dk_42 (dk_at dksX3_walk_1 5 rfl rfl)
theorem dX3_walk_30 : decode cX3_walk 30 = .ok (.getfield 22, 3) := dk_180 0 22 (dk_at dksX3_walk_1 6 rfl rfl)
theorem dX3_walk_33 : decode cX3_walk 33 = .ok (.iload_n 1, 1) := dk_27 (dk_at dksX3_walk_1 9 rfl rfl)
theorem dX3_walk_34 : decode cX3_walk 34 = .ok (.iaload, 1) := dk_46 (dk_at dksX3_walk_1 10 rfl rfl)
theorem dX3_walk_35 : decode cX3_walk 35 = .ok (.isub, 1) := dk_100 (dk_at dksX3_walk_1 11 rfl rfl)
theorem dX3_walk_36 : decode cX3_walk 36 = .ok (.iconst 1, 1) := dk_4 (dk_at dksX3_walk_1 12 rfl rfl)
theorem dX3_walk_37 : decode cX3_walk 37 = .ok (.iadd, 1) := dk_96 (dk_at dksX3_walk_1 13 rfl rfl)
theorem dX3_walk_38 : decode cX3_walk 38 = .ok (.istore 4, 2) := dk_54 4 (dk_at dksX3_walk_1 14 rfl rfl)
theorem dX3_walk_40 : decode cX3_walk 40 = .ok (.aload_n 0, 1) := dk_42 (dk_at dksX3_walk_1 16 rfl rfl)
theorem dX3_walk_41 : decode cX3_walk 41 = .ok (.invokevirtual 562, 3) := dk_182 2 50 (dk_at dksX3_walk_1 17 rfl rfl)
theorem dX3_walk_44 : decode cX3_walk 44 = .ok (.iconst 0, 1) := dk_3 (dk_at dksX3_walk_1 20 rfl rfl)
theorem dX3_walk_45 : decode cX3_walk 45 = .ok (.istore 5, 2) := dk_54 5 (dk_at dksX3_walk_1 21 rfl rfl)
theorem dX3_walk_47 : decode cX3_walk 47 = .ok (.iload 5, 2) := dk_21 5 (dk_at dksX3_walk_2 0 rfl rfl)
theorem dX3_walk_49 : decode cX3_walk 49 = .ok (.iconst 1, 1) := dk_4 (dk_at dksX3_walk_2 2 rfl rfl)
theorem dX3_walk_50 : decode cX3_walk 50 = .ok (.aload_n 0, 1) := dk_42 (dk_at dksX3_walk_2 3 rfl rfl)
theorem dX3_walk_51 : decode cX3_walk 51 = .ok (.getfield 9, 3) := dk_180 0 9 (dk_at dksX3_walk_2 4 rfl rfl)
theorem dX3_walk_54 : decode cX3_walk 54 = .ok (.iconst 3, 1) := dk_6 (dk_at dksX3_walk_2 7 rfl rfl)
theorem dX3_walk_55 : decode cX3_walk 55 = .ok (.iaload, 1) := dk_46 (dk_at dksX3_walk_2 8 rfl rfl)
theorem dX3_walk_56 : decode cX3_walk 56 = .ok (.ishl, 1) := dk_120 (dk_at dksX3_walk_2 9 rfl rfl)
theorem dX3_walk_57 : decode cX3_walk 57 = .ok (.if_icmp .ge 103, 3) := dk_162 0 103 (dk_at dksX3_walk_2 10 rfl rfl)
theorem dX3_walk_60 : decode cX3_walk 60 = .ok (.aload_n 0, 1) := dk_42 (dk_at dksX3_walk_2 13 rfl rfl)
theorem dX3_walk_61 : decode cX3_walk 61 = .ok (.iload 5, 2) := dk_21 5 (dk_at dksX3_walk_2 14 rfl rfl)
theorem dX3_walk_63 : decode cX3_walk 63 = .ok (.invokevirtual 594, 3) := dk_182 2 82 (dk_at dksX3_walk_2 16 rfl rfl)
theorem dX3_walk_66 : decode cX3_walk 66 = .ok (.iload 4, 2) := dk_21 4 (dk_at dksX3_walk_2 19 rfl rfl)
theorem dX3_walk_68 : decode cX3_walk 68 = .ok (.if_icmp .ge 86, 3) := dk_162 0 86 (dk_at dksX3_walk_2 21 rfl rfl)
theorem dX3_walk_71 : decode cX3_walk 71 = .ok (.iconst 0, 1) := dk_3 (dk_at dksX3_walk_3 0 rfl rfl)
theorem dX3_walk_72 : decode cX3_walk 72 = .ok (.istore 6, 2) := dk_54 6 (dk_at dksX3_walk_3 1 rfl rfl)
theorem dX3_walk_74 : decode cX3_walk 74 = .ok (.iload 6, 2) := dk_21 6 (dk_at dksX3_walk_3 3 rfl rfl)
theorem dX3_walk_76 : decode cX3_walk 76 = .ok (.aload_n 0, 1) := dk_42 (dk_at dksX3_walk_3 5 rfl rfl)
theorem dX3_walk_77 : decode cX3_walk 77 = .ok (.getfield 9, 3) := dk_180 0 9 (dk_at dksX3_walk_3 6 rfl rfl)
theorem dX3_walk_80 : decode cX3_walk 80 = .ok (.iconst 3, 1) := dk_6 (dk_at dksX3_walk_3 9 rfl rfl)
theorem dX3_walk_81 : decode cX3_walk 81 = .ok (.iaload, 1) := dk_46 (dk_at dksX3_walk_3 10 rfl rfl)
theorem dX3_walk_82 : decode cX3_walk 82 = .ok (.if_icmp .ge 31, 3) := dk_162 0 31 (dk_at dksX3_walk_3 11 rfl rfl)
theorem dX3_walk_85 : decode cX3_walk 85 = .ok (.iload 5, 2) := dk_21 5 (dk_at dksX3_walk_3 14 rfl rfl)
theorem dX3_walk_87 : decode cX3_walk 87 = .ok (.iload 6, 2) := dk_21 6 (dk_at dksX3_walk_3 16 rfl rfl)
theorem dX3_walk_89 : decode cX3_walk 89 = .ok (.invokestatic 368, 3) := dk_184 1 112 (dk_at dksX3_walk_3 18 rfl rfl)
theorem dX3_walk_92 : decode cX3_walk 92 = .ok (.ifCond .eq 15, 3) := dk_153 0 15 (dk_at dksX3_walk_3 21 rfl rfl)
theorem dX3_walk_95 : decode cX3_walk 95 = .ok (.aload_n 0, 1) := dk_42 (dk_at dksX3_walk_4 0 rfl rfl)
theorem dX3_walk_96 : decode cX3_walk 96 = .ok (.iload_n 1, 1) := dk_27 (dk_at dksX3_walk_4 1 rfl rfl)
theorem dX3_walk_97 : decode cX3_walk 97 = .ok (.aload_n 0, 1) := dk_42 (dk_at dksX3_walk_4 2 rfl rfl)
theorem dX3_walk_98 : decode cX3_walk 98 = .ok (.getfield 28, 3) := dk_180 0 28 (dk_at dksX3_walk_4 3 rfl rfl)
theorem dX3_walk_101 : decode cX3_walk 101 = .ok (.iload 6, 2) := dk_21 6 (dk_at dksX3_walk_4 6 rfl rfl)
theorem dX3_walk_103 : decode cX3_walk 103 = .ok (.iaload, 1) := dk_46 (dk_at dksX3_walk_4 8 rfl rfl)
theorem dX3_walk_104 : decode cX3_walk 104 = .ok (.invokevirtual 521, 3) := dk_182 2 9 (dk_at dksX3_walk_4 9 rfl rfl)
theorem dX3_walk_107 : decode cX3_walk 107 = .ok (.iinc 6 1, 3) := dk_132 6 1 (dk_at dksX3_walk_4 12 rfl rfl)
theorem dX3_walk_110 : decode cX3_walk 110 = .ok (.goto (-36), 3) := dk_167 255 220 (dk_at dksX3_walk_4 15 rfl rfl)
theorem dX3_walk_113 : decode cX3_walk 113 = .ok (.aload_n 0, 1) := dk_42 (dk_at dksX3_walk_4 18 rfl rfl)
theorem dX3_walk_114 : decode cX3_walk 114 = .ok (.iload_n 1, 1) := dk_27 (dk_at dksX3_walk_4 19 rfl rfl)
theorem dX3_walk_115 : decode cX3_walk 115 = .ok (.invokevirtual 565, 3) := dk_182 2 53 (dk_at dksX3_walk_4 20 rfl rfl)
theorem dX3_walk_118 : decode cX3_walk 118 = .ok (.istore 6, 2) := dk_54 6 (dk_at dksX3_walk_5 0 rfl rfl)
theorem dX3_walk_120 : decode cX3_walk 120 = .ok (.aload_n 0, 1) := dk_42 (dk_at dksX3_walk_5 2 rfl rfl)
theorem dX3_walk_121 : decode cX3_walk 121 = .ok (.invokevirtual 568, 3) := dk_182 2 56 (dk_at dksX3_walk_5 3 rfl rfl)
theorem dX3_walk_124 : decode cX3_walk 124 = .ok (.iload 6, 2) := dk_21 6 (dk_at dksX3_walk_5 6 rfl rfl)
theorem dX3_walk_126 : decode cX3_walk 126 = .ok (.ifCond .eq 12, 3) := dk_153 0 12 (dk_at dksX3_walk_5 8 rfl rfl)
theorem dX3_walk_129 : decode cX3_walk 129 = .ok (.aload_n 0, 1) := dk_42 (dk_at dksX3_walk_5 11 rfl rfl)
theorem dX3_walk_130 : decode cX3_walk 130 = .ok (.iload 5, 2) := dk_21 5 (dk_at dksX3_walk_5 12 rfl rfl)
theorem dX3_walk_132 : decode cX3_walk 132 = .ok (.invokevirtual 594, 3) := dk_182 2 82 (dk_at dksX3_walk_5 14 rfl rfl)
theorem dX3_walk_135 : decode cX3_walk 135 = .ok (.goto 5, 3) := dk_167 0 5 (dk_at dksX3_walk_5 17 rfl rfl)
theorem dX3_walk_138 : decode cX3_walk 138 = .ok (.iload 4, 2) := dk_21 4 (dk_at dksX3_walk_5 20 rfl rfl)
theorem dX3_walk_140 : decode cX3_walk 140 = .ok (.istore 4, 2) := dk_54 4 (dk_at dksX3_walk_5 22 rfl rfl)
theorem dX3_walk_142 : decode cX3_walk 142 = .ok (.iload 6, 2) := dk_21 6 (dk_at dksX3_walk_6 0 rfl rfl)
theorem dX3_walk_144 : decode cX3_walk 144 = .ok (.ifCond .eq 8, 3) := dk_153 0 8 (dk_at dksX3_walk_6 2 rfl rfl)
theorem dX3_walk_147 : decode cX3_walk 147 = .ok (.iload 5, 2) := dk_21 5 (dk_at dksX3_walk_6 5 rfl rfl)
theorem dX3_walk_149 : decode cX3_walk 149 = .ok (.goto 4, 3) := dk_167 0 4 (dk_at dksX3_walk_6 7 rfl rfl)
theorem dX3_walk_152 : decode cX3_walk 152 = .ok (.iload_n 3, 1) := dk_29 (dk_at dksX3_walk_6 10 rfl rfl)
theorem dX3_walk_153 : decode cX3_walk 153 = .ok (.istore_n 3, 1) := dk_62 (dk_at dksX3_walk_6 11 rfl rfl)
theorem dX3_walk_154 : decode cX3_walk 154 = .ok (.iinc 5 1, 3) := dk_132 5 1 (dk_at dksX3_walk_6 12 rfl rfl)
theorem dX3_walk_157 : decode cX3_walk 157 = .ok (.goto (-110), 3) := dk_167 255 146 (dk_at dksX3_walk_6 15 rfl rfl)
theorem dX3_walk_160 : decode cX3_walk 160 = .ok (.iload_n 3, 1) := dk_29 (dk_at dksX3_walk_6 18 rfl rfl)
theorem dX3_walk_161 : decode cX3_walk 161 = .ok (.bipush (-2), 2) := dk_16 254 (dk_at dksX3_walk_6 19 rfl rfl)
theorem dX3_walk_163 : decode cX3_walk 163 = .ok (.if_icmp .eq 8, 3) := dk_159 0 8 (dk_at dksX3_walk_6 21 rfl rfl)
theorem dX3_walk_166 : decode cX3_walk 166 = .ok (.iload_n 2, 1) := dk_28 (dk_at dksX3_walk_7 0 rfl rfl)
theorem dX3_walk_167 : decode cX3_walk 167 = .ok (.iconst 1, 1) := dk_4 (dk_at dksX3_walk_7 1 rfl rfl)
theorem dX3_walk_168 : decode cX3_walk 168 = .ok (.if_icmp .ne 7, 3) := dk_160 0 7 (dk_at dksX3_walk_7 2 rfl rfl)
theorem dX3_walk_171 : decode cX3_walk 171 = .ok (.iload_n 3, 1) := dk_29 (dk_at dksX3_walk_7 5 rfl rfl)
theorem dX3_walk_172 : decode cX3_walk 172 = .ok (.goto 5, 3) := dk_167 0 5 (dk_at dksX3_walk_7 6 rfl rfl)
theorem dX3_walk_175 : decode cX3_walk 175 = .ok (.iload 4, 2) := dk_21 4 (dk_at dksX3_walk_7 9 rfl rfl)
theorem dX3_walk_177 : decode cX3_walk 177 = .ok (.ireturn, 1) := dk_172 (dk_at dksX3_walk_7 11 rfl rfl)
abbrev cX3_laysWalks : ByteArray := prog_21_method_119_code
def yX3_laysWalks : MethodName := ⟨RX3, "laysWalks", "()V"⟩
def dkwX3_laysWalks_7 : List UInt8 := [132, 2, 1, 167, 255, 134, 132, 1, 1, 167, 255, 114, 177]
abbrev dktX3_laysWalks_7 : List UInt8 := dkwX3_laysWalks_7 ++ []
def dkwX3_laysWalks_6 : List UInt8 := [167, 0, 4, 29, 62, 132, 4, 1, 167, 255, 193, 42, 180, 0, 163, 16, 6, 27, 104, 28, 96, 29, 79]
abbrev dktX3_laysWalks_6 : List UInt8 := dkwX3_laysWalks_6 ++ dktX3_laysWalks_7
def dkwX3_laysWalks_5 : List UInt8 := [104, 21, 4, 96, 46, 42, 21, 4, 28, 182, 1, 214, 96, 54, 5, 21, 5, 29, 162, 0, 8, 21, 5]
abbrev dktX3_laysWalks_5 : List UInt8 := dkwX3_laysWalks_5 ++ dktX3_laysWalks_6
def dkwX3_laysWalks_4 : List UInt8 := [162, 0, 58, 27, 28, 184, 1, 112, 153, 0, 50, 42, 180, 0, 163, 16, 6, 27, 4, 28, 120, 2, 130, 126]
abbrev dktX3_laysWalks_4 : List UInt8 := dkwX3_laysWalks_4 ++ dktX3_laysWalks_5
def dkwX3_laysWalks_3 : List UInt8 := [3, 28, 182, 1, 214, 167, 0, 6, 19, 1, 210, 62, 3, 54, 4, 21, 4, 42, 180, 0, 9, 6, 46]
abbrev dktX3_laysWalks_3 : List UInt8 := dkwX3_laysWalks_3 ++ dktX3_laysWalks_4
def dkwX3_laysWalks_2 : List UInt8 := [180, 0, 9, 6, 46, 162, 0, 118, 27, 28, 184, 1, 112, 153, 0, 19, 27, 4, 28, 120, 160, 0, 12, 42]
abbrev dktX3_laysWalks_2 : List UInt8 := dkwX3_laysWalks_2 ++ dktX3_laysWalks_3
def dkwX3_laysWalks_1 : List UInt8 := [132, 1, 1, 167, 255, 235, 4, 60, 27, 4, 42, 180, 0, 9, 6, 46, 120, 162, 0, 136, 3, 61, 28, 42]
abbrev dktX3_laysWalks_1 : List UInt8 := dkwX3_laysWalks_1 ++ dktX3_laysWalks_2
def dkwX3_laysWalks_0 : List UInt8 := [42, 182, 1, 211, 3, 60, 27, 42, 180, 0, 163, 190, 162, 0, 18, 42, 180, 0, 163, 27, 19, 1, 210, 79]
abbrev dktX3_laysWalks_0 : List UInt8 := dkwX3_laysWalks_0 ++ dktX3_laysWalks_1
theorem dksX3_laysWalks_0 : cX3_laysWalks.data.toList.drop 0 = dktX3_laysWalks_0 := by decide +kernel
theorem dksX3_laysWalks_1 : cX3_laysWalks.data.toList.drop 24 = dktX3_laysWalks_1 := dk_seg dksX3_laysWalks_0 24 rfl rfl
theorem dksX3_laysWalks_2 : cX3_laysWalks.data.toList.drop 48 = dktX3_laysWalks_2 := dk_seg dksX3_laysWalks_1 24 rfl rfl
theorem dksX3_laysWalks_3 : cX3_laysWalks.data.toList.drop 72 = dktX3_laysWalks_3 := dk_seg dksX3_laysWalks_2 24 rfl rfl
theorem dksX3_laysWalks_4 : cX3_laysWalks.data.toList.drop 95 = dktX3_laysWalks_4 := dk_seg dksX3_laysWalks_3 23 rfl rfl
theorem dksX3_laysWalks_5 : cX3_laysWalks.data.toList.drop 119 = dktX3_laysWalks_5 := dk_seg dksX3_laysWalks_4 24 rfl rfl
theorem dksX3_laysWalks_6 : cX3_laysWalks.data.toList.drop 142 = dktX3_laysWalks_6 := dk_seg dksX3_laysWalks_5 23 rfl rfl
theorem dksX3_laysWalks_7 : cX3_laysWalks.data.toList.drop 165 = dktX3_laysWalks_7 := dk_seg dksX3_laysWalks_6 23 rfl rfl
theorem dX3_laysWalks_0 : decode cX3_laysWalks 0 = .ok (.aload_n 0, 1) := dk_42 (dk_at dksX3_laysWalks_0 0 rfl rfl)
theorem dX3_laysWalks_1 : decode cX3_laysWalks 1 = .ok (.invokevirtual 467, 3) := dk_182 1 211 (dk_at dksX3_laysWalks_0 1 rfl rfl)
theorem dX3_laysWalks_4 : decode cX3_laysWalks 4 = .ok (.iconst 0, 1) := dk_3 (dk_at dksX3_laysWalks_0 4 rfl rfl)
theorem dX3_laysWalks_5 : decode cX3_laysWalks 5 = .ok (.istore_n 1, 1) := dk_60 (dk_at dksX3_laysWalks_0 5 rfl rfl)
theorem dX3_laysWalks_6 : decode cX3_laysWalks 6 = .ok (.iload_n 1, 1) := dk_27 (dk_at dksX3_laysWalks_0 6 rfl rfl)
theorem dX3_laysWalks_7 : decode cX3_laysWalks 7 = .ok (.aload_n 0, 1) := dk_42 (dk_at dksX3_laysWalks_0 7 rfl rfl)
theorem dX3_laysWalks_8 : decode cX3_laysWalks 8 = .ok (.getfield 163, 3) := dk_180 0 163 (dk_at dksX3_laysWalks_0 8 rfl rfl)
theorem dX3_laysWalks_11 : decode cX3_laysWalks 11 = .ok (.arraylength, 1) := dk_190 (dk_at dksX3_laysWalks_0 11 rfl rfl)
theorem dX3_laysWalks_12 : decode cX3_laysWalks 12 = .ok (.if_icmp .ge 18, 3) := dk_162 0 18 (dk_at dksX3_laysWalks_0 12 rfl rfl)
theorem dX3_laysWalks_15 : decode cX3_laysWalks 15 = .ok (.aload_n 0, 1) := dk_42 (dk_at dksX3_laysWalks_0 15 rfl rfl)
theorem dX3_laysWalks_16 : decode cX3_laysWalks 16 = .ok (.getfield 163, 3) := dk_180 0 163 (dk_at dksX3_laysWalks_0 16 rfl rfl)
theorem dX3_laysWalks_19 : decode cX3_laysWalks 19 = .ok (.iload_n 1, 1) := dk_27 (dk_at dksX3_laysWalks_0 19 rfl rfl)
theorem dX3_laysWalks_20 : decode cX3_laysWalks 20 = .ok (.ldc_w 466, 3) := dk_19 1 210 (dk_at dksX3_laysWalks_0 20 rfl rfl)
theorem dX3_laysWalks_23 : decode cX3_laysWalks 23 = .ok (.iastore, 1) := dk_79 (dk_at dksX3_laysWalks_0 23 rfl rfl)
theorem dX3_laysWalks_24 : decode cX3_laysWalks 24 = .ok (.iinc 1 1, 3) := dk_132 1 1 (dk_at dksX3_laysWalks_1 0 rfl rfl)
theorem dX3_laysWalks_27 : decode cX3_laysWalks 27 = .ok (.goto (-21), 3) := dk_167 255 235 (dk_at dksX3_laysWalks_1 3 rfl rfl)
theorem dX3_laysWalks_30 : decode cX3_laysWalks 30 = .ok (.iconst 1, 1) := dk_4 (dk_at dksX3_laysWalks_1 6 rfl rfl)
theorem dX3_laysWalks_31 : decode cX3_laysWalks 31 = .ok (.istore_n 1, 1) := dk_60 (dk_at dksX3_laysWalks_1 7 rfl rfl)
theorem dX3_laysWalks_32 : decode cX3_laysWalks 32 = .ok (.iload_n 1, 1) := dk_27 (dk_at dksX3_laysWalks_1 8 rfl rfl)
theorem dX3_laysWalks_33 : decode cX3_laysWalks 33 = .ok (.iconst 1, 1) := dk_4 (dk_at dksX3_laysWalks_1 9 rfl rfl)
theorem dX3_laysWalks_34 : decode cX3_laysWalks 34 = .ok (.aload_n 0, 1) := dk_42 (dk_at dksX3_laysWalks_1 10 rfl rfl)
theorem dX3_laysWalks_35 : decode cX3_laysWalks 35 = .ok (.getfield 9, 3) := dk_180 0 9 (dk_at dksX3_laysWalks_1 11 rfl rfl)
theorem dX3_laysWalks_38 : decode cX3_laysWalks 38 = .ok (.iconst 3, 1) := dk_6 (dk_at dksX3_laysWalks_1 14 rfl rfl)
theorem dX3_laysWalks_39 : decode cX3_laysWalks 39 = .ok (.iaload, 1) := dk_46 (dk_at dksX3_laysWalks_1 15 rfl rfl)
theorem dX3_laysWalks_40 : decode cX3_laysWalks 40 = .ok (.ishl, 1) := dk_120 (dk_at dksX3_laysWalks_1 16 rfl rfl)
theorem dX3_laysWalks_41 : decode cX3_laysWalks 41 = .ok (.if_icmp .ge 136, 3) := dk_162 0 136 (dk_at dksX3_laysWalks_1 17 rfl rfl)
theorem dX3_laysWalks_44 : decode cX3_laysWalks 44 = .ok (.iconst 0, 1) := dk_3 (dk_at dksX3_laysWalks_1 20 rfl rfl)
theorem dX3_laysWalks_45 : decode cX3_laysWalks 45 = .ok (.istore_n 2, 1) := dk_61 (dk_at dksX3_laysWalks_1 21 rfl rfl)
theorem dX3_laysWalks_46 : decode cX3_laysWalks 46 = .ok (.iload_n 2, 1) := dk_28 (dk_at dksX3_laysWalks_1 22 rfl rfl)
theorem dX3_laysWalks_47 : decode cX3_laysWalks 47 = .ok (.aload_n 0, 1) := dk_42 (dk_at dksX3_laysWalks_1 23 rfl rfl)
theorem dX3_laysWalks_48 : decode cX3_laysWalks 48 = .ok (.getfield 9, 3) := dk_180 0 9 (dk_at dksX3_laysWalks_2 0 rfl rfl)
theorem dX3_laysWalks_51 : decode cX3_laysWalks 51 = .ok (.iconst 3, 1) := dk_6 (dk_at dksX3_laysWalks_2 3 rfl rfl)
theorem dX3_laysWalks_52 : decode cX3_laysWalks 52 = .ok (.iaload, 1) := dk_46 (dk_at dksX3_laysWalks_2 4 rfl rfl)
theorem dX3_laysWalks_53 : decode cX3_laysWalks 53 = .ok (.if_icmp .ge 118, 3) := dk_162 0 118 (dk_at dksX3_laysWalks_2 5 rfl rfl)
theorem dX3_laysWalks_56 : decode cX3_laysWalks 56 = .ok (.iload_n 1, 1) := dk_27 (dk_at dksX3_laysWalks_2 8 rfl rfl)
theorem dX3_laysWalks_57 : decode cX3_laysWalks 57 = .ok (.iload_n 2, 1) := dk_28 (dk_at dksX3_laysWalks_2 9 rfl rfl)
theorem dX3_laysWalks_58 : decode cX3_laysWalks 58 = .ok (.invokestatic 368, 3) := dk_184 1 112 (dk_at dksX3_laysWalks_2 10 rfl rfl)
theorem dX3_laysWalks_61 : decode cX3_laysWalks 61 = .ok (.ifCond .eq 19, 3) := dk_153 0 19 (dk_at dksX3_laysWalks_2 13 rfl rfl)
theorem dX3_laysWalks_64 : decode cX3_laysWalks 64 = .ok (.iload_n 1, 1) := dk_27 (dk_at dksX3_laysWalks_2 16 rfl rfl)
theorem dX3_laysWalks_65 : decode cX3_laysWalks 65 = .ok (.iconst 1, 1) := dk_4 (dk_at dksX3_laysWalks_2 17 rfl rfl)
theorem dX3_laysWalks_66 : decode cX3_laysWalks 66 = .ok (.iload_n 2, 1) := dk_28 (dk_at dksX3_laysWalks_2 18 rfl rfl)
theorem dX3_laysWalks_67 : decode cX3_laysWalks 67 = .ok (.ishl, 1) := dk_120 (dk_at dksX3_laysWalks_2 19 rfl rfl)
theorem dX3_laysWalks_68 : decode cX3_laysWalks 68 = .ok (.if_icmp .ne 12, 3) := dk_160 0 12 (dk_at dksX3_laysWalks_2 20 rfl rfl)
theorem dX3_laysWalks_71 : decode cX3_laysWalks 71 = .ok (.aload_n 0, 1) := dk_42 (dk_at dksX3_laysWalks_2 23 rfl rfl)
theorem dX3_laysWalks_72 : decode cX3_laysWalks 72 = .ok (.iconst 0, 1) := dk_3 (dk_at dksX3_laysWalks_3 0 rfl rfl)
theorem dX3_laysWalks_73 : decode cX3_laysWalks 73 = .ok (.iload_n 2, 1) := dk_28 (dk_at dksX3_laysWalks_3 1 rfl rfl)
theorem dX3_laysWalks_74 : decode cX3_laysWalks 74 = .ok (.invokevirtual 470, 3) := dk_182 1 214 (dk_at dksX3_laysWalks_3 2 rfl rfl)
theorem dX3_laysWalks_77 : decode cX3_laysWalks 77 = .ok (.goto 6, 3) := dk_167 0 6 (dk_at dksX3_laysWalks_3 5 rfl rfl)
theorem dX3_laysWalks_80 : decode cX3_laysWalks 80 = .ok (.ldc_w 466, 3) := dk_19 1 210 (dk_at dksX3_laysWalks_3 8 rfl rfl)
theorem dX3_laysWalks_83 : decode cX3_laysWalks 83 = .ok (.istore_n 3, 1) := dk_62 (dk_at dksX3_laysWalks_3 11 rfl rfl)
theorem dX3_laysWalks_84 : decode cX3_laysWalks 84 = .ok (.iconst 0, 1) := dk_3 (dk_at dksX3_laysWalks_3 12 rfl rfl)
theorem dX3_laysWalks_85 : decode cX3_laysWalks 85 = .ok (.istore 4, 2) := dk_54 4 (dk_at dksX3_laysWalks_3 13 rfl rfl)
theorem dX3_laysWalks_87 : decode cX3_laysWalks 87 = .ok (.iload 4, 2) := dk_21 4 (dk_at dksX3_laysWalks_3 15 rfl rfl)
theorem dX3_laysWalks_89 : decode cX3_laysWalks 89 = .ok (.aload_n 0, 1) := dk_42 (dk_at dksX3_laysWalks_3 17 rfl rfl)
theorem dX3_laysWalks_90 : decode cX3_laysWalks 90 = .ok (.getfield 9, 3) := dk_180 0 9 (dk_at dksX3_laysWalks_3 18 rfl rfl)
theorem dX3_laysWalks_93 : decode cX3_laysWalks 93 = .ok (.iconst 3, 1) := dk_6 (dk_at dksX3_laysWalks_3 21 rfl rfl)
theorem dX3_laysWalks_94 : decode cX3_laysWalks 94 = .ok (.iaload, 1) := dk_46 (dk_at dksX3_laysWalks_3 22 rfl rfl)
theorem dX3_laysWalks_95 : decode cX3_laysWalks 95 = .ok (.if_icmp .ge 58, 3) := dk_162 0 58 (dk_at dksX3_laysWalks_4 0 rfl rfl)
theorem dX3_laysWalks_98 : decode cX3_laysWalks 98 = .ok (.iload_n 1, 1) := dk_27 (dk_at dksX3_laysWalks_4 3 rfl rfl)
theorem dX3_laysWalks_99 : decode cX3_laysWalks 99 = .ok (.iload_n 2, 1) := dk_28 (dk_at dksX3_laysWalks_4 4 rfl rfl)
theorem dX3_laysWalks_100 : decode cX3_laysWalks 100 = .ok (.invokestatic 368, 3) := dk_184 1 112 (dk_at dksX3_laysWalks_4 5 rfl rfl)
theorem dX3_laysWalks_103 : decode cX3_laysWalks 103 = .ok (.ifCond .eq 50, 3) := dk_153 0 50 (dk_at dksX3_laysWalks_4 8 rfl rfl)
theorem dX3_laysWalks_106 : decode cX3_laysWalks 106 = .ok (.aload_n 0, 1) := dk_42 (dk_at dksX3_laysWalks_4 11 rfl rfl)
theorem dX3_laysWalks_107 : decode cX3_laysWalks 107 = .ok (.getfield 163, 3) := dk_180 0 163 (dk_at dksX3_laysWalks_4 12 rfl rfl)
theorem dX3_laysWalks_110 : decode cX3_laysWalks 110 = .ok (.bipush 6, 2) := dk_16 6 (dk_at dksX3_laysWalks_4 15 rfl rfl)
theorem dX3_laysWalks_112 : decode cX3_laysWalks 112 = .ok (.iload_n 1, 1) := dk_27 (dk_at dksX3_laysWalks_4 17 rfl rfl)
theorem dX3_laysWalks_113 : decode cX3_laysWalks 113 = .ok (.iconst 1, 1) := dk_4 (dk_at dksX3_laysWalks_4 18 rfl rfl)
theorem dX3_laysWalks_114 : decode cX3_laysWalks 114 = .ok (.iload_n 2, 1) := dk_28 (dk_at dksX3_laysWalks_4 19 rfl rfl)
theorem dX3_laysWalks_115 : decode cX3_laysWalks 115 = .ok (.ishl, 1) := dk_120 (dk_at dksX3_laysWalks_4 20 rfl rfl)
theorem dX3_laysWalks_116 : decode cX3_laysWalks 116 = .ok (.iconst (-1), 1) := dk_2 (dk_at dksX3_laysWalks_4 21 rfl rfl)
theorem dX3_laysWalks_117 : decode cX3_laysWalks 117 = .ok (.ixor, 1) := dk_130 (dk_at dksX3_laysWalks_4 22 rfl rfl)
theorem dX3_laysWalks_118 : decode cX3_laysWalks 118 = .ok (.iand, 1) := dk_126 (dk_at dksX3_laysWalks_4 23 rfl rfl)
theorem dX3_laysWalks_119 : decode cX3_laysWalks 119 = .ok (.imul, 1) := dk_104 (dk_at dksX3_laysWalks_5 0 rfl rfl)
theorem dX3_laysWalks_120 : decode cX3_laysWalks 120 = .ok (.iload 4, 2) := dk_21 4 (dk_at dksX3_laysWalks_5 1 rfl rfl)
theorem dX3_laysWalks_122 : decode cX3_laysWalks 122 = .ok (.iadd, 1) := dk_96 (dk_at dksX3_laysWalks_5 3 rfl rfl)
theorem dX3_laysWalks_123 : decode cX3_laysWalks 123 = .ok (.iaload, 1) := dk_46 (dk_at dksX3_laysWalks_5 4 rfl rfl)
theorem dX3_laysWalks_124 : decode cX3_laysWalks 124 = .ok (.aload_n 0, 1) := dk_42 (dk_at dksX3_laysWalks_5 5 rfl rfl)
theorem dX3_laysWalks_125 : decode cX3_laysWalks 125 = .ok (.iload 4, 2) := dk_21 4 (dk_at dksX3_laysWalks_5 6 rfl rfl)
theorem dX3_laysWalks_127 : decode cX3_laysWalks 127 = .ok (.iload_n 2, 1) := dk_28 (dk_at dksX3_laysWalks_5 8 rfl rfl)
theorem dX3_laysWalks_128 : decode cX3_laysWalks 128 = .ok (.invokevirtual 470, 3) := dk_182 1 214 (dk_at dksX3_laysWalks_5 9 rfl rfl)
theorem dX3_laysWalks_131 : decode cX3_laysWalks 131 = .ok (.iadd, 1) := dk_96 (dk_at dksX3_laysWalks_5 12 rfl rfl)
theorem dX3_laysWalks_132 : decode cX3_laysWalks 132 = .ok (.istore 5, 2) := dk_54 5 (dk_at dksX3_laysWalks_5 13 rfl rfl)
theorem dX3_laysWalks_134 : decode cX3_laysWalks 134 = .ok (.iload 5, 2) := dk_21 5 (dk_at dksX3_laysWalks_5 15 rfl rfl)
theorem dX3_laysWalks_136 : decode cX3_laysWalks 136 = .ok (.iload_n 3, 1) := dk_29 (dk_at dksX3_laysWalks_5 17 rfl rfl)
theorem dX3_laysWalks_137 : decode cX3_laysWalks 137 = .ok (.if_icmp .ge 8, 3) := dk_162 0 8 (dk_at dksX3_laysWalks_5 18 rfl rfl)
theorem dX3_laysWalks_140 : decode cX3_laysWalks 140 = .ok (.iload 5, 2) := dk_21 5 (dk_at dksX3_laysWalks_5 21 rfl rfl)
theorem dX3_laysWalks_142 : decode cX3_laysWalks 142 = .ok (.goto 4, 3) := dk_167 0 4 (dk_at dksX3_laysWalks_6 0 rfl rfl)
theorem dX3_laysWalks_145 : decode cX3_laysWalks 145 = .ok (.iload_n 3, 1) := dk_29 (dk_at dksX3_laysWalks_6 3 rfl rfl)
theorem dX3_laysWalks_146 : decode cX3_laysWalks 146 = .ok (.istore_n 3, 1) := dk_62 (dk_at dksX3_laysWalks_6 4 rfl rfl)
theorem dX3_laysWalks_147 : decode cX3_laysWalks 147 = .ok (.iinc 4 1, 3) := dk_132 4 1 (dk_at dksX3_laysWalks_6 5 rfl rfl)
theorem dX3_laysWalks_150 : decode cX3_laysWalks 150 = .ok (.goto (-63), 3) := dk_167 255 193 (dk_at dksX3_laysWalks_6 8 rfl rfl)
theorem dX3_laysWalks_153 : decode cX3_laysWalks 153 = .ok (.aload_n 0, 1) := dk_42 (dk_at dksX3_laysWalks_6 11 rfl rfl)
theorem dX3_laysWalks_154 : decode cX3_laysWalks 154 = .ok (.getfield 163, 3) := dk_180 0 163 (dk_at dksX3_laysWalks_6 12 rfl rfl)
theorem dX3_laysWalks_157 : decode cX3_laysWalks 157 = .ok (.bipush 6, 2) := dk_16 6 (dk_at dksX3_laysWalks_6 15 rfl rfl)
theorem dX3_laysWalks_159 : decode cX3_laysWalks 159 = .ok (.iload_n 1, 1) := dk_27 (dk_at dksX3_laysWalks_6 17 rfl rfl)
theorem dX3_laysWalks_160 : decode cX3_laysWalks 160 = .ok (.imul, 1) := dk_104 (dk_at dksX3_laysWalks_6 18 rfl rfl)
theorem dX3_laysWalks_161 : decode cX3_laysWalks 161 = .ok (.iload_n 2, 1) := dk_28 (dk_at dksX3_laysWalks_6 19 rfl rfl)
theorem dX3_laysWalks_162 : decode cX3_laysWalks 162 = .ok (.iadd, 1) := dk_96 (dk_at dksX3_laysWalks_6 20 rfl rfl)
theorem dX3_laysWalks_163 : decode cX3_laysWalks 163 = .ok (.iload_n 3, 1) := dk_29 (dk_at dksX3_laysWalks_6 21 rfl rfl)
theorem dX3_laysWalks_164 : decode cX3_laysWalks 164 = .ok (.iastore, 1) := dk_79 (dk_at dksX3_laysWalks_6 22 rfl rfl)
theorem dX3_laysWalks_165 : decode cX3_laysWalks 165 = .ok (.iinc 2 1, 3) := dk_132 2 1 (dk_at dksX3_laysWalks_7 0 rfl rfl)
theorem dX3_laysWalks_168 : decode cX3_laysWalks 168 = .ok (.goto (-122), 3) := dk_167 255 134 (dk_at dksX3_laysWalks_7 3 rfl rfl)
theorem dX3_laysWalks_171 : decode cX3_laysWalks 171 = .ok (.iinc 1 1, 3) := dk_132 1 1 (dk_at dksX3_laysWalks_7 6 rfl rfl)
theorem dX3_laysWalks_174 : decode cX3_laysWalks 174 = .ok (.goto (-142), 3) := dk_167 255 114 (dk_at dksX3_laysWalks_7 9 rfl rfl)
theorem dX3_laysWalks_177 : decode cX3_laysWalks 177 = .ok (.return_, 1) := dk_177 (dk_at dksX3_laysWalks_7 12 rfl rfl)
abbrev cX3_hoursOf : ByteArray := prog_21_method_120_code
def yX3_hoursOf : MethodName := ⟨RX3, "hoursOf", "(I)I"⟩
def dkwX3_hoursOf_3 : List UInt8 := [61, 132, 3, 1, 167, 255, 196, 28, 172]
abbrev dktX3_hoursOf_3 : List UInt8 := dkwX3_hoursOf_3 ++ []
def dkwX3_hoursOf_2 : List UInt8 := [182, 1, 214, 96, 167, 0, 6, 19, 1, 210, 54, 4, 21, 4, 28, 162, 0, 8, 21, 4, 167, 0, 4, 28]
abbrev dktX3_hoursOf_2 : List UInt8 := dkwX3_hoursOf_2 ++ dktX3_hoursOf_3
def dkwX3_hoursOf_1 : List UInt8 := [27, 29, 184, 1, 112, 153, 0, 24, 42, 180, 0, 163, 16, 6, 27, 104, 29, 96, 46, 42, 29, 3]
abbrev dktX3_hoursOf_1 : List UInt8 := dkwX3_hoursOf_1 ++ dktX3_hoursOf_2
def dkwX3_hoursOf_0 : List UInt8 := [27, 154, 0, 7, 3, 167, 0, 6, 19, 1, 210, 61, 3, 62, 29, 42, 180, 0, 9, 6, 46, 162, 0, 56]
abbrev dktX3_hoursOf_0 : List UInt8 := dkwX3_hoursOf_0 ++ dktX3_hoursOf_1
theorem dksX3_hoursOf_0 : cX3_hoursOf.data.toList.drop 0 = dktX3_hoursOf_0 := by decide +kernel
theorem dksX3_hoursOf_1 : cX3_hoursOf.data.toList.drop 24 = dktX3_hoursOf_1 := dk_seg dksX3_hoursOf_0 24 rfl rfl
theorem dksX3_hoursOf_2 : cX3_hoursOf.data.toList.drop 46 = dktX3_hoursOf_2 := dk_seg dksX3_hoursOf_1 22 rfl rfl
theorem dksX3_hoursOf_3 : cX3_hoursOf.data.toList.drop 70 = dktX3_hoursOf_3 := dk_seg dksX3_hoursOf_2 24 rfl rfl
theorem dX3_hoursOf_0 : decode cX3_hoursOf 0 = .ok (.iload_n 1, 1) := dk_27 (dk_at dksX3_hoursOf_0 0 rfl rfl)
theorem dX3_hoursOf_1 : decode cX3_hoursOf 1 = .ok (.ifCond .ne 7, 3) := dk_154 0 7 (dk_at dksX3_hoursOf_0 1 rfl rfl)
theorem dX3_hoursOf_4 : decode cX3_hoursOf 4 = .ok (.iconst 0, 1) := dk_3 (dk_at dksX3_hoursOf_0 4 rfl rfl)
theorem dX3_hoursOf_5 : decode cX3_hoursOf 5 = .ok (.goto 6, 3) := dk_167 0 6 (dk_at dksX3_hoursOf_0 5 rfl rfl)
theorem dX3_hoursOf_8 : decode cX3_hoursOf 8 = .ok (.ldc_w 466, 3) := dk_19 1 210 (dk_at dksX3_hoursOf_0 8 rfl rfl)
theorem dX3_hoursOf_11 : decode cX3_hoursOf 11 = .ok (.istore_n 2, 1) := dk_61 (dk_at dksX3_hoursOf_0 11 rfl rfl)
theorem dX3_hoursOf_12 : decode cX3_hoursOf 12 = .ok (.iconst 0, 1) := dk_3 (dk_at dksX3_hoursOf_0 12 rfl rfl)
theorem dX3_hoursOf_13 : decode cX3_hoursOf 13 = .ok (.istore_n 3, 1) := dk_62 (dk_at dksX3_hoursOf_0 13 rfl rfl)
theorem dX3_hoursOf_14 : decode cX3_hoursOf 14 = .ok (.iload_n 3, 1) := dk_29 (dk_at dksX3_hoursOf_0 14 rfl rfl)
theorem dX3_hoursOf_15 : decode cX3_hoursOf 15 = .ok (.aload_n 0, 1) := dk_42 (dk_at dksX3_hoursOf_0 15 rfl rfl)
theorem dX3_hoursOf_16 : decode cX3_hoursOf 16 = .ok (.getfield 9, 3) := dk_180 0 9 (dk_at dksX3_hoursOf_0 16 rfl rfl)
theorem dX3_hoursOf_19 : decode cX3_hoursOf 19 = .ok (.iconst 3, 1) := dk_6 (dk_at dksX3_hoursOf_0 19 rfl rfl)
theorem dX3_hoursOf_20 : decode cX3_hoursOf 20 = .ok (.iaload, 1) := dk_46 (dk_at dksX3_hoursOf_0 20 rfl rfl)
theorem dX3_hoursOf_21 : decode cX3_hoursOf 21 = .ok (.if_icmp .ge 56, 3) := dk_162 0 56 (dk_at dksX3_hoursOf_0 21 rfl rfl)
theorem dX3_hoursOf_24 : decode cX3_hoursOf 24 = .ok (.iload_n 1, 1) := dk_27 (dk_at dksX3_hoursOf_1 0 rfl rfl)
theorem dX3_hoursOf_25 : decode cX3_hoursOf 25 = .ok (.iload_n 3, 1) := dk_29 (dk_at dksX3_hoursOf_1 1 rfl rfl)
theorem dX3_hoursOf_26 : decode cX3_hoursOf 26 = .ok (.invokestatic 368, 3) := dk_184 1 112 (dk_at dksX3_hoursOf_1 2 rfl rfl)
theorem dX3_hoursOf_29 : decode cX3_hoursOf 29 = .ok (.ifCond .eq 24, 3) := dk_153 0 24 (dk_at dksX3_hoursOf_1 5 rfl rfl)
theorem dX3_hoursOf_32 : decode cX3_hoursOf 32 = .ok (.aload_n 0, 1) := dk_42 (dk_at dksX3_hoursOf_1 8 rfl rfl)
theorem dX3_hoursOf_33 : decode cX3_hoursOf 33 = .ok (.getfield 163, 3) := dk_180 0 163 (dk_at dksX3_hoursOf_1 9 rfl rfl)
theorem dX3_hoursOf_36 : decode cX3_hoursOf 36 = .ok (.bipush 6, 2) := dk_16 6 (dk_at dksX3_hoursOf_1 12 rfl rfl)
theorem dX3_hoursOf_38 : decode cX3_hoursOf 38 = .ok (.iload_n 1, 1) := dk_27 (dk_at dksX3_hoursOf_1 14 rfl rfl)
theorem dX3_hoursOf_39 : decode cX3_hoursOf 39 = .ok (.imul, 1) := dk_104 (dk_at dksX3_hoursOf_1 15 rfl rfl)
theorem dX3_hoursOf_40 : decode cX3_hoursOf 40 = .ok (.iload_n 3, 1) := dk_29 (dk_at dksX3_hoursOf_1 16 rfl rfl)
theorem dX3_hoursOf_41 : decode cX3_hoursOf 41 = .ok (.iadd, 1) := dk_96 (dk_at dksX3_hoursOf_1 17 rfl rfl)
theorem dX3_hoursOf_42 : decode cX3_hoursOf 42 = .ok (.iaload, 1) := dk_46 (dk_at dksX3_hoursOf_1 18 rfl rfl)
theorem dX3_hoursOf_43 : decode cX3_hoursOf 43 = .ok (.aload_n 0, 1) := dk_42 (dk_at dksX3_hoursOf_1 19 rfl rfl)
theorem dX3_hoursOf_44 : decode cX3_hoursOf 44 = .ok (.iload_n 3, 1) := dk_29 (dk_at dksX3_hoursOf_1 20 rfl rfl)
theorem dX3_hoursOf_45 : decode cX3_hoursOf 45 = .ok (.iconst 0, 1) := dk_3 (dk_at dksX3_hoursOf_1 21 rfl rfl)
theorem dX3_hoursOf_46 : decode cX3_hoursOf 46 = .ok (.invokevirtual 470, 3) := dk_182 1 214 (dk_at dksX3_hoursOf_2 0 rfl rfl)
theorem dX3_hoursOf_49 : decode cX3_hoursOf 49 = .ok (.iadd, 1) := dk_96 (dk_at dksX3_hoursOf_2 3 rfl rfl)
theorem dX3_hoursOf_50 : decode cX3_hoursOf 50 = .ok (.goto 6, 3) := dk_167 0 6 (dk_at dksX3_hoursOf_2 4 rfl rfl)
theorem dX3_hoursOf_53 : decode cX3_hoursOf 53 = .ok (.ldc_w 466, 3) := dk_19 1 210 (dk_at dksX3_hoursOf_2 7 rfl rfl)
theorem dX3_hoursOf_56 : decode cX3_hoursOf 56 = .ok (.istore 4, 2) := dk_54 4 (dk_at dksX3_hoursOf_2 10 rfl rfl)
theorem dX3_hoursOf_58 : decode cX3_hoursOf 58 = .ok (.iload 4, 2) := dk_21 4 (dk_at dksX3_hoursOf_2 12 rfl rfl)
theorem dX3_hoursOf_60 : decode cX3_hoursOf 60 = .ok (.iload_n 2, 1) := dk_28 (dk_at dksX3_hoursOf_2 14 rfl rfl)
theorem dX3_hoursOf_61 : decode cX3_hoursOf 61 = .ok (.if_icmp .ge 8, 3) := dk_162 0 8 (dk_at dksX3_hoursOf_2 15 rfl rfl)
theorem dX3_hoursOf_64 : decode cX3_hoursOf 64 = .ok (.iload 4, 2) := dk_21 4 (dk_at dksX3_hoursOf_2 18 rfl rfl)
theorem dX3_hoursOf_66 : decode cX3_hoursOf 66 = .ok (.goto 4, 3) := dk_167 0 4 (dk_at dksX3_hoursOf_2 20 rfl rfl)
theorem dX3_hoursOf_69 : decode cX3_hoursOf 69 = .ok (.iload_n 2, 1) := dk_28 (dk_at dksX3_hoursOf_2 23 rfl rfl)
theorem dX3_hoursOf_70 : decode cX3_hoursOf 70 = .ok (.istore_n 2, 1) := dk_61 (dk_at dksX3_hoursOf_3 0 rfl rfl)
theorem dX3_hoursOf_71 : decode cX3_hoursOf 71 = .ok (.iinc 3 1, 3) := dk_132 3 1 (dk_at dksX3_hoursOf_3 1 rfl rfl)
theorem dX3_hoursOf_74 : decode cX3_hoursOf 74 = .ok (.goto (-60), 3) := dk_167 255 196 (dk_at dksX3_hoursOf_3 4 rfl rfl)
theorem dX3_hoursOf_77 : decode cX3_hoursOf 77 = .ok (.iload_n 2, 1) := dk_28 (dk_at dksX3_hoursOf_3 7 rfl rfl)
theorem dX3_hoursOf_78 : decode cX3_hoursOf 78 = .ok (.ireturn, 1) := dk_172 (dk_at dksX3_hoursOf_3 8 rfl rfl)
abbrev cX3_bought : ByteArray := prog_21_method_122_code
def yX3_bought : MethodName := ⟨RX3, "bought", "(II)I"⟩
def dkwX3_bought_10 : List UInt8 := [16, 254, 159, 0, 8, 28, 4, 160, 0, 7, 29, 167, 0, 5, 21, 4, 172]
abbrev dktX3_bought_10 : List UInt8 := dkwX3_bought_10 ++ []
def dkwX3_bought_9 : List UInt8 := [21, 4, 54, 4, 21, 7, 153, 0, 8, 21, 5, 167, 0, 4, 29, 62, 132, 5, 1, 167, 255, 64, 29]
abbrev dktX3_bought_9 : List UInt8 := dkwX3_bought_9 ++ dktX3_bought_10
def dkwX3_bought_8 : List UInt8 := [167, 255, 188, 42, 27, 182, 2, 53, 54, 7, 42, 182, 2, 56, 21, 7, 153, 0, 8, 21, 6, 167, 0, 5]
abbrev dktX3_bought_8 : List UInt8 := dkwX3_bought_8 ++ dktX3_bought_9
def dkwX3_bought_7 : List UInt8 := [180, 0, 52, 16, 8, 21, 7, 104, 21, 8, 96, 46, 126, 79, 132, 8, 1, 167, 255, 208, 132, 7, 1]
abbrev dktX3_bought_7 : List UInt8 := dkwX3_bought_7 ++ dktX3_bought_8
def dkwX3_bought_6 : List UInt8 := [21, 5, 21, 7, 184, 1, 112, 153, 0, 37, 42, 180, 0, 52, 16, 8, 27, 104, 21, 8, 96, 92, 46, 42]
abbrev dktX3_bought_6 : List UInt8 := dkwX3_bought_6 ++ dktX3_bought_7
def dkwX3_bought_5 : List UInt8 := [54, 7, 21, 7, 42, 180, 0, 9, 5, 46, 162, 0, 63, 3, 54, 8, 21, 8, 16, 8, 162, 0, 47]
abbrev dktX3_bought_5 : List UInt8 := dkwX3_bought_5 ++ dktX3_bought_6
def dkwX3_bought_4 : List UInt8 := [132, 7, 1, 167, 255, 216, 21, 5, 27, 184, 1, 112, 154, 0, 121, 21, 6, 21, 4, 162, 0, 114, 3]
abbrev dktX3_bought_4 : List UInt8 := dkwX3_bought_4 ++ dktX3_bought_5
def dkwX3_bought_3 : List UInt8 := [21, 7, 184, 1, 112, 153, 0, 13, 42, 180, 0, 19, 21, 7, 46, 167, 0, 4, 3, 96, 54, 6]
abbrev dktX3_bought_3 : List UInt8 := dkwX3_bought_3 ++ dktX3_bought_4
def dkwX3_bought_2 : List UInt8 := [162, 0, 185, 3, 54, 6, 3, 54, 7, 21, 7, 42, 180, 0, 9, 5, 46, 162, 0, 35, 21, 6, 21, 5]
abbrev dktX3_bought_2 : List UInt8 := dkwX3_bought_2 ++ dktX3_bought_3
def dkwX3_bought_1 : List UInt8 := [19, 1, 210, 54, 4, 42, 182, 2, 50, 3, 54, 5, 21, 5, 4, 42, 180, 0, 9, 5, 46, 120]
abbrev dktX3_bought_1 : List UInt8 := dkwX3_bought_1 ++ dktX3_bought_2
def dkwX3_bought_0 : List UInt8 := [42, 27, 182, 1, 194, 153, 0, 13, 28, 133, 9, 10, 184, 0, 179, 154, 0, 5, 2, 172, 16, 254, 62]
abbrev dktX3_bought_0 : List UInt8 := dkwX3_bought_0 ++ dktX3_bought_1
theorem dksX3_bought_0 : cX3_bought.data.toList.drop 0 = dktX3_bought_0 := by decide +kernel
theorem dksX3_bought_1 : cX3_bought.data.toList.drop 23 = dktX3_bought_1 := dk_seg dksX3_bought_0 23 rfl rfl
theorem dksX3_bought_2 : cX3_bought.data.toList.drop 45 = dktX3_bought_2 := dk_seg dksX3_bought_1 22 rfl rfl
theorem dksX3_bought_3 : cX3_bought.data.toList.drop 69 = dktX3_bought_3 := dk_seg dksX3_bought_2 24 rfl rfl
theorem dksX3_bought_4 : cX3_bought.data.toList.drop 91 = dktX3_bought_4 := dk_seg dksX3_bought_3 22 rfl rfl
theorem dksX3_bought_5 : cX3_bought.data.toList.drop 114 = dktX3_bought_5 := dk_seg dksX3_bought_4 23 rfl rfl
theorem dksX3_bought_6 : cX3_bought.data.toList.drop 137 = dktX3_bought_6 := dk_seg dksX3_bought_5 23 rfl rfl
theorem dksX3_bought_7 : cX3_bought.data.toList.drop 161 = dktX3_bought_7 := dk_seg dksX3_bought_6 24 rfl rfl
theorem dksX3_bought_8 : cX3_bought.data.toList.drop 184 = dktX3_bought_8 := dk_seg dksX3_bought_7 23 rfl rfl
theorem dksX3_bought_9 : cX3_bought.data.toList.drop 208 = dktX3_bought_9 := dk_seg dksX3_bought_8 24 rfl rfl
theorem dksX3_bought_10 : cX3_bought.data.toList.drop 231 = dktX3_bought_10 := dk_seg dksX3_bought_9 23 rfl rfl
theorem dX3_bought_0 : decode cX3_bought 0 = .ok (.aload_n 0, 1) := dk_42 (dk_at dksX3_bought_0 0 rfl rfl)
theorem dX3_bought_1 : decode cX3_bought 1 = .ok (.iload_n 1, 1) := dk_27 (dk_at dksX3_bought_0 1 rfl rfl)
theorem dX3_bought_2 : decode cX3_bought 2 = .ok (.invokevirtual 450, 3) := dk_182 1 194 (dk_at dksX3_bought_0 2 rfl rfl)
theorem dX3_bought_5 : decode cX3_bought 5 = .ok (.ifCond .eq 13, 3) := dk_153 0 13 (dk_at dksX3_bought_0 5 rfl rfl)
theorem dX3_bought_8 : decode cX3_bought 8 = .ok (.iload_n 2, 1) := dk_28 (dk_at dksX3_bought_0 8 rfl rfl)
theorem dX3_bought_9 : decode cX3_bought 9 = .ok (.i2l, 1) := dk_133 (dk_at dksX3_bought_0 9 rfl rfl)
theorem dX3_bought_10 : decode cX3_bought 10 = .ok (.lconst 0, 1) := dk_9 (dk_at dksX3_bought_0 10 rfl rfl)
theorem dX3_bought_11 : decode cX3_bought 11 = .ok (.lconst 1, 1) := dk_10 (dk_at dksX3_bought_0 11 rfl rfl)
theorem dX3_bought_12 : decode cX3_bought 12 = .ok (.invokestatic 179, 3) := dk_184 0 179 (dk_at dksX3_bought_0 12 rfl rfl)
theorem dX3_bought_15 : decode cX3_bought 15 = .ok (.ifCond .ne 5, 3) := dk_154 0 5 (dk_at dksX3_bought_0 15 rfl rfl)
theorem dX3_bought_18 : decode cX3_bought 18 = .ok (.iconst (-1), 1) := dk_2 (dk_at dksX3_bought_0 18 rfl rfl)
theorem dX3_bought_19 : decode cX3_bought 19 = .ok (.ireturn, 1) := dk_172 (dk_at dksX3_bought_0 19 rfl rfl)
theorem dX3_bought_20 : decode cX3_bought 20 = .ok (.bipush (-2), 2) := dk_16 254 (dk_at dksX3_bought_0 20 rfl rfl)
theorem dX3_bought_22 : decode cX3_bought 22 = .ok (.istore_n 3, 1) := dk_62 (dk_at dksX3_bought_0 22 rfl rfl)
theorem dX3_bought_23 : decode cX3_bought 23 = .ok (.ldc_w 466, 3) := dk_19 1 210 (dk_at dksX3_bought_1 0 rfl rfl)
theorem dX3_bought_26 : decode cX3_bought 26 = .ok (.istore 4, 2) := dk_54 4 (dk_at dksX3_bought_1 3 rfl rfl)
theorem dX3_bought_28 : decode cX3_bought 28 = .ok (.aload_n 0, 1) := dk_42 (dk_at dksX3_bought_1 5 rfl rfl)
theorem dX3_bought_29 : decode cX3_bought 29 = .ok (.invokevirtual 562, 3) := dk_182 2 50 (dk_at dksX3_bought_1 6 rfl rfl)
theorem dX3_bought_32 : decode cX3_bought 32 = .ok (.iconst 0, 1) := dk_3 (dk_at dksX3_bought_1 9 rfl rfl)
theorem dX3_bought_33 : decode cX3_bought 33 = .ok (.istore 5, 2) := dk_54 5 (dk_at dksX3_bought_1 10 rfl rfl)
theorem dX3_bought_35 : decode cX3_bought 35 = .ok (.iload 5, 2) := dk_21 5 (dk_at dksX3_bought_1 12 rfl rfl)
theorem dX3_bought_37 : decode cX3_bought 37 = .ok (.iconst 1, 1) := dk_4 (dk_at dksX3_bought_1 14 rfl rfl)
theorem dX3_bought_38 : decode cX3_bought 38 = .ok (.aload_n 0, 1) := dk_42 (dk_at dksX3_bought_1 15 rfl rfl)
theorem dX3_bought_39 : decode cX3_bought 39 = .ok (.getfield 9, 3) := dk_180 0 9 (dk_at dksX3_bought_1 16 rfl rfl)
theorem dX3_bought_42 : decode cX3_bought 42 = .ok (.iconst 2, 1) := dk_5 (dk_at dksX3_bought_1 19 rfl rfl)
theorem dX3_bought_43 : decode cX3_bought 43 = .ok (.iaload, 1) := dk_46 (dk_at dksX3_bought_1 20 rfl rfl)
theorem dX3_bought_44 : decode cX3_bought 44 = .ok (.ishl, 1) := dk_120 (dk_at dksX3_bought_1 21 rfl rfl)
theorem dX3_bought_45 : decode cX3_bought 45 = .ok (.if_icmp .ge 185, 3) := dk_162 0 185 (dk_at dksX3_bought_2 0 rfl rfl)
theorem dX3_bought_48 : decode cX3_bought 48 = .ok (.iconst 0, 1) := dk_3 (dk_at dksX3_bought_2 3 rfl rfl)
theorem dX3_bought_49 : decode cX3_bought 49 = .ok (.istore 6, 2) := dk_54 6 (dk_at dksX3_bought_2 4 rfl rfl)
theorem dX3_bought_51 : decode cX3_bought 51 = .ok (.iconst 0, 1) := dk_3 (dk_at dksX3_bought_2 6 rfl rfl)
theorem dX3_bought_52 : decode cX3_bought 52 = .ok (.istore 7, 2) := dk_54 7 (dk_at dksX3_bought_2 7 rfl rfl)
theorem dX3_bought_54 : decode cX3_bought 54 = .ok (.iload 7, 2) := dk_21 7 (dk_at dksX3_bought_2 9 rfl rfl)
theorem dX3_bought_56 : decode cX3_bought 56 = .ok (.aload_n 0, 1) := dk_42 (dk_at dksX3_bought_2 11 rfl rfl)
theorem dX3_bought_57 : decode cX3_bought 57 = .ok (.getfield 9, 3) := dk_180 0 9 (dk_at dksX3_bought_2 12 rfl rfl)
theorem dX3_bought_60 : decode cX3_bought 60 = .ok (.iconst 2, 1) := dk_5 (dk_at dksX3_bought_2 15 rfl rfl)
theorem dX3_bought_61 : decode cX3_bought 61 = .ok (.iaload, 1) := dk_46 (dk_at dksX3_bought_2 16 rfl rfl)
theorem dX3_bought_62 : decode cX3_bought 62 = .ok (.if_icmp .ge 35, 3) := dk_162 0 35 (dk_at dksX3_bought_2 17 rfl rfl)
theorem dX3_bought_65 : decode cX3_bought 65 = .ok (.iload 6, 2) := dk_21 6 (dk_at dksX3_bought_2 20 rfl rfl)
theorem dX3_bought_67 : decode cX3_bought 67 = .ok (.iload 5, 2) := dk_21 5 (dk_at dksX3_bought_2 22 rfl rfl)
theorem dX3_bought_69 : decode cX3_bought 69 = .ok (.iload 7, 2) := dk_21 7 (dk_at dksX3_bought_3 0 rfl rfl)
theorem dX3_bought_71 : decode cX3_bought 71 = .ok (.invokestatic 368, 3) := dk_184 1 112 (dk_at dksX3_bought_3 2 rfl rfl)
theorem dX3_bought_74 : decode cX3_bought 74 = .ok (.ifCond .eq 13, 3) := dk_153 0 13 (dk_at dksX3_bought_3 5 rfl rfl)
theorem dX3_bought_77 : decode cX3_bought 77 = .ok (.aload_n 0, 1) := dk_42 (dk_at dksX3_bought_3 8 rfl rfl)
theorem dX3_bought_78 : decode cX3_bought 78 = .ok (.getfield 19, 3) := dk_180 0 19 (dk_at dksX3_bought_3 9 rfl rfl)
theorem dX3_bought_81 : decode cX3_bought 81 = .ok (.iload 7, 2) := dk_21 7 (dk_at dksX3_bought_3 12 rfl rfl)
theorem dX3_bought_83 : decode cX3_bought 83 = .ok (.iaload, 1) := dk_46 (dk_at dksX3_bought_3 14 rfl rfl)
theorem dX3_bought_84 : decode cX3_bought 84 = .ok (.goto 4, 3) := dk_167 0 4 (dk_at dksX3_bought_3 15 rfl rfl)
theorem dX3_bought_87 : decode cX3_bought 87 = .ok (.iconst 0, 1) := dk_3 (dk_at dksX3_bought_3 18 rfl rfl)
theorem dX3_bought_88 : decode cX3_bought 88 = .ok (.iadd, 1) := dk_96 (dk_at dksX3_bought_3 19 rfl rfl)
theorem dX3_bought_89 : decode cX3_bought 89 = .ok (.istore 6, 2) := dk_54 6 (dk_at dksX3_bought_3 20 rfl rfl)
theorem dX3_bought_91 : decode cX3_bought 91 = .ok (.iinc 7 1, 3) := dk_132 7 1 (dk_at dksX3_bought_4 0 rfl rfl)
theorem dX3_bought_94 : decode cX3_bought 94 = .ok (.goto (-40), 3) := dk_167 255 216 (dk_at dksX3_bought_4 3 rfl rfl)
theorem dX3_bought_97 : decode cX3_bought 97 = .ok (.iload 5, 2) := dk_21 5 (dk_at dksX3_bought_4 6 rfl rfl)
theorem dX3_bought_99 : decode cX3_bought 99 = .ok (.iload_n 1, 1) := dk_27 (dk_at dksX3_bought_4 8 rfl rfl)
theorem dX3_bought_100 : decode cX3_bought 100 = .ok (.invokestatic 368, 3) := dk_184 1 112 (dk_at dksX3_bought_4 9 rfl rfl)
theorem dX3_bought_103 : decode cX3_bought 103 = .ok (.ifCond .ne 121, 3) := dk_154 0 121 (dk_at dksX3_bought_4 12 rfl rfl)
theorem dX3_bought_106 : decode cX3_bought 106 = .ok (.iload 6, 2) := dk_21 6 (dk_at dksX3_bought_4 15 rfl rfl)
theorem dX3_bought_108 : decode cX3_bought 108 = .ok (.iload 4, 2) := dk_21 4 (dk_at dksX3_bought_4 17 rfl rfl)
theorem dX3_bought_110 : decode cX3_bought 110 = .ok (.if_icmp .ge 114, 3) := dk_162 0 114 (dk_at dksX3_bought_4 19 rfl rfl)
theorem dX3_bought_113 : decode cX3_bought 113 = .ok (.iconst 0, 1) := dk_3 (dk_at dksX3_bought_4 22 rfl rfl)
theorem dX3_bought_114 : decode cX3_bought 114 = .ok (.istore 7, 2) := dk_54 7 (dk_at dksX3_bought_5 0 rfl rfl)
theorem dX3_bought_116 : decode cX3_bought 116 = .ok (.iload 7, 2) := dk_21 7 (dk_at dksX3_bought_5 2 rfl rfl)
theorem dX3_bought_118 : decode cX3_bought 118 = .ok (.aload_n 0, 1) := dk_42 (dk_at dksX3_bought_5 4 rfl rfl)
theorem dX3_bought_119 : decode cX3_bought 119 = .ok (.getfield 9, 3) := dk_180 0 9 (dk_at dksX3_bought_5 5 rfl rfl)
theorem dX3_bought_122 : decode cX3_bought 122 = .ok (.iconst 2, 1) := dk_5 (dk_at dksX3_bought_5 8 rfl rfl)
theorem dX3_bought_123 : decode cX3_bought 123 = .ok (.iaload, 1) := dk_46 (dk_at dksX3_bought_5 9 rfl rfl)
theorem dX3_bought_124 : decode cX3_bought 124 = .ok (.if_icmp .ge 63, 3) := dk_162 0 63 (dk_at dksX3_bought_5 10 rfl rfl)
theorem dX3_bought_127 : decode cX3_bought 127 = .ok (.iconst 0, 1) := dk_3 (dk_at dksX3_bought_5 13 rfl rfl)
theorem dX3_bought_128 : decode cX3_bought 128 = .ok (.istore 8, 2) := dk_54 8 (dk_at dksX3_bought_5 14 rfl rfl)
theorem dX3_bought_130 : decode cX3_bought 130 = .ok (.iload 8, 2) := dk_21 8 (dk_at dksX3_bought_5 16 rfl rfl)
theorem dX3_bought_132 : decode cX3_bought 132 = .ok (.bipush 8, 2) := dk_16 8 (dk_at dksX3_bought_5 18 rfl rfl)
theorem dX3_bought_134 : decode cX3_bought 134 = .ok (.if_icmp .ge 47, 3) := dk_162 0 47 (dk_at dksX3_bought_5 20 rfl rfl)
theorem dX3_bought_137 : decode cX3_bought 137 = .ok (.iload 5, 2) := dk_21 5 (dk_at dksX3_bought_6 0 rfl rfl)
theorem dX3_bought_139 : decode cX3_bought 139 = .ok (.iload 7, 2) := dk_21 7 (dk_at dksX3_bought_6 2 rfl rfl)
theorem dX3_bought_141 : decode cX3_bought 141 = .ok (.invokestatic 368, 3) := dk_184 1 112 (dk_at dksX3_bought_6 4 rfl rfl)
theorem dX3_bought_144 : decode cX3_bought 144 = .ok (.ifCond .eq 37, 3) := dk_153 0 37 (dk_at dksX3_bought_6 7 rfl rfl)
theorem dX3_bought_147 : decode cX3_bought 147 = .ok (.aload_n 0, 1) := dk_42 (dk_at dksX3_bought_6 10 rfl rfl)
theorem dX3_bought_148 : decode cX3_bought 148 = .ok (.getfield 52, 3) := dk_180 0 52 (dk_at dksX3_bought_6 11 rfl rfl)
theorem dX3_bought_151 : decode cX3_bought 151 = .ok (.bipush 8, 2) := dk_16 8 (dk_at dksX3_bought_6 14 rfl rfl)
theorem dX3_bought_153 : decode cX3_bought 153 = .ok (.iload_n 1, 1) := dk_27 (dk_at dksX3_bought_6 16 rfl rfl)
theorem dX3_bought_154 : decode cX3_bought 154 = .ok (.imul, 1) := dk_104 (dk_at dksX3_bought_6 17 rfl rfl)
theorem dX3_bought_155 : decode cX3_bought 155 = .ok (.iload 8, 2) := dk_21 8 (dk_at dksX3_bought_6 18 rfl rfl)
theorem dX3_bought_157 : decode cX3_bought 157 = .ok (.iadd, 1) := dk_96 (dk_at dksX3_bought_6 20 rfl rfl)
theorem dX3_bought_158 : decode cX3_bought 158 = .ok (.dup2, 1) := dk_92 (dk_at dksX3_bought_6 21 rfl rfl)
theorem dX3_bought_159 : decode cX3_bought 159 = .ok (.iaload, 1) := dk_46 (dk_at dksX3_bought_6 22 rfl rfl)
theorem dX3_bought_160 : decode cX3_bought 160 = .ok (.aload_n 0, 1) := dk_42 (dk_at dksX3_bought_6 23 rfl rfl)
theorem dX3_bought_161 : decode cX3_bought 161 = .ok (.getfield 52, 3) := dk_180 0 52 (dk_at dksX3_bought_7 0 rfl rfl)
theorem dX3_bought_164 : decode cX3_bought 164 = .ok (.bipush 8, 2) := dk_16 8 (dk_at dksX3_bought_7 3 rfl rfl)
theorem dX3_bought_166 : decode cX3_bought 166 = .ok (.iload 7, 2) := dk_21 7 (dk_at dksX3_bought_7 5 rfl rfl)
theorem dX3_bought_168 : decode cX3_bought 168 = .ok (.imul, 1) := dk_104 (dk_at dksX3_bought_7 7 rfl rfl)
theorem dX3_bought_169 : decode cX3_bought 169 = .ok (.iload 8, 2) := dk_21 8 (dk_at dksX3_bought_7 8 rfl rfl)
theorem dX3_bought_171 : decode cX3_bought 171 = .ok (.iadd, 1) := dk_96 (dk_at dksX3_bought_7 10 rfl rfl)
theorem dX3_bought_172 : decode cX3_bought 172 = .ok (.iaload, 1) := dk_46 (dk_at dksX3_bought_7 11 rfl rfl)
theorem dX3_bought_173 : decode cX3_bought 173 = .ok (.iand, 1) := dk_126 (dk_at dksX3_bought_7 12 rfl rfl)
theorem dX3_bought_174 : decode cX3_bought 174 = .ok (.iastore, 1) := dk_79 (dk_at dksX3_bought_7 13 rfl rfl)
theorem dX3_bought_175 : decode cX3_bought 175 = .ok (.iinc 8 1, 3) := dk_132 8 1 (dk_at dksX3_bought_7 14 rfl rfl)
theorem dX3_bought_178 : decode cX3_bought 178 = .ok (.goto (-48), 3) := dk_167 255 208 (dk_at dksX3_bought_7 17 rfl rfl)
theorem dX3_bought_181 : decode cX3_bought 181 = .ok (.iinc 7 1, 3) := dk_132 7 1 (dk_at dksX3_bought_7 20 rfl rfl)
theorem dX3_bought_184 : decode cX3_bought 184 = .ok (.goto (-68), 3) := dk_167 255 188 (dk_at dksX3_bought_8 0 rfl rfl)
theorem dX3_bought_187 : decode cX3_bought 187 = .ok (.aload_n 0, 1) := dk_42 (dk_at dksX3_bought_8 3 rfl rfl)
theorem dX3_bought_188 : decode cX3_bought 188 = .ok (.iload_n 1, 1) := dk_27 (dk_at dksX3_bought_8 4 rfl rfl)
theorem dX3_bought_189 : decode cX3_bought 189 = .ok (.invokevirtual 565, 3) := dk_182 2 53 (dk_at dksX3_bought_8 5 rfl rfl)
theorem dX3_bought_192 : decode cX3_bought 192 = .ok (.istore 7, 2) := dk_54 7 (dk_at dksX3_bought_8 8 rfl rfl)
theorem dX3_bought_194 : decode cX3_bought 194 = .ok (.aload_n 0, 1) := dk_42 (dk_at dksX3_bought_8 10 rfl rfl)
theorem dX3_bought_195 : decode cX3_bought 195 = .ok (.invokevirtual 568, 3) := dk_182 2 56 (dk_at dksX3_bought_8 11 rfl rfl)
theorem dX3_bought_198 : decode cX3_bought 198 = .ok (.iload 7, 2) := dk_21 7 (dk_at dksX3_bought_8 14 rfl rfl)
theorem dX3_bought_200 : decode cX3_bought 200 = .ok (.ifCond .eq 8, 3) := dk_153 0 8 (dk_at dksX3_bought_8 16 rfl rfl)
theorem dX3_bought_203 : decode cX3_bought 203 = .ok (.iload 6, 2) := dk_21 6 (dk_at dksX3_bought_8 19 rfl rfl)
theorem dX3_bought_205 : decode cX3_bought 205 = .ok (.goto 5, 3) := dk_167 0 5 (dk_at dksX3_bought_8 21 rfl rfl)
theorem dX3_bought_208 : decode cX3_bought 208 = .ok (.iload 4, 2) := dk_21 4 (dk_at dksX3_bought_9 0 rfl rfl)
theorem dX3_bought_210 : decode cX3_bought 210 = .ok (.istore 4, 2) := dk_54 4 (dk_at dksX3_bought_9 2 rfl rfl)
theorem dX3_bought_212 : decode cX3_bought 212 = .ok (.iload 7, 2) := dk_21 7 (dk_at dksX3_bought_9 4 rfl rfl)
theorem dX3_bought_214 : decode cX3_bought 214 = .ok (.ifCond .eq 8, 3) := dk_153 0 8 (dk_at dksX3_bought_9 6 rfl rfl)
theorem dX3_bought_217 : decode cX3_bought 217 = .ok (.iload 5, 2) := dk_21 5 (dk_at dksX3_bought_9 9 rfl rfl)
theorem dX3_bought_219 : decode cX3_bought 219 = .ok (.goto 4, 3) := dk_167 0 4 (dk_at dksX3_bought_9 11 rfl rfl)
theorem dX3_bought_222 : decode cX3_bought 222 = .ok (.iload_n 3, 1) := dk_29 (dk_at dksX3_bought_9 14 rfl rfl)
theorem dX3_bought_223 : decode cX3_bought 223 = .ok (.istore_n 3, 1) := dk_62 (dk_at dksX3_bought_9 15 rfl rfl)
theorem dX3_bought_224 : decode cX3_bought 224 = .ok (.iinc 5 1, 3) := dk_132 5 1 (dk_at dksX3_bought_9 16 rfl rfl)
theorem dX3_bought_227 : decode cX3_bought 227 = .ok (.goto (-192), 3) := dk_167 255 64 (dk_at dksX3_bought_9 19 rfl rfl)
theorem dX3_bought_230 : decode cX3_bought 230 = .ok (.iload_n 3, 1) := dk_29 (dk_at dksX3_bought_9 22 rfl rfl)
theorem dX3_bought_231 : decode cX3_bought 231 = .ok (.bipush (-2), 2) := dk_16 254 (dk_at dksX3_bought_10 0 rfl rfl)
theorem dX3_bought_233 : decode cX3_bought 233 = .ok (.if_icmp .eq 8, 3) := dk_159 0 8 (dk_at dksX3_bought_10 2 rfl rfl)
theorem dX3_bought_236 : decode cX3_bought 236 = .ok (.iload_n 2, 1) := dk_28 (dk_at dksX3_bought_10 5 rfl rfl)
theorem dX3_bought_237 : decode cX3_bought 237 = .ok (.iconst 1, 1) := dk_4 (dk_at dksX3_bought_10 6 rfl rfl)
theorem dX3_bought_238 : decode cX3_bought 238 = .ok (.if_icmp .ne 7, 3) := dk_160 0 7 (dk_at dksX3_bought_10 7 rfl rfl)
theorem dX3_bought_241 : decode cX3_bought 241 = .ok (.iload_n 3, 1) := dk_29 (dk_at dksX3_bought_10 10 rfl rfl)
theorem dX3_bought_242 : decode cX3_bought 242 = .ok (.goto 5, 3) := dk_167 0 5 (dk_at dksX3_bought_10 11 rfl rfl)
theorem dX3_bought_245 : decode cX3_bought 245 = .ok (.iload 4, 2) := dk_21 4 (dk_at dksX3_bought_10 14 rfl rfl)
theorem dX3_bought_247 : decode cX3_bought 247 = .ok (.ireturn, 1) := dk_172 (dk_at dksX3_bought_10 16 rfl rfl)
abbrev cX3_trial : ByteArray := prog_21_method_123_code
def yX3_trial : MethodName := ⟨RX3, "trial", "(IZ)I"⟩
def dkwX3_trial_3 : List UInt8 := [180, 0, 9, 16, 7, 92, 46, 4, 96, 79, 29, 4, 96, 172]
abbrev dktX3_trial_3 : List UInt8 := dkwX3_trial_3 ++ []
def dkwX3_trial_2 : List UInt8 := [180, 0, 46, 29, 27, 79, 42, 180, 0, 49, 29, 28, 153, 0, 7, 4, 167, 0, 4, 3, 79, 42]
abbrev dktX3_trial_2 : List UInt8 := dkwX3_trial_2 ++ dktX3_trial_3
def dkwX3_trial_1 : List UInt8 := [27, 182, 1, 217, 153, 0, 16, 42, 182, 0, 186, 153, 0, 9, 29, 16, 10, 160, 0, 6, 16, 254, 172, 42]
abbrev dktX3_trial_1 : List UInt8 := dkwX3_trial_1 ++ dktX3_trial_2
def dkwX3_trial_0 : List UInt8 := [27, 2, 160, 0, 13, 42, 180, 0, 9, 16, 7, 3, 79, 3, 172, 42, 180, 0, 9, 16, 7, 46, 62, 42]
abbrev dktX3_trial_0 : List UInt8 := dkwX3_trial_0 ++ dktX3_trial_1
theorem dksX3_trial_0 : cX3_trial.data.toList.drop 0 = dktX3_trial_0 := by decide +kernel
theorem dksX3_trial_1 : cX3_trial.data.toList.drop 24 = dktX3_trial_1 := dk_seg dksX3_trial_0 24 rfl rfl
theorem dksX3_trial_2 : cX3_trial.data.toList.drop 48 = dktX3_trial_2 := dk_seg dksX3_trial_1 24 rfl rfl
theorem dksX3_trial_3 : cX3_trial.data.toList.drop 70 = dktX3_trial_3 := dk_seg dksX3_trial_2 22 rfl rfl
theorem dX3_trial_0 : decode cX3_trial 0 = .ok (.iload_n 1, 1) := dk_27 (dk_at dksX3_trial_0 0 rfl rfl)
theorem dX3_trial_1 : decode cX3_trial 1 = .ok (.iconst (-1), 1) := dk_2 (dk_at dksX3_trial_0 1 rfl rfl)
theorem dX3_trial_2 : decode cX3_trial 2 = .ok (.if_icmp .ne 13, 3) := dk_160 0 13 (dk_at dksX3_trial_0 2 rfl rfl)
theorem dX3_trial_5 : decode cX3_trial 5 = .ok (.aload_n 0, 1) := dk_42 (dk_at dksX3_trial_0 5 rfl rfl)
theorem dX3_trial_6 : decode cX3_trial 6 = .ok (.getfield 9, 3) := dk_180 0 9 (dk_at dksX3_trial_0 6 rfl rfl)
theorem dX3_trial_9 : decode cX3_trial 9 = .ok (.bipush 7, 2) := dk_16 7 (dk_at dksX3_trial_0 9 rfl rfl)
theorem dX3_trial_11 : decode cX3_trial 11 = .ok (.iconst 0, 1) := dk_3 (dk_at dksX3_trial_0 11 rfl rfl)
theorem dX3_trial_12 : decode cX3_trial 12 = .ok (.iastore, 1) := dk_79 (dk_at dksX3_trial_0 12 rfl rfl)
theorem dX3_trial_13 : decode cX3_trial 13 = .ok (.iconst 0, 1) := dk_3 (dk_at dksX3_trial_0 13 rfl rfl)
theorem dX3_trial_14 : decode cX3_trial 14 = .ok (.ireturn, 1) := dk_172 (dk_at dksX3_trial_0 14 rfl rfl)
theorem dX3_trial_15 : decode cX3_trial 15 = .ok (.aload_n 0, 1) := dk_42 (dk_at dksX3_trial_0 15 rfl rfl)
theorem dX3_trial_16 : decode cX3_trial 16 = .ok (.getfield 9, 3) := dk_180 0 9 (dk_at dksX3_trial_0 16 rfl rfl)
theorem dX3_trial_19 : decode cX3_trial 19 = .ok (.bipush 7, 2) := dk_16 7 (dk_at dksX3_trial_0 19 rfl rfl)
theorem dX3_trial_21 : decode cX3_trial 21 = .ok (.iaload, 1) := dk_46 (dk_at dksX3_trial_0 21 rfl rfl)
theorem dX3_trial_22 : decode cX3_trial 22 = .ok (.istore_n 3, 1) := dk_62 (dk_at dksX3_trial_0 22 rfl rfl)
theorem dX3_trial_23 : decode cX3_trial 23 = .ok (.aload_n 0, 1) := dk_42 (dk_at dksX3_trial_0 23 rfl rfl)
theorem dX3_trial_24 : decode cX3_trial 24 = .ok (.iload_n 1, 1) := dk_27 (dk_at dksX3_trial_1 0 rfl rfl)
theorem dX3_trial_25 : decode cX3_trial 25 = .ok (.invokevirtual 473, 3) := dk_182 1 217 (dk_at dksX3_trial_1 1 rfl rfl)
theorem dX3_trial_28 : decode cX3_trial 28 = .ok (.ifCond .eq 16, 3) := dk_153 0 16 (dk_at dksX3_trial_1 4 rfl rfl)
theorem dX3_trial_31 : decode cX3_trial 31 = .ok (.aload_n 0, 1) := dk_42 (dk_at dksX3_trial_1 7 rfl rfl)
theorem dX3_trial_32 : decode cX3_trial 32 = .ok (.invokevirtual 186, 3) := dk_182 0 186 (dk_at dksX3_trial_1 8 rfl rfl)
theorem dX3_trial_35 : decode cX3_trial 35 = .ok (.ifCond .eq 9, 3) := dk_153 0 9 (dk_at dksX3_trial_1 11 rfl rfl)
theorem dX3_trial_38 : decode cX3_trial 38 = .ok (.iload_n 3, 1) := dk_29 (dk_at dksX3_trial_1 14 rfl rfl)
theorem dX3_trial_39 : decode cX3_trial 39 = .ok (.bipush 10, 2) := dk_16 10 (dk_at dksX3_trial_1 15 rfl rfl)
theorem dX3_trial_41 : decode cX3_trial 41 = .ok (.if_icmp .ne 6, 3) := dk_160 0 6 (dk_at dksX3_trial_1 17 rfl rfl)
theorem dX3_trial_44 : decode cX3_trial 44 = .ok (.bipush (-2), 2) := dk_16 254 (dk_at dksX3_trial_1 20 rfl rfl)
theorem dX3_trial_46 : decode cX3_trial 46 = .ok (.ireturn, 1) := dk_172 (dk_at dksX3_trial_1 22 rfl rfl)
theorem dX3_trial_47 : decode cX3_trial 47 = .ok (.aload_n 0, 1) := dk_42 (dk_at dksX3_trial_1 23 rfl rfl)
theorem dX3_trial_48 : decode cX3_trial 48 = .ok (.getfield 46, 3) := dk_180 0 46 (dk_at dksX3_trial_2 0 rfl rfl)
theorem dX3_trial_51 : decode cX3_trial 51 = .ok (.iload_n 3, 1) := dk_29 (dk_at dksX3_trial_2 3 rfl rfl)
theorem dX3_trial_52 : decode cX3_trial 52 = .ok (.iload_n 1, 1) := dk_27 (dk_at dksX3_trial_2 4 rfl rfl)
theorem dX3_trial_53 : decode cX3_trial 53 = .ok (.iastore, 1) := dk_79 (dk_at dksX3_trial_2 5 rfl rfl)
theorem dX3_trial_54 : decode cX3_trial 54 = .ok (.aload_n 0, 1) := dk_42 (dk_at dksX3_trial_2 6 rfl rfl)
theorem dX3_trial_55 : decode cX3_trial 55 = .ok (.getfield 49, 3) := dk_180 0 49 (dk_at dksX3_trial_2 7 rfl rfl)
theorem dX3_trial_58 : decode cX3_trial 58 = .ok (.iload_n 3, 1) := dk_29 (dk_at dksX3_trial_2 10 rfl rfl)
theorem dX3_trial_59 : decode cX3_trial 59 = .ok (.iload_n 2, 1) := dk_28 (dk_at dksX3_trial_2 11 rfl rfl)
theorem dX3_trial_60 : decode cX3_trial 60 = .ok (.ifCond .eq 7, 3) := dk_153 0 7 (dk_at dksX3_trial_2 12 rfl rfl)
theorem dX3_trial_63 : decode cX3_trial 63 = .ok (.iconst 1, 1) := dk_4 (dk_at dksX3_trial_2 15 rfl rfl)
theorem dX3_trial_64 : decode cX3_trial 64 = .ok (.goto 4, 3) := dk_167 0 4 (dk_at dksX3_trial_2 16 rfl rfl)
theorem dX3_trial_67 : decode cX3_trial 67 = .ok (.iconst 0, 1) := dk_3 (dk_at dksX3_trial_2 19 rfl rfl)
theorem dX3_trial_68 : decode cX3_trial 68 = .ok (.iastore, 1) := dk_79 (dk_at dksX3_trial_2 20 rfl rfl)
theorem dX3_trial_69 : decode cX3_trial 69 = .ok (.aload_n 0, 1) := dk_42 (dk_at dksX3_trial_2 21 rfl rfl)
theorem dX3_trial_70 : decode cX3_trial 70 = .ok (.getfield 9, 3) := dk_180 0 9 (dk_at dksX3_trial_3 0 rfl rfl)
theorem dX3_trial_73 : decode cX3_trial 73 = .ok (.bipush 7, 2) := dk_16 7 (dk_at dksX3_trial_3 3 rfl rfl)
theorem dX3_trial_75 : decode cX3_trial 75 = .ok (.dup2, 1) := dk_92 (dk_at dksX3_trial_3 5 rfl rfl)
theorem dX3_trial_76 : decode cX3_trial 76 = .ok (.iaload, 1) := dk_46 (dk_at dksX3_trial_3 6 rfl rfl)
theorem dX3_trial_77 : decode cX3_trial 77 = .ok (.iconst 1, 1) := dk_4 (dk_at dksX3_trial_3 7 rfl rfl)
theorem dX3_trial_78 : decode cX3_trial 78 = .ok (.iadd, 1) := dk_96 (dk_at dksX3_trial_3 8 rfl rfl)
theorem dX3_trial_79 : decode cX3_trial 79 = .ok (.iastore, 1) := dk_79 (dk_at dksX3_trial_3 9 rfl rfl)
theorem dX3_trial_80 : decode cX3_trial 80 = .ok (.iload_n 3, 1) := dk_29 (dk_at dksX3_trial_3 10 rfl rfl)
theorem dX3_trial_81 : decode cX3_trial 81 = .ok (.iconst 1, 1) := dk_4 (dk_at dksX3_trial_3 11 rfl rfl)
theorem dX3_trial_82 : decode cX3_trial 82 = .ok (.iadd, 1) := dk_96 (dk_at dksX3_trial_3 12 rfl rfl)
theorem dX3_trial_83 : decode cX3_trial 83 = .ok (.ireturn, 1) := dk_172 (dk_at dksX3_trial_3 13 rfl rfl)
abbrev cX3_sets : ByteArray := prog_21_method_126_code
def yX3_sets : MethodName := ⟨RX3, "sets", "(I)I"⟩
def dkwX3_sets_4 : List UInt8 := [21, 4, 167, 0, 9, 28, 21, 5, 2, 130, 126, 172]
abbrev dktX3_sets_4 : List UInt8 := dkwX3_sets_4 ++ []
def dkwX3_sets_3 : List UInt8 := [54, 5, 132, 6, 1, 167, 255, 221, 27, 153, 0, 7, 29, 154, 0, 5, 29, 172, 27, 4, 160, 0, 8]
abbrev dktX3_sets_3 : List UInt8 := dkwX3_sets_3 ++ dktX3_sets_4
def dkwX3_sets_2 : List UInt8 := [42, 21, 6, 182, 2, 90, 153, 0, 20, 132, 3, 1, 21, 4, 21, 6, 126, 54, 4, 21, 5, 21, 6, 128]
abbrev dktX3_sets_2 : List UInt8 := dkwX3_sets_2 ++ dktX3_sets_3
def dkwX3_sets_1 : List UInt8 := [182, 2, 87, 120, 4, 100, 61, 3, 62, 28, 54, 4, 3, 54, 5, 3, 54, 6, 21, 6, 28, 163, 0, 35]
abbrev dktX3_sets_1 : List UInt8 := dkwX3_sets_1 ++ dktX3_sets_2
def dkwX3_sets_0 : List UInt8 := [42, 182, 0, 186, 153, 0, 15, 27, 133, 9, 20, 2, 85, 184, 0, 179, 154, 0, 5, 2, 172, 4, 42]
abbrev dktX3_sets_0 : List UInt8 := dkwX3_sets_0 ++ dktX3_sets_1
theorem dksX3_sets_0 : cX3_sets.data.toList.drop 0 = dktX3_sets_0 := by decide +kernel
theorem dksX3_sets_1 : cX3_sets.data.toList.drop 23 = dktX3_sets_1 := dk_seg dksX3_sets_0 23 rfl rfl
theorem dksX3_sets_2 : cX3_sets.data.toList.drop 47 = dktX3_sets_2 := dk_seg dksX3_sets_1 24 rfl rfl
theorem dksX3_sets_3 : cX3_sets.data.toList.drop 71 = dktX3_sets_3 := dk_seg dksX3_sets_2 24 rfl rfl
theorem dksX3_sets_4 : cX3_sets.data.toList.drop 94 = dktX3_sets_4 := dk_seg dksX3_sets_3 23 rfl rfl
theorem dX3_sets_0 : decode cX3_sets 0 = .ok (.aload_n 0, 1) := dk_42 (dk_at dksX3_sets_0 0 rfl rfl)
theorem dX3_sets_1 : decode cX3_sets 1 = .ok (.invokevirtual 186, 3) := dk_182 0 186 (dk_at dksX3_sets_0 1 rfl rfl)
theorem dX3_sets_4 : decode cX3_sets 4 = .ok (.ifCond .eq 15, 3) := dk_153 0 15 (dk_at dksX3_sets_0 4 rfl rfl)
theorem dX3_sets_7 : decode cX3_sets 7 = .ok (.iload_n 1, 1) := dk_27 (dk_at dksX3_sets_0 7 rfl rfl)
theorem dX3_sets_8 : decode cX3_sets 8 = .ok (.i2l, 1) := dk_133 (dk_at dksX3_sets_0 8 rfl rfl)
theorem dX3_sets_9 : decode cX3_sets 9 = .ok (.lconst 0, 1) := dk_9 (dk_at dksX3_sets_0 9 rfl rfl)
theorem dX3_sets_10 : decode cX3_sets 10 = .ok (.ldc2_w 597, 3) := dk_20 2 85 (dk_at dksX3_sets_0 10 rfl rfl)
theorem dX3_sets_13 : decode cX3_sets 13 = .ok (.invokestatic 179, 3) := dk_184 0 179 (dk_at dksX3_sets_0 13 rfl rfl)
theorem dX3_sets_16 : decode cX3_sets 16 = .ok (.ifCond .ne 5, 3) := dk_154 0 5 (dk_at dksX3_sets_0 16 rfl rfl)
theorem dX3_sets_19 : decode cX3_sets 19 = .ok (.iconst (-1), 1) := dk_2 (dk_at dksX3_sets_0 19 rfl rfl)
theorem dX3_sets_20 : decode cX3_sets 20 = .ok (.ireturn, 1) := dk_172 (dk_at dksX3_sets_0 20 rfl rfl)
theorem dX3_sets_21 : decode cX3_sets 21 = .ok (.iconst 1, 1) := dk_4 (dk_at dksX3_sets_0 21 rfl rfl)
theorem dX3_sets_22 : decode cX3_sets 22 = .ok (.aload_n 0, 1) := dk_42 (dk_at dksX3_sets_0 22 rfl rfl)
theorem dX3_sets_23 : decode cX3_sets 23 = .ok (.invokevirtual 599, 3) := dk_182 2 87 (dk_at dksX3_sets_1 0 rfl rfl)
theorem dX3_sets_26 : decode cX3_sets 26 = .ok (.ishl, 1) := dk_120 (dk_at dksX3_sets_1 3 rfl rfl)
theorem dX3_sets_27 : decode cX3_sets 27 = .ok (.iconst 1, 1) := dk_4 (dk_at dksX3_sets_1 4 rfl rfl)
theorem dX3_sets_28 : decode cX3_sets 28 = .ok (.isub, 1) := dk_100 (dk_at dksX3_sets_1 5 rfl rfl)
theorem dX3_sets_29 : decode cX3_sets 29 = .ok (.istore_n 2, 1) := dk_61 (dk_at dksX3_sets_1 6 rfl rfl)
theorem dX3_sets_30 : decode cX3_sets 30 = .ok (.iconst 0, 1) := dk_3 (dk_at dksX3_sets_1 7 rfl rfl)
theorem dX3_sets_31 : decode cX3_sets 31 = .ok (.istore_n 3, 1) := dk_62 (dk_at dksX3_sets_1 8 rfl rfl)
theorem dX3_sets_32 : decode cX3_sets 32 = .ok (.iload_n 2, 1) := dk_28 (dk_at dksX3_sets_1 9 rfl rfl)
theorem dX3_sets_33 : decode cX3_sets 33 = .ok (.istore 4, 2) := dk_54 4 (dk_at dksX3_sets_1 10 rfl rfl)
theorem dX3_sets_35 : decode cX3_sets 35 = .ok (.iconst 0, 1) := dk_3 (dk_at dksX3_sets_1 12 rfl rfl)
theorem dX3_sets_36 : decode cX3_sets 36 = .ok (.istore 5, 2) := dk_54 5 (dk_at dksX3_sets_1 13 rfl rfl)
theorem dX3_sets_38 : decode cX3_sets 38 = .ok (.iconst 0, 1) := dk_3 (dk_at dksX3_sets_1 15 rfl rfl)
theorem dX3_sets_39 : decode cX3_sets 39 = .ok (.istore 6, 2) := dk_54 6 (dk_at dksX3_sets_1 16 rfl rfl)
theorem dX3_sets_41 : decode cX3_sets 41 = .ok (.iload 6, 2) := dk_21 6 (dk_at dksX3_sets_1 18 rfl rfl)
theorem dX3_sets_43 : decode cX3_sets 43 = .ok (.iload_n 2, 1) := dk_28 (dk_at dksX3_sets_1 20 rfl rfl)
theorem dX3_sets_44 : decode cX3_sets 44 = .ok (.if_icmp .gt 35, 3) := dk_163 0 35 (dk_at dksX3_sets_1 21 rfl rfl)
theorem dX3_sets_47 : decode cX3_sets 47 = .ok (.aload_n 0, 1) := dk_42 (dk_at dksX3_sets_2 0 rfl rfl)
theorem dX3_sets_48 : decode cX3_sets 48 = .ok (.iload 6, 2) := dk_21 6 (dk_at dksX3_sets_2 1 rfl rfl)
theorem dX3_sets_50 : decode cX3_sets 50 = .ok (.invokevirtual 602, 3) := dk_182 2 90 (dk_at dksX3_sets_2 3 rfl rfl)
theorem dX3_sets_53 : decode cX3_sets 53 = .ok (.ifCond .eq 20, 3) := dk_153 0 20 (dk_at dksX3_sets_2 6 rfl rfl)
theorem dX3_sets_56 : decode cX3_sets 56 = .ok (.iinc 3 1, 3) := dk_132 3 1 (dk_at dksX3_sets_2 9 rfl rfl)
theorem dX3_sets_59 : decode cX3_sets 59 = .ok (.iload 4, 2) := dk_21 4 (dk_at dksX3_sets_2 12 rfl rfl)
theorem dX3_sets_61 : decode cX3_sets 61 = .ok (.iload 6, 2) := dk_21 6 (dk_at dksX3_sets_2 14 rfl rfl)
theorem dX3_sets_63 : decode cX3_sets 63 = .ok (.iand, 1) := dk_126 (dk_at dksX3_sets_2 16 rfl rfl)
theorem dX3_sets_64 : decode cX3_sets 64 = .ok (.istore 4, 2) := dk_54 4 (dk_at dksX3_sets_2 17 rfl rfl)
theorem dX3_sets_66 : decode cX3_sets 66 = .ok (.iload 5, 2) := dk_21 5 (dk_at dksX3_sets_2 19 rfl rfl)
theorem dX3_sets_68 : decode cX3_sets 68 = .ok (.iload 6, 2) := dk_21 6 (dk_at dksX3_sets_2 21 rfl rfl)
theorem dX3_sets_70 : decode cX3_sets 70 = .ok (.ior, 1) := dk_128 (dk_at dksX3_sets_2 23 rfl rfl)
theorem dX3_sets_71 : decode cX3_sets 71 = .ok (.istore 5, 2) := dk_54 5 (dk_at dksX3_sets_3 0 rfl rfl)
theorem dX3_sets_73 : decode cX3_sets 73 = .ok (.iinc 6 1, 3) := dk_132 6 1 (dk_at dksX3_sets_3 2 rfl rfl)
theorem dX3_sets_76 : decode cX3_sets 76 = .ok (.goto (-35), 3) := dk_167 255 221 (dk_at dksX3_sets_3 5 rfl rfl)
theorem dX3_sets_79 : decode cX3_sets 79 = .ok (.iload_n 1, 1) := dk_27 (dk_at dksX3_sets_3 8 rfl rfl)
theorem dX3_sets_80 : decode cX3_sets 80 = .ok (.ifCond .eq 7, 3) := dk_153 0 7 (dk_at dksX3_sets_3 9 rfl rfl)
theorem dX3_sets_83 : decode cX3_sets 83 = .ok (.iload_n 3, 1) := dk_29 (dk_at dksX3_sets_3 12 rfl rfl)
theorem dX3_sets_84 : decode cX3_sets 84 = .ok (.ifCond .ne 5, 3) := dk_154 0 5 (dk_at dksX3_sets_3 13 rfl rfl)
theorem dX3_sets_87 : decode cX3_sets 87 = .ok (.iload_n 3, 1) := dk_29 (dk_at dksX3_sets_3 16 rfl rfl)
theorem dX3_sets_88 : decode cX3_sets 88 = .ok (.ireturn, 1) := dk_172 (dk_at dksX3_sets_3 17 rfl rfl)
theorem dX3_sets_89 : decode cX3_sets 89 = .ok (.iload_n 1, 1) := dk_27 (dk_at dksX3_sets_3 18 rfl rfl)
theorem dX3_sets_90 : decode cX3_sets 90 = .ok (.iconst 1, 1) := dk_4 (dk_at dksX3_sets_3 19 rfl rfl)
theorem dX3_sets_91 : decode cX3_sets 91 = .ok (.if_icmp .ne 8, 3) := dk_160 0 8 (dk_at dksX3_sets_3 20 rfl rfl)
theorem dX3_sets_94 : decode cX3_sets 94 = .ok (.iload 4, 2) := dk_21 4 (dk_at dksX3_sets_4 0 rfl rfl)
theorem dX3_sets_96 : decode cX3_sets 96 = .ok (.goto 9, 3) := dk_167 0 9 (dk_at dksX3_sets_4 2 rfl rfl)
theorem dX3_sets_99 : decode cX3_sets 99 = .ok (.iload_n 2, 1) := dk_28 (dk_at dksX3_sets_4 5 rfl rfl)
theorem dX3_sets_100 : decode cX3_sets 100 = .ok (.iload 5, 2) := dk_21 5 (dk_at dksX3_sets_4 6 rfl rfl)
theorem dX3_sets_102 : decode cX3_sets 102 = .ok (.iconst (-1), 1) := dk_2 (dk_at dksX3_sets_4 8 rfl rfl)
theorem dX3_sets_103 : decode cX3_sets 103 = .ok (.ixor, 1) := dk_130 (dk_at dksX3_sets_4 9 rfl rfl)
theorem dX3_sets_104 : decode cX3_sets 104 = .ok (.iand, 1) := dk_126 (dk_at dksX3_sets_4 10 rfl rfl)
theorem dX3_sets_105 : decode cX3_sets 105 = .ok (.ireturn, 1) := dk_172 (dk_at dksX3_sets_4 11 rfl rfl)
abbrev cX3_firstOnes : ByteArray := prog_21_method_124_code
def yX3_firstOnes : MethodName := ⟨RX3, "firstOnes", "()I"⟩
def dkwX3_firstOnes_0 : List UInt8 := [42, 180, 0, 183, 16, 8, 162, 0, 10, 42, 180, 0, 183, 167, 0, 5, 16, 8, 172]
abbrev dktX3_firstOnes_0 : List UInt8 := dkwX3_firstOnes_0 ++ []
theorem dksX3_firstOnes_0 : cX3_firstOnes.data.toList.drop 0 = dktX3_firstOnes_0 := by decide +kernel
theorem dX3_firstOnes_0 : decode cX3_firstOnes 0 = .ok (.aload_n 0, 1) := dk_42 (dk_at dksX3_firstOnes_0 0 rfl rfl)
theorem dX3_firstOnes_1 : decode cX3_firstOnes 1 = .ok (.getfield 183, 3) := dk_180 0 183 (dk_at dksX3_firstOnes_0 1 rfl rfl)
theorem dX3_firstOnes_4 : decode cX3_firstOnes 4 = .ok (.bipush 8, 2) := dk_16 8 (dk_at dksX3_firstOnes_0 4 rfl rfl)
theorem dX3_firstOnes_6 : decode cX3_firstOnes 6 = .ok (.if_icmp .ge 10, 3) := dk_162 0 10 (dk_at dksX3_firstOnes_0 6 rfl rfl)
theorem dX3_firstOnes_9 : decode cX3_firstOnes 9 = .ok (.aload_n 0, 1) := dk_42 (dk_at dksX3_firstOnes_0 9 rfl rfl)
theorem dX3_firstOnes_10 : decode cX3_firstOnes 10 = .ok (.getfield 183, 3) := dk_180 0 183 (dk_at dksX3_firstOnes_0 10 rfl rfl)
theorem dX3_firstOnes_13 : decode cX3_firstOnes 13 = .ok (.goto 5, 3) := dk_167 0 5 (dk_at dksX3_firstOnes_0 13 rfl rfl)
theorem dX3_firstOnes_16 : decode cX3_firstOnes 16 = .ok (.bipush 8, 2) := dk_16 8 (dk_at dksX3_firstOnes_0 16 rfl rfl)
theorem dX3_firstOnes_18 : decode cX3_firstOnes 18 = .ok (.ireturn, 1) := dk_172 (dk_at dksX3_firstOnes_0 18 rfl rfl)
abbrev cX3_doesFit : ByteArray := prog_21_method_125_code
def yX3_doesFit : MethodName := ⟨RX3, "doesFit", "(I)Z"⟩
def dkwX3_doesFit_2 : List UInt8 := [160, 0, 7, 4, 167, 0, 4, 3, 61, 132, 3, 1, 167, 255, 203, 28, 172]
abbrev dktX3_doesFit_2 : List UInt8 := dkwX3_doesFit_2 ++ []
def dkwX3_doesFit_1 : List UInt8 := [180, 0, 46, 29, 46, 182, 2, 39, 42, 180, 0, 49, 29, 46, 4, 160, 0, 7, 4, 167, 0, 4, 3]
abbrev dktX3_doesFit_1 : List UInt8 := dkwX3_doesFit_1 ++ dktX3_doesFit_2
def dkwX3_doesFit_0 : List UInt8 := [4, 61, 3, 62, 29, 42, 180, 0, 9, 16, 7, 46, 162, 0, 48, 28, 153, 0, 44, 42, 27, 42]
abbrev dktX3_doesFit_0 : List UInt8 := dkwX3_doesFit_0 ++ dktX3_doesFit_1
theorem dksX3_doesFit_0 : cX3_doesFit.data.toList.drop 0 = dktX3_doesFit_0 := by decide +kernel
theorem dksX3_doesFit_1 : cX3_doesFit.data.toList.drop 22 = dktX3_doesFit_1 := dk_seg dksX3_doesFit_0 22 rfl rfl
theorem dksX3_doesFit_2 : cX3_doesFit.data.toList.drop 45 = dktX3_doesFit_2 := dk_seg dksX3_doesFit_1 23 rfl rfl
theorem dX3_doesFit_0 : decode cX3_doesFit 0 = .ok (.iconst 1, 1) := dk_4 (dk_at dksX3_doesFit_0 0 rfl rfl)
theorem dX3_doesFit_1 : decode cX3_doesFit 1 = .ok (.istore_n 2, 1) := dk_61 (dk_at dksX3_doesFit_0 1 rfl rfl)
theorem dX3_doesFit_2 : decode cX3_doesFit 2 = .ok (.iconst 0, 1) := dk_3 (dk_at dksX3_doesFit_0 2 rfl rfl)
theorem dX3_doesFit_3 : decode cX3_doesFit 3 = .ok (.istore_n 3, 1) := dk_62 (dk_at dksX3_doesFit_0 3 rfl rfl)
theorem dX3_doesFit_4 : decode cX3_doesFit 4 = .ok (.iload_n 3, 1) := dk_29 (dk_at dksX3_doesFit_0 4 rfl rfl)
theorem dX3_doesFit_5 : decode cX3_doesFit 5 = .ok (.aload_n 0, 1) := dk_42 (dk_at dksX3_doesFit_0 5 rfl rfl)
theorem dX3_doesFit_6 : decode cX3_doesFit 6 = .ok (.getfield 9, 3) := dk_180 0 9 (dk_at dksX3_doesFit_0 6 rfl rfl)
theorem dX3_doesFit_9 : decode cX3_doesFit 9 = .ok (.bipush 7, 2) := dk_16 7 (dk_at dksX3_doesFit_0 9 rfl rfl)
theorem dX3_doesFit_11 : decode cX3_doesFit 11 = .ok (.iaload, 1) := dk_46 (dk_at dksX3_doesFit_0 11 rfl rfl)
theorem dX3_doesFit_12 : decode cX3_doesFit 12 = .ok (.if_icmp .ge 48, 3) := dk_162 0 48 (dk_at dksX3_doesFit_0 12 rfl rfl)
theorem dX3_doesFit_15 : decode cX3_doesFit 15 = .ok (.iload_n 2, 1) := dk_28 (dk_at dksX3_doesFit_0 15 rfl rfl)
theorem dX3_doesFit_16 : decode cX3_doesFit 16 = .ok (.ifCond .eq 44, 3) := dk_153 0 44 (dk_at dksX3_doesFit_0 16 rfl rfl)
theorem dX3_doesFit_19 : decode cX3_doesFit 19 = .ok (.aload_n 0, 1) := dk_42 (dk_at dksX3_doesFit_0 19 rfl rfl)
theorem dX3_doesFit_20 : decode cX3_doesFit 20 = .ok (.iload_n 1, 1) := dk_27 (dk_at dksX3_doesFit_0 20 rfl rfl)
theorem dX3_doesFit_21 : decode cX3_doesFit 21 = .ok (.aload_n 0, 1) := dk_42 (dk_at dksX3_doesFit_0 21 rfl rfl)
theorem dX3_doesFit_22 : decode cX3_doesFit 22 = .ok (.getfield 46, 3) := dk_180 0 46 (dk_at dksX3_doesFit_1 0 rfl rfl)
theorem dX3_doesFit_25 : decode cX3_doesFit 25 = .ok (.iload_n 3, 1) := dk_29 (dk_at dksX3_doesFit_1 3 rfl rfl)
theorem dX3_doesFit_26 : decode cX3_doesFit 26 = .ok (.iaload, 1) := dk_46 (dk_at dksX3_doesFit_1 4 rfl rfl)
theorem dX3_doesFit_27 : decode cX3_doesFit 27 = .ok (.invokevirtual 551, 3) := dk_182 2 39 (dk_at dksX3_doesFit_1 5 rfl rfl)
theorem dX3_doesFit_30 : decode cX3_doesFit 30 = .ok (.aload_n 0, 1) := dk_42 (dk_at dksX3_doesFit_1 8 rfl rfl)
theorem dX3_doesFit_31 : decode cX3_doesFit 31 = .ok (.getfield 49, 3) := dk_180 0 49 (dk_at dksX3_doesFit_1 9 rfl rfl)
theorem dX3_doesFit_34 : decode cX3_doesFit 34 = .ok (.iload_n 3, 1) := dk_29 (dk_at dksX3_doesFit_1 12 rfl rfl)
theorem dX3_doesFit_35 : decode cX3_doesFit 35 = .ok (.iaload, 1) := dk_46 (dk_at dksX3_doesFit_1 13 rfl rfl)
theorem dX3_doesFit_36 : decode cX3_doesFit 36 = .ok (.iconst 1, 1) := dk_4 (dk_at dksX3_doesFit_1 14 rfl rfl)
theorem dX3_doesFit_37 : decode cX3_doesFit 37 = .ok (.if_icmp .ne 7, 3) := dk_160 0 7 (dk_at dksX3_doesFit_1 15 rfl rfl)
theorem dX3_doesFit_40 : decode cX3_doesFit 40 = .ok (.iconst 1, 1) := dk_4 (dk_at dksX3_doesFit_1 18 rfl rfl)
theorem dX3_doesFit_41 : decode cX3_doesFit 41 = .ok (.goto 4, 3) := dk_167 0 4 (dk_at dksX3_doesFit_1 19 rfl rfl)
theorem dX3_doesFit_44 : decode cX3_doesFit 44 = .ok (.iconst 0, 1) := dk_3 (dk_at dksX3_doesFit_1 22 rfl rfl)
theorem dX3_doesFit_45 : decode cX3_doesFit 45 = .ok (.if_icmp .ne 7, 3) := dk_160 0 7 (dk_at dksX3_doesFit_2 0 rfl rfl)
theorem dX3_doesFit_48 : decode cX3_doesFit 48 = .ok (.iconst 1, 1) := dk_4 (dk_at dksX3_doesFit_2 3 rfl rfl)
theorem dX3_doesFit_49 : decode cX3_doesFit 49 = .ok (.goto 4, 3) := dk_167 0 4 (dk_at dksX3_doesFit_2 4 rfl rfl)
theorem dX3_doesFit_52 : decode cX3_doesFit 52 = .ok (.iconst 0, 1) := dk_3 (dk_at dksX3_doesFit_2 7 rfl rfl)
theorem dX3_doesFit_53 : decode cX3_doesFit 53 = .ok (.istore_n 2, 1) := dk_61 (dk_at dksX3_doesFit_2 8 rfl rfl)
theorem dX3_doesFit_54 : decode cX3_doesFit 54 = .ok (.iinc 3 1, 3) := dk_132 3 1 (dk_at dksX3_doesFit_2 9 rfl rfl)
theorem dX3_doesFit_57 : decode cX3_doesFit 57 = .ok (.goto (-53), 3) := dk_167 255 203 (dk_at dksX3_doesFit_2 12 rfl rfl)
theorem dX3_doesFit_60 : decode cX3_doesFit 60 = .ok (.iload_n 2, 1) := dk_28 (dk_at dksX3_doesFit_2 15 rfl rfl)
theorem dX3_doesFit_61 : decode cX3_doesFit 61 = .ok (.ireturn, 1) := dk_172 (dk_at dksX3_doesFit_2 16 rfl rfl)
abbrev cX3_next : ByteArray := prog_21_method_127_code
def yX3_next : MethodName := ⟨RX3, "next", "(I)I"⟩
def dkwX3_next_8 : List UInt8 := [21, 5, 62, 21, 6, 54, 4, 132, 5, 1, 167, 255, 180, 27, 154, 0, 7, 29, 167, 0, 5, 21, 4, 172]
abbrev dktX3_next_8 : List UInt8 := dkwX3_next_8 ++ []
def dkwX3_next_7 : List UInt8 := [42, 180, 0, 166, 21, 5, 46, 100, 54, 6, 29, 16, 254, 159, 0, 10, 21, 6, 21, 4, 162, 0, 10]
abbrev dktX3_next_7 : List UInt8 := dkwX3_next_7 ++ dktX3_next_8
def dkwX3_next_6 : List UInt8 := [46, 28, 42, 180, 0, 166, 21, 5, 46, 100, 164, 0, 13, 42, 180, 0, 166, 21, 5, 46, 167, 0, 12, 28]
abbrev dktX3_next_6 : List UInt8 := dkwX3_next_6 ++ dktX3_next_7
def dkwX3_next_5 : List UInt8 := [54, 4, 3, 54, 5, 21, 5, 42, 180, 0, 183, 162, 0, 73, 28, 158, 0, 69, 42, 180, 0, 166, 21, 5]
abbrev dktX3_next_5 : List UInt8 := dkwX3_next_5 ++ dktX3_next_6
def dkwX3_next_4 : List UInt8 := [4, 167, 0, 4, 3, 96, 79, 132, 4, 1, 167, 255, 219, 132, 3, 1, 167, 255, 189, 16, 254, 62, 16, 254]
abbrev dktX3_next_4 : List UInt8 := dkwX3_next_4 ++ dktX3_next_5
def dkwX3_next_3 : List UInt8 := [180, 0, 183, 162, 0, 34, 42, 180, 0, 166, 21, 4, 92, 46, 42, 29, 21, 4, 182, 2, 39, 153, 0, 7]
abbrev dktX3_next_3 : List UInt8 := dkwX3_next_3 ++ dktX3_next_4
def dkwX3_next_2 : List UInt8 := [182, 2, 87, 120, 162, 0, 63, 42, 29, 182, 2, 90, 153, 0, 49, 132, 2, 1, 3, 54, 4, 21, 4, 42]
abbrev dktX3_next_2 : List UInt8 := dkwX3_next_2 ++ dktX3_next_3
def dkwX3_next_1 : List UInt8 := [16, 24, 162, 0, 16, 42, 180, 0, 166, 29, 3, 79, 132, 3, 1, 167, 255, 240, 3, 62, 29, 4, 42]
abbrev dktX3_next_1 : List UInt8 := dkwX3_next_1 ++ dktX3_next_2
def dkwX3_next_0 : List UInt8 := [42, 182, 0, 186, 153, 0, 13, 27, 133, 9, 10, 184, 0, 179, 154, 0, 5, 2, 172, 3, 61, 3, 62, 29]
abbrev dktX3_next_0 : List UInt8 := dkwX3_next_0 ++ dktX3_next_1
theorem dksX3_next_0 : cX3_next.data.toList.drop 0 = dktX3_next_0 := by decide +kernel
theorem dksX3_next_1 : cX3_next.data.toList.drop 24 = dktX3_next_1 := dk_seg dksX3_next_0 24 rfl rfl
theorem dksX3_next_2 : cX3_next.data.toList.drop 47 = dktX3_next_2 := dk_seg dksX3_next_1 23 rfl rfl
theorem dksX3_next_3 : cX3_next.data.toList.drop 71 = dktX3_next_3 := dk_seg dksX3_next_2 24 rfl rfl
theorem dksX3_next_4 : cX3_next.data.toList.drop 95 = dktX3_next_4 := dk_seg dksX3_next_3 24 rfl rfl
theorem dksX3_next_5 : cX3_next.data.toList.drop 119 = dktX3_next_5 := dk_seg dksX3_next_4 24 rfl rfl
theorem dksX3_next_6 : cX3_next.data.toList.drop 143 = dktX3_next_6 := dk_seg dksX3_next_5 24 rfl rfl
theorem dksX3_next_7 : cX3_next.data.toList.drop 167 = dktX3_next_7 := dk_seg dksX3_next_6 24 rfl rfl
theorem dksX3_next_8 : cX3_next.data.toList.drop 190 = dktX3_next_8 := dk_seg dksX3_next_7 23 rfl rfl
theorem dX3_next_0 : decode cX3_next 0 = .ok (.aload_n 0, 1) := dk_42 (dk_at dksX3_next_0 0 rfl rfl)
theorem dX3_next_1 : decode cX3_next 1 = .ok (.invokevirtual 186, 3) := dk_182 0 186 (dk_at dksX3_next_0 1 rfl rfl)
theorem dX3_next_4 : decode cX3_next 4 = .ok (.ifCond .eq 13, 3) := dk_153 0 13 (dk_at dksX3_next_0 4 rfl rfl)
theorem dX3_next_7 : decode cX3_next 7 = .ok (.iload_n 1, 1) := dk_27 (dk_at dksX3_next_0 7 rfl rfl)
theorem dX3_next_8 : decode cX3_next 8 = .ok (.i2l, 1) := dk_133 (dk_at dksX3_next_0 8 rfl rfl)
theorem dX3_next_9 : decode cX3_next 9 = .ok (.lconst 0, 1) := dk_9 (dk_at dksX3_next_0 9 rfl rfl)
theorem dX3_next_10 : decode cX3_next 10 = .ok (.lconst 1, 1) := dk_10 (dk_at dksX3_next_0 10 rfl rfl)
theorem dX3_next_11 : decode cX3_next 11 = .ok (.invokestatic 179, 3) := dk_184 0 179 (dk_at dksX3_next_0 11 rfl rfl)
theorem dX3_next_14 : decode cX3_next 14 = .ok (.ifCond .ne 5, 3) := dk_154 0 5 (dk_at dksX3_next_0 14 rfl rfl)
theorem dX3_next_17 : decode cX3_next 17 = .ok (.iconst (-1), 1) := dk_2 (dk_at dksX3_next_0 17 rfl rfl)
theorem dX3_next_18 : decode cX3_next 18 = .ok (.ireturn, 1) := dk_172 (dk_at dksX3_next_0 18 rfl rfl)
theorem dX3_next_19 : decode cX3_next 19 = .ok (.iconst 0, 1) := dk_3 (dk_at dksX3_next_0 19 rfl rfl)
theorem dX3_next_20 : decode cX3_next 20 = .ok (.istore_n 2, 1) := dk_61 (dk_at dksX3_next_0 20 rfl rfl)
theorem dX3_next_21 : decode cX3_next 21 = .ok (.iconst 0, 1) := dk_3 (dk_at dksX3_next_0 21 rfl rfl)
theorem dX3_next_22 : decode cX3_next 22 = .ok (.istore_n 3, 1) := dk_62 (dk_at dksX3_next_0 22 rfl rfl)
theorem dX3_next_23 : decode cX3_next 23 = .ok (.iload_n 3, 1) := dk_29 (dk_at dksX3_next_0 23 rfl rfl)
theorem dX3_next_24 : decode cX3_next 24 = .ok (.bipush 24, 2) := dk_16 24 (dk_at dksX3_next_1 0 rfl rfl)
theorem dX3_next_26 : decode cX3_next 26 = .ok (.if_icmp .ge 16, 3) := dk_162 0 16 (dk_at dksX3_next_1 2 rfl rfl)
theorem dX3_next_29 : decode cX3_next 29 = .ok (.aload_n 0, 1) := dk_42 (dk_at dksX3_next_1 5 rfl rfl)
theorem dX3_next_30 : decode cX3_next 30 = .ok (.getfield 166, 3) := dk_180 0 166 (dk_at dksX3_next_1 6 rfl rfl)
theorem dX3_next_33 : decode cX3_next 33 = .ok (.iload_n 3, 1) := dk_29 (dk_at dksX3_next_1 9 rfl rfl)
theorem dX3_next_34 : decode cX3_next 34 = .ok (.iconst 0, 1) := dk_3 (dk_at dksX3_next_1 10 rfl rfl)
theorem dX3_next_35 : decode cX3_next 35 = .ok (.iastore, 1) := dk_79 (dk_at dksX3_next_1 11 rfl rfl)
theorem dX3_next_36 : decode cX3_next 36 = .ok (.iinc 3 1, 3) := dk_132 3 1 (dk_at dksX3_next_1 12 rfl rfl)
theorem dX3_next_39 : decode cX3_next 39 = .ok (.goto (-16), 3) := dk_167 255 240 (dk_at dksX3_next_1 15 rfl rfl)
theorem dX3_next_42 : decode cX3_next 42 = .ok (.iconst 0, 1) := dk_3 (dk_at dksX3_next_1 18 rfl rfl)
theorem dX3_next_43 : decode cX3_next 43 = .ok (.istore_n 3, 1) := dk_62 (dk_at dksX3_next_1 19 rfl rfl)
theorem dX3_next_44 : decode cX3_next 44 = .ok (.iload_n 3, 1) := dk_29 (dk_at dksX3_next_1 20 rfl rfl)
theorem dX3_next_45 : decode cX3_next 45 = .ok (.iconst 1, 1) := dk_4 (dk_at dksX3_next_1 21 rfl rfl)
theorem dX3_next_46 : decode cX3_next 46 = .ok (.aload_n 0, 1) := dk_42 (dk_at dksX3_next_1 22 rfl rfl)
theorem dX3_next_47 : decode cX3_next 47 = .ok (.invokevirtual 599, 3) := dk_182 2 87 (dk_at dksX3_next_2 0 rfl rfl)
theorem dX3_next_50 : decode cX3_next 50 = .ok (.ishl, 1) := dk_120 (dk_at dksX3_next_2 3 rfl rfl)
theorem dX3_next_51 : decode cX3_next 51 = .ok (.if_icmp .ge 63, 3) := dk_162 0 63 (dk_at dksX3_next_2 4 rfl rfl)
theorem dX3_next_54 : decode cX3_next 54 = .ok (.aload_n 0, 1) := dk_42 (dk_at dksX3_next_2 7 rfl rfl)
theorem dX3_next_55 : decode cX3_next 55 = .ok (.iload_n 3, 1) := dk_29 (dk_at dksX3_next_2 8 rfl rfl)
theorem dX3_next_56 : decode cX3_next 56 = .ok (.invokevirtual 602, 3) := dk_182 2 90 (dk_at dksX3_next_2 9 rfl rfl)
theorem dX3_next_59 : decode cX3_next 59 = .ok (.ifCond .eq 49, 3) := dk_153 0 49 (dk_at dksX3_next_2 12 rfl rfl)
theorem dX3_next_62 : decode cX3_next 62 = .ok (.iinc 2 1, 3) := dk_132 2 1 (dk_at dksX3_next_2 15 rfl rfl)
theorem dX3_next_65 : decode cX3_next 65 = .ok (.iconst 0, 1) := dk_3 (dk_at dksX3_next_2 18 rfl rfl)
theorem dX3_next_66 : decode cX3_next 66 = .ok (.istore 4, 2) := dk_54 4 (dk_at dksX3_next_2 19 rfl rfl)
theorem dX3_next_68 : decode cX3_next 68 = .ok (.iload 4, 2) := dk_21 4 (dk_at dksX3_next_2 21 rfl rfl)
theorem dX3_next_70 : decode cX3_next 70 = .ok (.aload_n 0, 1) := dk_42 (dk_at dksX3_next_2 23 rfl rfl)
theorem dX3_next_71 : decode cX3_next 71 = .ok (.getfield 183, 3) := dk_180 0 183 (dk_at dksX3_next_3 0 rfl rfl)
theorem dX3_next_74 : decode cX3_next 74 = .ok (.if_icmp .ge 34, 3) := dk_162 0 34 (dk_at dksX3_next_3 3 rfl rfl)
theorem dX3_next_77 : decode cX3_next 77 = .ok (.aload_n 0, 1) := dk_42 (dk_at dksX3_next_3 6 rfl rfl)
theorem dX3_next_78 : decode cX3_next 78 = .ok (.getfield 166, 3) := dk_180 0 166 (dk_at dksX3_next_3 7 rfl rfl)
theorem dX3_next_81 : decode cX3_next 81 = .ok (.iload 4, 2) := dk_21 4 (dk_at dksX3_next_3 10 rfl rfl)
theorem dX3_next_83 : decode cX3_next 83 = .ok (.dup2, 1) := dk_92 (dk_at dksX3_next_3 12 rfl rfl)
theorem dX3_next_84 : decode cX3_next 84 = .ok (.iaload, 1) := dk_46 (dk_at dksX3_next_3 13 rfl rfl)
theorem dX3_next_85 : decode cX3_next 85 = .ok (.aload_n 0, 1) := dk_42 (dk_at dksX3_next_3 14 rfl rfl)
theorem dX3_next_86 : decode cX3_next 86 = .ok (.iload_n 3, 1) := dk_29 (dk_at dksX3_next_3 15 rfl rfl)
theorem dX3_next_87 : decode cX3_next 87 = .ok (.iload 4, 2) := dk_21 4 (dk_at dksX3_next_3 16 rfl rfl)
theorem dX3_next_89 : decode cX3_next 89 = .ok (.invokevirtual 551, 3) := dk_182 2 39 (dk_at dksX3_next_3 18 rfl rfl)
theorem dX3_next_92 : decode cX3_next 92 = .ok (.ifCond .eq 7, 3) := dk_153 0 7 (dk_at dksX3_next_3 21 rfl rfl)
theorem dX3_next_95 : decode cX3_next 95 = .ok (.iconst 1, 1) := dk_4 (dk_at dksX3_next_4 0 rfl rfl)
theorem dX3_next_96 : decode cX3_next 96 = .ok (.goto 4, 3) := dk_167 0 4 (dk_at dksX3_next_4 1 rfl rfl)
theorem dX3_next_99 : decode cX3_next 99 = .ok (.iconst 0, 1) := dk_3 (dk_at dksX3_next_4 4 rfl rfl)
theorem dX3_next_100 : decode cX3_next 100 = .ok (.iadd, 1) := dk_96 (dk_at dksX3_next_4 5 rfl rfl)
theorem dX3_next_101 : decode cX3_next 101 = .ok (.iastore, 1) := dk_79 (dk_at dksX3_next_4 6 rfl rfl)
theorem dX3_next_102 : decode cX3_next 102 = .ok (.iinc 4 1, 3) := dk_132 4 1 (dk_at dksX3_next_4 7 rfl rfl)
theorem dX3_next_105 : decode cX3_next 105 = .ok (.goto (-37), 3) := dk_167 255 219 (dk_at dksX3_next_4 10 rfl rfl)
theorem dX3_next_108 : decode cX3_next 108 = .ok (.iinc 3 1, 3) := dk_132 3 1 (dk_at dksX3_next_4 13 rfl rfl)
theorem dX3_next_111 : decode cX3_next 111 = .ok (.goto (-67), 3) := dk_167 255 189 (dk_at dksX3_next_4 16 rfl rfl)
theorem dX3_next_114 : decode cX3_next 114 = .ok (.bipush (-2), 2) := dk_16 254 (dk_at dksX3_next_4 19 rfl rfl)
theorem dX3_next_116 : decode cX3_next 116 = .ok (.istore_n 3, 1) := dk_62 (dk_at dksX3_next_4 21 rfl rfl)
theorem dX3_next_117 : decode cX3_next 117 = .ok (.bipush (-2), 2) := dk_16 254 (dk_at dksX3_next_4 22 rfl rfl)
theorem dX3_next_119 : decode cX3_next 119 = .ok (.istore 4, 2) := dk_54 4 (dk_at dksX3_next_5 0 rfl rfl)
theorem dX3_next_121 : decode cX3_next 121 = .ok (.iconst 0, 1) := dk_3 (dk_at dksX3_next_5 2 rfl rfl)
theorem dX3_next_122 : decode cX3_next 122 = .ok (.istore 5, 2) := dk_54 5 (dk_at dksX3_next_5 3 rfl rfl)
theorem dX3_next_124 : decode cX3_next 124 = .ok (.iload 5, 2) := dk_21 5 (dk_at dksX3_next_5 5 rfl rfl)
theorem dX3_next_126 : decode cX3_next 126 = .ok (.aload_n 0, 1) := dk_42 (dk_at dksX3_next_5 7 rfl rfl)
theorem dX3_next_127 : decode cX3_next 127 = .ok (.getfield 183, 3) := dk_180 0 183 (dk_at dksX3_next_5 8 rfl rfl)
theorem dX3_next_130 : decode cX3_next 130 = .ok (.if_icmp .ge 73, 3) := dk_162 0 73 (dk_at dksX3_next_5 11 rfl rfl)
theorem dX3_next_133 : decode cX3_next 133 = .ok (.iload_n 2, 1) := dk_28 (dk_at dksX3_next_5 14 rfl rfl)
theorem dX3_next_134 : decode cX3_next 134 = .ok (.ifCond .le 69, 3) := dk_158 0 69 (dk_at dksX3_next_5 15 rfl rfl)
theorem dX3_next_137 : decode cX3_next 137 = .ok (.aload_n 0, 1) := dk_42 (dk_at dksX3_next_5 18 rfl rfl)
theorem dX3_next_138 : decode cX3_next 138 = .ok (.getfield 166, 3) := dk_180 0 166 (dk_at dksX3_next_5 19 rfl rfl)
theorem dX3_next_141 : decode cX3_next 141 = .ok (.iload 5, 2) := dk_21 5 (dk_at dksX3_next_5 22 rfl rfl)
theorem dX3_next_143 : decode cX3_next 143 = .ok (.iaload, 1) := dk_46 (dk_at dksX3_next_6 0 rfl rfl)
theorem dX3_next_144 : decode cX3_next 144 = .ok (.iload_n 2, 1) := dk_28 (dk_at dksX3_next_6 1 rfl rfl)
theorem dX3_next_145 : decode cX3_next 145 = .ok (.aload_n 0, 1) := dk_42 (dk_at dksX3_next_6 2 rfl rfl)
theorem dX3_next_146 : decode cX3_next 146 = .ok (.getfield 166, 3) := dk_180 0 166 (dk_at dksX3_next_6 3 rfl rfl)
theorem dX3_next_149 : decode cX3_next 149 = .ok (.iload 5, 2) := dk_21 5 (dk_at dksX3_next_6 6 rfl rfl)
theorem dX3_next_151 : decode cX3_next 151 = .ok (.iaload, 1) := dk_46 (dk_at dksX3_next_6 8 rfl rfl)
theorem dX3_next_152 : decode cX3_next 152 = .ok (.isub, 1) := dk_100 (dk_at dksX3_next_6 9 rfl rfl)
theorem dX3_next_153 : decode cX3_next 153 = .ok (.if_icmp .le 13, 3) := dk_164 0 13 (dk_at dksX3_next_6 10 rfl rfl)
theorem dX3_next_156 : decode cX3_next 156 = .ok (.aload_n 0, 1) := dk_42 (dk_at dksX3_next_6 13 rfl rfl)
theorem dX3_next_157 : decode cX3_next 157 = .ok (.getfield 166, 3) := dk_180 0 166 (dk_at dksX3_next_6 14 rfl rfl)
theorem dX3_next_160 : decode cX3_next 160 = .ok (.iload 5, 2) := dk_21 5 (dk_at dksX3_next_6 17 rfl rfl)
theorem dX3_next_162 : decode cX3_next 162 = .ok (.iaload, 1) := dk_46 (dk_at dksX3_next_6 19 rfl rfl)
theorem dX3_next_163 : decode cX3_next 163 = .ok (.goto 12, 3) := dk_167 0 12 (dk_at dksX3_next_6 20 rfl rfl)
theorem dX3_next_166 : decode cX3_next 166 = .ok (.iload_n 2, 1) := dk_28 (dk_at dksX3_next_6 23 rfl rfl)
theorem dX3_next_167 : decode cX3_next 167 = .ok (.aload_n 0, 1) := dk_42 (dk_at dksX3_next_7 0 rfl rfl)
theorem dX3_next_168 : decode cX3_next 168 = .ok (.getfield 166, 3) := dk_180 0 166 (dk_at dksX3_next_7 1 rfl rfl)
theorem dX3_next_171 : decode cX3_next 171 = .ok (.iload 5, 2) := dk_21 5 (dk_at dksX3_next_7 4 rfl rfl)
theorem dX3_next_173 : decode cX3_next 173 = .ok (.iaload, 1) := dk_46 (dk_at dksX3_next_7 6 rfl rfl)
theorem dX3_next_174 : decode cX3_next 174 = .ok (.isub, 1) := dk_100 (dk_at dksX3_next_7 7 rfl rfl)
theorem dX3_next_175 : decode cX3_next 175 = .ok (.istore 6, 2) := dk_54 6 (dk_at dksX3_next_7 8 rfl rfl)
theorem dX3_next_177 : decode cX3_next 177 = .ok (.iload_n 3, 1) := dk_29 (dk_at dksX3_next_7 10 rfl rfl)
theorem dX3_next_178 : decode cX3_next 178 = .ok (.bipush (-2), 2) := dk_16 254 (dk_at dksX3_next_7 11 rfl rfl)
theorem dX3_next_180 : decode cX3_next 180 = .ok (.if_icmp .eq 10, 3) := dk_159 0 10 (dk_at dksX3_next_7 13 rfl rfl)
theorem dX3_next_183 : decode cX3_next 183 = .ok (.iload 6, 2) := dk_21 6 (dk_at dksX3_next_7 16 rfl rfl)
theorem dX3_next_185 : decode cX3_next 185 = .ok (.iload 4, 2) := dk_21 4 (dk_at dksX3_next_7 18 rfl rfl)
theorem dX3_next_187 : decode cX3_next 187 = .ok (.if_icmp .ge 10, 3) := dk_162 0 10 (dk_at dksX3_next_7 20 rfl rfl)
theorem dX3_next_190 : decode cX3_next 190 = .ok (.iload 5, 2) := dk_21 5 (dk_at dksX3_next_8 0 rfl rfl)
theorem dX3_next_192 : decode cX3_next 192 = .ok (.istore_n 3, 1) := dk_62 (dk_at dksX3_next_8 2 rfl rfl)
theorem dX3_next_193 : decode cX3_next 193 = .ok (.iload 6, 2) := dk_21 6 (dk_at dksX3_next_8 3 rfl rfl)
theorem dX3_next_195 : decode cX3_next 195 = .ok (.istore 4, 2) := dk_54 4 (dk_at dksX3_next_8 5 rfl rfl)
theorem dX3_next_197 : decode cX3_next 197 = .ok (.iinc 5 1, 3) := dk_132 5 1 (dk_at dksX3_next_8 7 rfl rfl)
theorem dX3_next_200 : decode cX3_next 200 = .ok (.goto (-76), 3) := dk_167 255 180 (dk_at dksX3_next_8 10 rfl rfl)
theorem dX3_next_203 : decode cX3_next 203 = .ok (.iload_n 1, 1) := dk_27 (dk_at dksX3_next_8 13 rfl rfl)
theorem dX3_next_204 : decode cX3_next 204 = .ok (.ifCond .ne 7, 3) := dk_154 0 7 (dk_at dksX3_next_8 14 rfl rfl)
theorem dX3_next_207 : decode cX3_next 207 = .ok (.iload_n 3, 1) := dk_29 (dk_at dksX3_next_8 17 rfl rfl)
theorem dX3_next_208 : decode cX3_next 208 = .ok (.goto 5, 3) := dk_167 0 5 (dk_at dksX3_next_8 18 rfl rfl)
theorem dX3_next_211 : decode cX3_next 211 = .ok (.iload 4, 2) := dk_21 4 (dk_at dksX3_next_8 21 rfl rfl)
theorem dX3_next_213 : decode cX3_next 213 = .ok (.ireturn, 1) := dk_172 (dk_at dksX3_next_8 23 rfl rfl)
abbrev cX3_seed : ByteArray := prog_21_method_128_code
def yX3_seed : MethodName := ⟨RX3, "seed", "(I)I"⟩
def dkwX3_seed_0 : List UInt8 := [27, 156, 0, 5, 2, 172, 42, 180, 0, 9, 16, 8, 46, 61, 42, 180, 0, 9, 16, 8, 27, 79, 28, 172]
abbrev dktX3_seed_0 : List UInt8 := dkwX3_seed_0 ++ []
theorem dksX3_seed_0 : cX3_seed.data.toList.drop 0 = dktX3_seed_0 := by decide +kernel
theorem dX3_seed_0 : decode cX3_seed 0 = .ok (.iload_n 1, 1) := dk_27 (dk_at dksX3_seed_0 0 rfl rfl)
theorem dX3_seed_1 : decode cX3_seed 1 = .ok (.ifCond .ge 5, 3) := dk_156 0 5 (dk_at dksX3_seed_0 1 rfl rfl)
theorem dX3_seed_4 : decode cX3_seed 4 = .ok (.iconst (-1), 1) := dk_2 (dk_at dksX3_seed_0 4 rfl rfl)
theorem dX3_seed_5 : decode cX3_seed 5 = .ok (.ireturn, 1) := dk_172 (dk_at dksX3_seed_0 5 rfl rfl)
theorem dX3_seed_6 : decode cX3_seed 6 = .ok (.aload_n 0, 1) := dk_42 (dk_at dksX3_seed_0 6 rfl rfl)
theorem dX3_seed_7 : decode cX3_seed 7 = .ok (.getfield 9, 3) := dk_180 0 9 (dk_at dksX3_seed_0 7 rfl rfl)
theorem dX3_seed_10 : decode cX3_seed 10 = .ok (.bipush 8, 2) := dk_16 8 (dk_at dksX3_seed_0 10 rfl rfl)
theorem dX3_seed_12 : decode cX3_seed 12 = .ok (.iaload, 1) := dk_46 (dk_at dksX3_seed_0 12 rfl rfl)
theorem dX3_seed_13 : decode cX3_seed 13 = .ok (.istore_n 2, 1) := dk_61 (dk_at dksX3_seed_0 13 rfl rfl)
theorem dX3_seed_14 : decode cX3_seed 14 = .ok (.aload_n 0, 1) := dk_42 (dk_at dksX3_seed_0 14 rfl rfl)
theorem dX3_seed_15 : decode cX3_seed 15 = .ok (.getfield 9, 3) := dk_180 0 9 (dk_at dksX3_seed_0 15 rfl rfl)
theorem dX3_seed_18 : decode cX3_seed 18 = .ok (.bipush 8, 2) := dk_16 8 (dk_at dksX3_seed_0 18 rfl rfl)
theorem dX3_seed_20 : decode cX3_seed 20 = .ok (.iload_n 1, 1) := dk_27 (dk_at dksX3_seed_0 20 rfl rfl)
theorem dX3_seed_21 : decode cX3_seed 21 = .ok (.iastore, 1) := dk_79 (dk_at dksX3_seed_0 21 rfl rfl)
theorem dX3_seed_22 : decode cX3_seed 22 = .ok (.iload_n 2, 1) := dk_28 (dk_at dksX3_seed_0 22 rfl rfl)
theorem dX3_seed_23 : decode cX3_seed 23 = .ok (.ireturn, 1) := dk_172 (dk_at dksX3_seed_0 23 rfl rfl)
abbrev cX3_years : ByteArray := prog_21_method_131_code
def yX3_years : MethodName := ⟨RX3, "years", "(III)I"⟩
def dkwX3_years_7 : List UInt8 := [172]
abbrev dktX3_years_7 : List UInt8 := dkwX3_years_7 ++ []
def dkwX3_years_6 : List UInt8 := [154, 0, 10, 42, 180, 2, 103, 167, 0, 17, 29, 4, 160, 0, 10, 42, 180, 2, 106, 167, 0, 5, 21, 6]
abbrev dktX3_years_6 : List UInt8 := dkwX3_years_6 ++ dktX3_years_7
def dkwX3_years_5 : List UInt8 := [54, 5, 42, 182, 2, 56, 132, 7, 1, 167, 255, 209, 42, 180, 0, 9, 16, 8, 21, 4, 79, 29]
abbrev dktX3_years_5 : List UInt8 := dkwX3_years_5 ++ dktX3_years_6
def dkwX3_years_4 : List UInt8 := [42, 28, 182, 2, 111, 21, 6, 42, 16, 6, 182, 1, 198, 96, 54, 6, 42, 180, 0, 9, 16, 8, 46]
abbrev dktX3_years_4 : List UInt8 := dkwX3_years_4 ++ dktX3_years_5
def dkwX3_years_3 : List UInt8 := [54, 6, 42, 182, 2, 50, 3, 54, 7, 21, 7, 27, 162, 0, 47, 42, 180, 0, 9, 16, 8, 21, 5, 79]
abbrev dktX3_years_3 : List UInt8 := dkwX3_years_3 ++ dktX3_years_4
def dkwX3_years_2 : List UInt8 := [180, 0, 9, 16, 8, 46, 54, 4, 21, 4, 54, 5, 42, 3, 181, 2, 103, 42, 3, 181, 2, 106, 3]
abbrev dktX3_years_2 : List UInt8 := dkwX3_years_2 ++ dktX3_years_3
def dkwX3_years_1 : List UInt8 := [20, 2, 31, 184, 0, 179, 153, 0, 15, 29, 133, 9, 20, 2, 85, 184, 0, 179, 154, 0, 5, 2, 172, 42]
abbrev dktX3_years_1 : List UInt8 := dkwX3_years_1 ++ dktX3_years_2
def dkwX3_years_0 : List UInt8 := [42, 182, 0, 186, 153, 0, 39, 27, 133, 10, 20, 2, 109, 184, 0, 179, 153, 0, 27, 28, 133, 10]
abbrev dktX3_years_0 : List UInt8 := dkwX3_years_0 ++ dktX3_years_1
theorem dksX3_years_0 : cX3_years.data.toList.drop 0 = dktX3_years_0 := by decide +kernel
theorem dksX3_years_1 : cX3_years.data.toList.drop 22 = dktX3_years_1 := dk_seg dksX3_years_0 22 rfl rfl
theorem dksX3_years_2 : cX3_years.data.toList.drop 46 = dktX3_years_2 := dk_seg dksX3_years_1 24 rfl rfl
theorem dksX3_years_3 : cX3_years.data.toList.drop 69 = dktX3_years_3 := dk_seg dksX3_years_2 23 rfl rfl
theorem dksX3_years_4 : cX3_years.data.toList.drop 93 = dktX3_years_4 := dk_seg dksX3_years_3 24 rfl rfl
theorem dksX3_years_5 : cX3_years.data.toList.drop 116 = dktX3_years_5 := dk_seg dksX3_years_4 23 rfl rfl
theorem dksX3_years_6 : cX3_years.data.toList.drop 138 = dktX3_years_6 := dk_seg dksX3_years_5 22 rfl rfl
theorem dksX3_years_7 : cX3_years.data.toList.drop 162 = dktX3_years_7 := dk_seg dksX3_years_6 24 rfl rfl
theorem dX3_years_0 : decode cX3_years 0 = .ok (.aload_n 0, 1) := dk_42 (dk_at dksX3_years_0 0 rfl rfl)
theorem dX3_years_1 : decode cX3_years 1 = .ok (.invokevirtual 186, 3) := dk_182 0 186 (dk_at dksX3_years_0 1 rfl rfl)
theorem dX3_years_4 : decode cX3_years 4 = .ok (.ifCond .eq 39, 3) := dk_153 0 39 (dk_at dksX3_years_0 4 rfl rfl)
theorem dX3_years_7 : decode cX3_years 7 = .ok (.iload_n 1, 1) := dk_27 (dk_at dksX3_years_0 7 rfl rfl)
theorem dX3_years_8 : decode cX3_years 8 = .ok (.i2l, 1) := dk_133 (dk_at dksX3_years_0 8 rfl rfl)
theorem dX3_years_9 : decode cX3_years 9 = .ok (.lconst 1, 1) := dk_10 (dk_at dksX3_years_0 9 rfl rfl)
theorem dX3_years_10 : decode cX3_years 10 = .ok (.ldc2_w 621, 3) := dk_20 2 109 (dk_at dksX3_years_0 10 rfl rfl)
theorem dX3_years_13 : decode cX3_years 13 = .ok (.invokestatic 179, 3) := dk_184 0 179 (dk_at dksX3_years_0 13 rfl rfl)
theorem dX3_years_16 : decode cX3_years 16 = .ok (.ifCond .eq 27, 3) := dk_153 0 27 (dk_at dksX3_years_0 16 rfl rfl)
theorem dX3_years_19 : decode cX3_years 19 = .ok (.iload_n 2, 1) := dk_28 (dk_at dksX3_years_0 19 rfl rfl)
theorem dX3_years_20 : decode cX3_years 20 = .ok (.i2l, 1) := dk_133 (dk_at dksX3_years_0 20 rfl rfl)
theorem dX3_years_21 : decode cX3_years 21 = .ok (.lconst 1, 1) := dk_10 (dk_at dksX3_years_0 21 rfl rfl)
theorem dX3_years_22 : decode cX3_years 22 = .ok (.ldc2_w 543, 3) := dk_20 2 31 (dk_at dksX3_years_1 0 rfl rfl)
theorem dX3_years_25 : decode cX3_years 25 = .ok (.invokestatic 179, 3) := dk_184 0 179 (dk_at dksX3_years_1 3 rfl rfl)
theorem dX3_years_28 : decode cX3_years 28 = .ok (.ifCond .eq 15, 3) := dk_153 0 15 (dk_at dksX3_years_1 6 rfl rfl)
theorem dX3_years_31 : decode cX3_years 31 = .ok (.iload_n 3, 1) := dk_29 (dk_at dksX3_years_1 9 rfl rfl)
theorem dX3_years_32 : decode cX3_years 32 = .ok (.i2l, 1) := dk_133 (dk_at dksX3_years_1 10 rfl rfl)
theorem dX3_years_33 : decode cX3_years 33 = .ok (.lconst 0, 1) := dk_9 (dk_at dksX3_years_1 11 rfl rfl)
theorem dX3_years_34 : decode cX3_years 34 = .ok (.ldc2_w 597, 3) := dk_20 2 85 (dk_at dksX3_years_1 12 rfl rfl)
theorem dX3_years_37 : decode cX3_years 37 = .ok (.invokestatic 179, 3) := dk_184 0 179 (dk_at dksX3_years_1 15 rfl rfl)
theorem dX3_years_40 : decode cX3_years 40 = .ok (.ifCond .ne 5, 3) := dk_154 0 5 (dk_at dksX3_years_1 18 rfl rfl)
theorem dX3_years_43 : decode cX3_years 43 = .ok (.iconst (-1), 1) := dk_2 (dk_at dksX3_years_1 21 rfl rfl)
theorem dX3_years_44 : decode cX3_years 44 = .ok (.ireturn, 1) := dk_172 (dk_at dksX3_years_1 22 rfl rfl)
theorem dX3_years_45 : decode cX3_years 45 = .ok (.aload_n 0, 1) := dk_42 (dk_at dksX3_years_1 23 rfl rfl)
theorem dX3_years_46 : decode cX3_years 46 = .ok (.getfield 9, 3) := dk_180 0 9 (dk_at dksX3_years_2 0 rfl rfl)
theorem dX3_years_49 : decode cX3_years 49 = .ok (.bipush 8, 2) := dk_16 8 (dk_at dksX3_years_2 3 rfl rfl)
theorem dX3_years_51 : decode cX3_years 51 = .ok (.iaload, 1) := dk_46 (dk_at dksX3_years_2 5 rfl rfl)
theorem dX3_years_52 : decode cX3_years 52 = .ok (.istore 4, 2) := dk_54 4 (dk_at dksX3_years_2 6 rfl rfl)
theorem dX3_years_54 : decode cX3_years 54 = .ok (.iload 4, 2) := dk_21 4 (dk_at dksX3_years_2 8 rfl rfl)
theorem dX3_years_56 : decode cX3_years 56 = .ok (.istore 5, 2) := dk_54 5 (dk_at dksX3_years_2 10 rfl rfl)
theorem dX3_years_58 : decode cX3_years 58 = .ok (.aload_n 0, 1) := dk_42 (dk_at dksX3_years_2 12 rfl rfl)
theorem dX3_years_59 : decode cX3_years 59 = .ok (.iconst 0, 1) := dk_3 (dk_at dksX3_years_2 13 rfl rfl)
theorem dX3_years_60 : decode cX3_years 60 = .ok (.putfield 615, 3) := dk_181 2 103 (dk_at dksX3_years_2 14 rfl rfl)
theorem dX3_years_63 : decode cX3_years 63 = .ok (.aload_n 0, 1) := dk_42 (dk_at dksX3_years_2 17 rfl rfl)
theorem dX3_years_64 : decode cX3_years 64 = .ok (.iconst 0, 1) := dk_3 (dk_at dksX3_years_2 18 rfl rfl)
theorem dX3_years_65 : decode cX3_years 65 = .ok (.putfield 618, 3) := dk_181 2 106 (dk_at dksX3_years_2 19 rfl rfl)
theorem dX3_years_68 : decode cX3_years 68 = .ok (.iconst 0, 1) := dk_3 (dk_at dksX3_years_2 22 rfl rfl)
theorem dX3_years_69 : decode cX3_years 69 = .ok (.istore 6, 2) := dk_54 6 (dk_at dksX3_years_3 0 rfl rfl)
theorem dX3_years_71 : decode cX3_years 71 = .ok (.aload_n 0, 1) := dk_42 (dk_at dksX3_years_3 2 rfl rfl)
theorem dX3_years_72 : decode cX3_years 72 = .ok (.invokevirtual 562, 3) := dk_182 2 50 (dk_at dksX3_years_3 3 rfl rfl)
theorem dX3_years_75 : decode cX3_years 75 = .ok (.iconst 0, 1) := dk_3 (dk_at dksX3_years_3 6 rfl rfl)
theorem dX3_years_76 : decode cX3_years 76 = .ok (.istore 7, 2) := dk_54 7 (dk_at dksX3_years_3 7 rfl rfl)
theorem dX3_years_78 : decode cX3_years 78 = .ok (.iload 7, 2) := dk_21 7 (dk_at dksX3_years_3 9 rfl rfl)
theorem dX3_years_80 : decode cX3_years 80 = .ok (.iload_n 1, 1) := dk_27 (dk_at dksX3_years_3 11 rfl rfl)
theorem dX3_years_81 : decode cX3_years 81 = .ok (.if_icmp .ge 47, 3) := dk_162 0 47 (dk_at dksX3_years_3 12 rfl rfl)
theorem dX3_years_84 : decode cX3_years 84 = .ok (.aload_n 0, 1) := dk_42 (dk_at dksX3_years_3 15 rfl rfl)
theorem dX3_years_85 : decode cX3_years 85 = .ok (.getfield 9, 3) := dk_180 0 9 (dk_at dksX3_years_3 16 rfl rfl)
theorem dX3_years_88 : decode cX3_years 88 = .ok (.bipush 8, 2) := dk_16 8 (dk_at dksX3_years_3 19 rfl rfl)
theorem dX3_years_90 : decode cX3_years 90 = .ok (.iload 5, 2) := dk_21 5 (dk_at dksX3_years_3 21 rfl rfl)
theorem dX3_years_92 : decode cX3_years 92 = .ok (.iastore, 1) := dk_79 (dk_at dksX3_years_3 23 rfl rfl)
theorem dX3_years_93 : decode cX3_years 93 = .ok (.aload_n 0, 1) := dk_42 (dk_at dksX3_years_4 0 rfl rfl)
theorem dX3_years_94 : decode cX3_years 94 = .ok (.iload_n 2, 1) := dk_28 (dk_at dksX3_years_4 1 rfl rfl)
theorem dX3_years_95 : decode cX3_years 95 = .ok (.invokevirtual 623, 3) := dk_182 2 111 (dk_at dksX3_years_4 2 rfl rfl)
theorem dX3_years_98 : decode cX3_years 98 = .ok (.iload 6, 2) := dk_21 6 (dk_at dksX3_years_4 5 rfl rfl)
theorem dX3_years_100 : decode cX3_years 100 = .ok (.aload_n 0, 1) := dk_42 (dk_at dksX3_years_4 7 rfl rfl)
theorem dX3_years_101 : decode cX3_years 101 = .ok (.bipush 6, 2) := dk_16 6 (dk_at dksX3_years_4 8 rfl rfl)
theorem dX3_years_103 : decode cX3_years 103 = .ok (.invokevirtual 454, 3) := dk_182 1 198 (dk_at dksX3_years_4 10 rfl rfl)
theorem dX3_years_106 : decode cX3_years 106 = .ok (.iadd, 1) := dk_96 (dk_at dksX3_years_4 13 rfl rfl)
theorem dX3_years_107 : decode cX3_years 107 = .ok (.istore 6, 2) := dk_54 6 (dk_at dksX3_years_4 14 rfl rfl)
theorem dX3_years_109 : decode cX3_years 109 = .ok (.aload_n 0, 1) := dk_42 (dk_at dksX3_years_4 16 rfl rfl)
theorem dX3_years_110 : decode cX3_years 110 = .ok (.getfield 9, 3) := dk_180 0 9 (dk_at dksX3_years_4 17 rfl rfl)
theorem dX3_years_113 : decode cX3_years 113 = .ok (.bipush 8, 2) := dk_16 8 (dk_at dksX3_years_4 20 rfl rfl)
theorem dX3_years_115 : decode cX3_years 115 = .ok (.iaload, 1) := dk_46 (dk_at dksX3_years_4 22 rfl rfl)
theorem dX3_years_116 : decode cX3_years 116 = .ok (.istore 5, 2) := dk_54 5 (dk_at dksX3_years_5 0 rfl rfl)
theorem dX3_years_118 : decode cX3_years 118 = .ok (.aload_n 0, 1) := dk_42 (dk_at dksX3_years_5 2 rfl rfl)
theorem dX3_years_119 : decode cX3_years 119 = .ok (.invokevirtual 568, 3) := dk_182 2 56 (dk_at dksX3_years_5 3 rfl rfl)
theorem dX3_years_122 : decode cX3_years 122 = .ok (.iinc 7 1, 3) := dk_132 7 1 (dk_at dksX3_years_5 6 rfl rfl)
theorem dX3_years_125 : decode cX3_years 125 = .ok (.goto (-47), 3) := dk_167 255 209 (dk_at dksX3_years_5 9 rfl rfl)
theorem dX3_years_128 : decode cX3_years 128 = .ok (.aload_n 0, 1) := dk_42 (dk_at dksX3_years_5 12 rfl rfl)
theorem dX3_years_129 : decode cX3_years 129 = .ok (.getfield 9, 3) := dk_180 0 9 (dk_at dksX3_years_5 13 rfl rfl)
theorem dX3_years_132 : decode cX3_years 132 = .ok (.bipush 8, 2) := dk_16 8 (dk_at dksX3_years_5 16 rfl rfl)
theorem dX3_years_134 : decode cX3_years 134 = .ok (.iload 4, 2) := dk_21 4 (dk_at dksX3_years_5 18 rfl rfl)
theorem dX3_years_136 : decode cX3_years 136 = .ok (.iastore, 1) := dk_79 (dk_at dksX3_years_5 20 rfl rfl)
theorem dX3_years_137 : decode cX3_years 137 = .ok (.iload_n 3, 1) := dk_29 (dk_at dksX3_years_5 21 rfl rfl)
theorem dX3_years_138 : decode cX3_years 138 = .ok (.ifCond .ne 10, 3) := dk_154 0 10 (dk_at dksX3_years_6 0 rfl rfl)
theorem dX3_years_141 : decode cX3_years 141 = .ok (.aload_n 0, 1) := dk_42 (dk_at dksX3_years_6 3 rfl rfl)
theorem dX3_years_142 : decode cX3_years 142 = .ok (.getfield 615, 3) := dk_180 2 103 (dk_at dksX3_years_6 4 rfl rfl)
theorem dX3_years_145 : decode cX3_years 145 = .ok (.goto 17, 3) := dk_167 0 17 (dk_at dksX3_years_6 7 rfl rfl)
theorem dX3_years_148 : decode cX3_years 148 = .ok (.iload_n 3, 1) := dk_29 (dk_at dksX3_years_6 10 rfl rfl)
theorem dX3_years_149 : decode cX3_years 149 = .ok (.iconst 1, 1) := dk_4 (dk_at dksX3_years_6 11 rfl rfl)
theorem dX3_years_150 : decode cX3_years 150 = .ok (.if_icmp .ne 10, 3) := dk_160 0 10 (dk_at dksX3_years_6 12 rfl rfl)
theorem dX3_years_153 : decode cX3_years 153 = .ok (.aload_n 0, 1) := dk_42 (dk_at dksX3_years_6 15 rfl rfl)
theorem dX3_years_154 : decode cX3_years 154 = .ok (.getfield 618, 3) := dk_180 2 106 (dk_at dksX3_years_6 16 rfl rfl)
theorem dX3_years_157 : decode cX3_years 157 = .ok (.goto 5, 3) := dk_167 0 5 (dk_at dksX3_years_6 19 rfl rfl)
theorem dX3_years_160 : decode cX3_years 160 = .ok (.iload 6, 2) := dk_21 6 (dk_at dksX3_years_6 22 rfl rfl)
theorem dX3_years_162 : decode cX3_years 162 = .ok (.ireturn, 1) := dk_172 (dk_at dksX3_years_7 0 rfl rfl)
abbrev cX3_drawnDays : ByteArray := prog_21_method_130_code
def yX3_drawnDays : MethodName := ⟨RX3, "drawnDays", "(I)V"⟩
def dkwX3_drawnDays_4 : List UInt8 := [132, 3, 1, 167, 255, 172, 42, 182, 2, 15, 132, 2, 1, 167, 255, 155, 177]
abbrev dktX3_drawnDays_4 : List UInt8 := dkwX3_drawnDays_4 ++ []
def dkwX3_drawnDays_3 : List UInt8 := [181, 2, 103, 42, 89, 180, 2, 106, 21, 4, 5, 162, 0, 7, 4, 167, 0, 4, 3, 96, 181, 2, 106]
abbrev dktX3_drawnDays_3 : List UInt8 := dkwX3_drawnDays_3 ++ dktX3_drawnDays_4
def dkwX3_drawnDays_2 : List UInt8 := [182, 2, 6, 54, 4, 42, 89, 180, 2, 103, 21, 4, 6, 160, 0, 7, 4, 167, 0, 4, 3, 96]
abbrev dktX3_drawnDays_2 : List UInt8 := dkwX3_drawnDays_2 ++ dktX3_drawnDays_3
def dkwX3_drawnDays_1 : List UInt8 := [158, 0, 73, 42, 180, 0, 25, 29, 46, 154, 0, 58, 42, 29, 42, 42, 180, 0, 183, 182, 2, 100]
abbrev dktX3_drawnDays_1 : List UInt8 := dkwX3_drawnDays_1 ++ dktX3_drawnDays_2
def dkwX3_drawnDays_0 : List UInt8 := [3, 61, 28, 27, 162, 0, 102, 3, 62, 29, 42, 180, 0, 9, 5, 46, 162, 0, 80, 42, 180, 0, 183]
abbrev dktX3_drawnDays_0 : List UInt8 := dkwX3_drawnDays_0 ++ dktX3_drawnDays_1
theorem dksX3_drawnDays_0 : cX3_drawnDays.data.toList.drop 0 = dktX3_drawnDays_0 := by decide +kernel
theorem dksX3_drawnDays_1 : cX3_drawnDays.data.toList.drop 23 = dktX3_drawnDays_1 := dk_seg dksX3_drawnDays_0 23 rfl rfl
theorem dksX3_drawnDays_2 : cX3_drawnDays.data.toList.drop 45 = dktX3_drawnDays_2 := dk_seg dksX3_drawnDays_1 22 rfl rfl
theorem dksX3_drawnDays_3 : cX3_drawnDays.data.toList.drop 67 = dktX3_drawnDays_3 := dk_seg dksX3_drawnDays_2 22 rfl rfl
theorem dksX3_drawnDays_4 : cX3_drawnDays.data.toList.drop 90 = dktX3_drawnDays_4 := dk_seg dksX3_drawnDays_3 23 rfl rfl
theorem dX3_drawnDays_0 : decode cX3_drawnDays 0 = .ok (.iconst 0, 1) := dk_3 (dk_at dksX3_drawnDays_0 0 rfl rfl)
theorem dX3_drawnDays_1 : decode cX3_drawnDays 1 = .ok (.istore_n 2, 1) := dk_61 (dk_at dksX3_drawnDays_0 1 rfl rfl)
theorem dX3_drawnDays_2 : decode cX3_drawnDays 2 = .ok (.iload_n 2, 1) := dk_28 (dk_at dksX3_drawnDays_0 2 rfl rfl)
theorem dX3_drawnDays_3 : decode cX3_drawnDays 3 = .ok (.iload_n 1, 1) := dk_27 (dk_at dksX3_drawnDays_0 3 rfl rfl)
theorem dX3_drawnDays_4 : decode cX3_drawnDays 4 = .ok (.if_icmp .ge 102, 3) := dk_162 0 102 (dk_at dksX3_drawnDays_0 4 rfl rfl)
theorem dX3_drawnDays_7 : decode cX3_drawnDays 7 = .ok (.iconst 0, 1) := dk_3 (dk_at dksX3_drawnDays_0 7 rfl rfl)
theorem dX3_drawnDays_8 : decode cX3_drawnDays 8 = .ok (.istore_n 3, 1) := dk_62 (dk_at dksX3_drawnDays_0 8 rfl rfl)
theorem dX3_drawnDays_9 : decode cX3_drawnDays 9 = .ok (.iload_n 3, 1) := dk_29 (dk_at dksX3_drawnDays_0 9 rfl rfl)
theorem dX3_drawnDays_10 : decode cX3_drawnDays 10 = .ok (.aload_n 0, 1) := dk_42 (dk_at dksX3_drawnDays_0 10 rfl rfl)
theorem dX3_drawnDays_11 : decode cX3_drawnDays 11 = .ok (.getfield 9, 3) := dk_180 0 9 (dk_at dksX3_drawnDays_0 11 rfl rfl)
theorem dX3_drawnDays_14 : decode cX3_drawnDays 14 = .ok (.iconst 2, 1) := dk_5 (dk_at dksX3_drawnDays_0 14 rfl rfl)
theorem dX3_drawnDays_15 : decode cX3_drawnDays 15 = .ok (.iaload, 1) := dk_46 (dk_at dksX3_drawnDays_0 15 rfl rfl)
theorem dX3_drawnDays_16 : decode cX3_drawnDays 16 = .ok (.if_icmp .ge 80, 3) := dk_162 0 80 (dk_at dksX3_drawnDays_0 16 rfl rfl)
theorem dX3_drawnDays_19 : decode cX3_drawnDays 19 = .ok (.aload_n 0, 1) := dk_42 (dk_at dksX3_drawnDays_0 19 rfl rfl)
theorem dX3_drawnDays_20 : decode cX3_drawnDays 20 = .ok (.getfield 183, 3) := dk_180 0 183 (dk_at dksX3_drawnDays_0 20 rfl rfl)
theorem dX3_drawnDays_23 : decode cX3_drawnDays 23 = .ok (.ifCond .le 73, 3) := dk_158 0 73 (dk_at dksX3_drawnDays_1 0 rfl rfl)
theorem dX3_drawnDays_26 : decode cX3_drawnDays 26 = .ok (.aload_n 0, 1) := dk_42 (dk_at dksX3_drawnDays_1 3 rfl rfl)
theorem dX3_drawnDays_27 : decode cX3_drawnDays 27 = .ok (.getfield 25, 3) := dk_180 0 25 (dk_at dksX3_drawnDays_1 4 rfl rfl)
theorem dX3_drawnDays_30 : decode cX3_drawnDays 30 = .ok (.iload_n 3, 1) := dk_29 (dk_at dksX3_drawnDays_1 7 rfl rfl)
theorem dX3_drawnDays_31 : decode cX3_drawnDays 31 = .ok (.iaload, 1) := dk_46 (dk_at dksX3_drawnDays_1 8 rfl rfl)
theorem dX3_drawnDays_32 : decode cX3_drawnDays 32 = .ok (.ifCond .ne 58, 3) := dk_154 0 58 (dk_at dksX3_drawnDays_1 9 rfl rfl)
theorem dX3_drawnDays_35 : decode cX3_drawnDays 35 = .ok (.aload_n 0, 1) := dk_42 (dk_at dksX3_drawnDays_1 12 rfl rfl)
theorem dX3_drawnDays_36 : decode cX3_drawnDays 36 = .ok (.iload_n 3, 1) := dk_29 (dk_at dksX3_drawnDays_1 13 rfl rfl)
theorem dX3_drawnDays_37 : decode cX3_drawnDays 37 = .ok (.aload_n 0, 1) := dk_42 (dk_at dksX3_drawnDays_1 14 rfl rfl)
theorem dX3_drawnDays_38 : decode cX3_drawnDays 38 = .ok (.aload_n 0, 1) := dk_42 (dk_at dksX3_drawnDays_1 15 rfl rfl)
theorem dX3_drawnDays_39 : decode cX3_drawnDays 39 = .ok (.getfield 183, 3) := dk_180 0 183 (dk_at dksX3_drawnDays_1 16 rfl rfl)
theorem dX3_drawnDays_42 : decode cX3_drawnDays 42 = .ok (.invokevirtual 612, 3) := dk_182 2 100 (dk_at dksX3_drawnDays_1 19 rfl rfl)
theorem dX3_drawnDays_45 : decode cX3_drawnDays 45 = .ok (.invokevirtual 518, 3) := dk_182 2 6 (dk_at dksX3_drawnDays_2 0 rfl rfl)
theorem dX3_drawnDays_48 : decode cX3_drawnDays 48 = .ok (.istore 4, 2) := dk_54 4 (dk_at dksX3_drawnDays_2 3 rfl rfl)
theorem dX3_drawnDays_50 : decode cX3_drawnDays 50 = .ok (.aload_n 0, 1) := dk_42 (dk_at dksX3_drawnDays_2 5 rfl rfl)
theorem dX3_drawnDays_51 : decode cX3_drawnDays 51 = .ok (.dup, 1) := dk_89 (dk_at dksX3_drawnDays_2 6 rfl rfl)
theorem dX3_drawnDays_52 : decode cX3_drawnDays 52 = .ok (.getfield 615, 3) := dk_180 2 103 (dk_at dksX3_drawnDays_2 7 rfl rfl)
theorem dX3_drawnDays_55 : decode cX3_drawnDays 55 = .ok (.iload 4, 2) := dk_21 4 (dk_at dksX3_drawnDays_2 10 rfl rfl)
theorem dX3_drawnDays_57 : decode cX3_drawnDays 57 = .ok (.iconst 3, 1) := dk_6 (dk_at dksX3_drawnDays_2 12 rfl rfl)
theorem dX3_drawnDays_58 : decode cX3_drawnDays 58 = .ok (.if_icmp .ne 7, 3) := dk_160 0 7 (dk_at dksX3_drawnDays_2 13 rfl rfl)
theorem dX3_drawnDays_61 : decode cX3_drawnDays 61 = .ok (.iconst 1, 1) := dk_4 (dk_at dksX3_drawnDays_2 16 rfl rfl)
theorem dX3_drawnDays_62 : decode cX3_drawnDays 62 = .ok (.goto 4, 3) := dk_167 0 4 (dk_at dksX3_drawnDays_2 17 rfl rfl)
theorem dX3_drawnDays_65 : decode cX3_drawnDays 65 = .ok (.iconst 0, 1) := dk_3 (dk_at dksX3_drawnDays_2 20 rfl rfl)
theorem dX3_drawnDays_66 : decode cX3_drawnDays 66 = .ok (.iadd, 1) := dk_96 (dk_at dksX3_drawnDays_2 21 rfl rfl)
theorem dX3_drawnDays_67 : decode cX3_drawnDays 67 = .ok (.putfield 615, 3) := dk_181 2 103 (dk_at dksX3_drawnDays_3 0 rfl rfl)
theorem dX3_drawnDays_70 : decode cX3_drawnDays 70 = .ok (.aload_n 0, 1) := dk_42 (dk_at dksX3_drawnDays_3 3 rfl rfl)
theorem dX3_drawnDays_71 : decode cX3_drawnDays 71 = .ok (.dup, 1) := dk_89 (dk_at dksX3_drawnDays_3 4 rfl rfl)
theorem dX3_drawnDays_72 : decode cX3_drawnDays 72 = .ok (.getfield 618, 3) := dk_180 2 106 (dk_at dksX3_drawnDays_3 5 rfl rfl)
theorem dX3_drawnDays_75 : decode cX3_drawnDays 75 = .ok (.iload 4, 2) := dk_21 4 (dk_at dksX3_drawnDays_3 8 rfl rfl)
theorem dX3_drawnDays_77 : decode cX3_drawnDays 77 = .ok (.iconst 2, 1) := dk_5 (dk_at dksX3_drawnDays_3 10 rfl rfl)
theorem dX3_drawnDays_78 : decode cX3_drawnDays 78 = .ok (.if_icmp .ge 7, 3) := dk_162 0 7 (dk_at dksX3_drawnDays_3 11 rfl rfl)
theorem dX3_drawnDays_81 : decode cX3_drawnDays 81 = .ok (.iconst 1, 1) := dk_4 (dk_at dksX3_drawnDays_3 14 rfl rfl)
theorem dX3_drawnDays_82 : decode cX3_drawnDays 82 = .ok (.goto 4, 3) := dk_167 0 4 (dk_at dksX3_drawnDays_3 15 rfl rfl)
theorem dX3_drawnDays_85 : decode cX3_drawnDays 85 = .ok (.iconst 0, 1) := dk_3 (dk_at dksX3_drawnDays_3 18 rfl rfl)
theorem dX3_drawnDays_86 : decode cX3_drawnDays 86 = .ok (.iadd, 1) := dk_96 (dk_at dksX3_drawnDays_3 19 rfl rfl)
theorem dX3_drawnDays_87 : decode cX3_drawnDays 87 = .ok (.putfield 618, 3) := dk_181 2 106 (dk_at dksX3_drawnDays_3 20 rfl rfl)
theorem dX3_drawnDays_90 : decode cX3_drawnDays 90 = .ok (.iinc 3 1, 3) := dk_132 3 1 (dk_at dksX3_drawnDays_4 0 rfl rfl)
theorem dX3_drawnDays_93 : decode cX3_drawnDays 93 = .ok (.goto (-84), 3) := dk_167 255 172 (dk_at dksX3_drawnDays_4 3 rfl rfl)
theorem dX3_drawnDays_96 : decode cX3_drawnDays 96 = .ok (.aload_n 0, 1) := dk_42 (dk_at dksX3_drawnDays_4 6 rfl rfl)
theorem dX3_drawnDays_97 : decode cX3_drawnDays 97 = .ok (.invokevirtual 527, 3) := dk_182 2 15 (dk_at dksX3_drawnDays_4 7 rfl rfl)
theorem dX3_drawnDays_100 : decode cX3_drawnDays 100 = .ok (.iinc 2 1, 3) := dk_132 2 1 (dk_at dksX3_drawnDays_4 10 rfl rfl)
theorem dX3_drawnDays_103 : decode cX3_drawnDays 103 = .ok (.goto (-101), 3) := dk_167 255 155 (dk_at dksX3_drawnDays_4 13 rfl rfl)
theorem dX3_drawnDays_106 : decode cX3_drawnDays 106 = .ok (.return_, 1) := dk_177 (dk_at dksX3_drawnDays_4 16 rfl rfl)
abbrev cX3_draws : ByteArray := prog_21_method_129_code
def yX3_draws : MethodName := ⟨RX3, "draws", "(I)I"⟩
def dkwX3_draws_1 : List UInt8 := [20, 2, 97, 113, 136, 79, 42, 180, 0, 9, 16, 8, 46, 19, 2, 99, 108, 27, 112, 172]
abbrev dktX3_draws_1 : List UInt8 := dkwX3_draws_1 ++ []
def dkwX3_draws_0 : List UInt8 := [42, 180, 0, 9, 16, 8, 42, 180, 0, 9, 16, 8, 46, 133, 20, 2, 93, 105, 20, 2, 95, 97]
abbrev dktX3_draws_0 : List UInt8 := dkwX3_draws_0 ++ dktX3_draws_1
theorem dksX3_draws_0 : cX3_draws.data.toList.drop 0 = dktX3_draws_0 := by decide +kernel
theorem dksX3_draws_1 : cX3_draws.data.toList.drop 22 = dktX3_draws_1 := dk_seg dksX3_draws_0 22 rfl rfl
theorem dX3_draws_0 : decode cX3_draws 0 = .ok (.aload_n 0, 1) := dk_42 (dk_at dksX3_draws_0 0 rfl rfl)
theorem dX3_draws_1 : decode cX3_draws 1 = .ok (.getfield 9, 3) := dk_180 0 9 (dk_at dksX3_draws_0 1 rfl rfl)
theorem dX3_draws_4 : decode cX3_draws 4 = .ok (.bipush 8, 2) := dk_16 8 (dk_at dksX3_draws_0 4 rfl rfl)
theorem dX3_draws_6 : decode cX3_draws 6 = .ok (.aload_n 0, 1) := dk_42 (dk_at dksX3_draws_0 6 rfl rfl)
theorem dX3_draws_7 : decode cX3_draws 7 = .ok (.getfield 9, 3) := dk_180 0 9 (dk_at dksX3_draws_0 7 rfl rfl)
theorem dX3_draws_10 : decode cX3_draws 10 = .ok (.bipush 8, 2) := dk_16 8 (dk_at dksX3_draws_0 10 rfl rfl)
theorem dX3_draws_12 : decode cX3_draws 12 = .ok (.iaload, 1) := dk_46 (dk_at dksX3_draws_0 12 rfl rfl)
theorem dX3_draws_13 : decode cX3_draws 13 = .ok (.i2l, 1) := dk_133 (dk_at dksX3_draws_0 13 rfl rfl)
theorem dX3_draws_14 : decode cX3_draws 14 = .ok (.ldc2_w 605, 3) := dk_20 2 93 (dk_at dksX3_draws_0 14 rfl rfl)
theorem dX3_draws_17 : decode cX3_draws 17 = .ok (.lmul, 1) := dk_105 (dk_at dksX3_draws_0 17 rfl rfl)
theorem dX3_draws_18 : decode cX3_draws 18 = .ok (.ldc2_w 607, 3) := dk_20 2 95 (dk_at dksX3_draws_0 18 rfl rfl)
theorem dX3_draws_21 : decode cX3_draws 21 = .ok (.ladd, 1) := dk_97 (dk_at dksX3_draws_0 21 rfl rfl)
theorem dX3_draws_22 : decode cX3_draws 22 = .ok (.ldc2_w 609, 3) := dk_20 2 97 (dk_at dksX3_draws_1 0 rfl rfl)
theorem dX3_draws_25 : decode cX3_draws 25 = .ok (.lrem, 1) := dk_113 (dk_at dksX3_draws_1 3 rfl rfl)
theorem dX3_draws_26 : decode cX3_draws 26 = .ok (.l2i, 1) := dk_136 (dk_at dksX3_draws_1 4 rfl rfl)
theorem dX3_draws_27 : decode cX3_draws 27 = .ok (.iastore, 1) := dk_79 (dk_at dksX3_draws_1 5 rfl rfl)
theorem dX3_draws_28 : decode cX3_draws 28 = .ok (.aload_n 0, 1) := dk_42 (dk_at dksX3_draws_1 6 rfl rfl)
theorem dX3_draws_29 : decode cX3_draws 29 = .ok (.getfield 9, 3) := dk_180 0 9 (dk_at dksX3_draws_1 7 rfl rfl)
theorem dX3_draws_32 : decode cX3_draws 32 = .ok (.bipush 8, 2) := dk_16 8 (dk_at dksX3_draws_1 10 rfl rfl)
theorem dX3_draws_34 : decode cX3_draws 34 = .ok (.iaload, 1) := dk_46 (dk_at dksX3_draws_1 12 rfl rfl)
theorem dX3_draws_35 : decode cX3_draws 35 = .ok (.ldc_w 611, 3) := dk_19 2 99 (dk_at dksX3_draws_1 13 rfl rfl)
theorem dX3_draws_38 : decode cX3_draws 38 = .ok (.idiv, 1) := dk_108 (dk_at dksX3_draws_1 16 rfl rfl)
theorem dX3_draws_39 : decode cX3_draws 39 = .ok (.iload_n 1, 1) := dk_27 (dk_at dksX3_draws_1 17 rfl rfl)
theorem dX3_draws_40 : decode cX3_draws 40 = .ok (.irem, 1) := dk_112 (dk_at dksX3_draws_1 18 rfl rfl)
theorem dX3_draws_41 : decode cX3_draws 41 = .ok (.ireturn, 1) := dk_172 (dk_at dksX3_draws_1 19 rfl rfl)
abbrev cX3_count : ByteArray := prog_21_method_132_code
def yX3_count : MethodName := ⟨RX3, "count", "(I)I"⟩
def dkwX3_count_6 : List UInt8 := [180, 0, 9, 16, 8, 46, 172, 42, 180, 0, 194, 172, 2, 172]
abbrev dktX3_count_6 : List UInt8 := dkwX3_count_6 ++ []
def dkwX3_count_5 : List UInt8 := [182, 1, 198, 167, 0, 4, 2, 172, 42, 180, 0, 9, 16, 7, 46, 172, 42, 180, 1, 100, 172, 42]
abbrev dktX3_count_5 : List UInt8 := dkwX3_count_5 ++ dktX3_count_6
def dkwX3_count_4 : List UInt8 := [172, 42, 180, 1, 171, 172, 42, 180, 0, 9, 16, 6, 46, 172, 42, 182, 0, 186, 153, 0, 12, 42, 16, 6]
abbrev dktX3_count_4 : List UInt8 := dkwX3_count_4 ++ dktX3_count_5
def dkwX3_count_3 : List UInt8 := [180, 0, 9, 6, 46, 172, 42, 180, 0, 9, 7, 46, 172, 42, 180, 0, 9, 8, 46, 172, 42, 180, 0, 183]
abbrev dktX3_count_3 : List UInt8 := dkwX3_count_3 ++ dktX3_count_4
def dkwX3_count_2 : List UInt8 := [42, 180, 0, 9, 3, 46, 172, 42, 180, 0, 9, 4, 46, 172, 42, 180, 0, 9, 5, 46, 172, 42]
abbrev dktX3_count_2 : List UInt8 := dkwX3_count_2 ++ dktX3_count_3
def dkwX3_count_1 : List UInt8 := [170, 0, 0, 0, 0, 0, 175, 0, 0, 0, 0, 0, 0, 0, 13, 0, 0, 0, 71, 0, 0, 0, 78, 0, 0, 0, 85, 0, 0, 0, 92, 0, 0, 0, 99, 0, 0, 0, 106, 0, 0, 0, 113, 0, 0, 0, 118, 0, 0, 0, 123, 0, 0, 0, 131, 0, 0, 0, 149, 0, 0, 0, 157, 0, 0, 0, 162, 0, 0, 0, 170]
abbrev dktX3_count_1 : List UInt8 := dkwX3_count_1 ++ dktX3_count_2
def dkwX3_count_0 : List UInt8 := [27]
abbrev dktX3_count_0 : List UInt8 := dkwX3_count_0 ++ dktX3_count_1
theorem dksX3_count_0 : cX3_count.data.toList.drop 0 = dktX3_count_0 := by decide +kernel
theorem dksX3_count_1 : cX3_count.data.toList.drop 1 = dktX3_count_1 := dk_seg dksX3_count_0 1 rfl rfl
theorem dksX3_count_2 : cX3_count.data.toList.drop 72 = dktX3_count_2 := dk_seg dksX3_count_1 71 rfl rfl
theorem dksX3_count_3 : cX3_count.data.toList.drop 94 = dktX3_count_3 := dk_seg dksX3_count_2 22 rfl rfl
theorem dksX3_count_4 : cX3_count.data.toList.drop 118 = dktX3_count_4 := dk_seg dksX3_count_3 24 rfl rfl
theorem dksX3_count_5 : cX3_count.data.toList.drop 142 = dktX3_count_5 := dk_seg dksX3_count_4 24 rfl rfl
theorem dksX3_count_6 : cX3_count.data.toList.drop 164 = dktX3_count_6 := dk_seg dksX3_count_5 22 rfl rfl
theorem dX3_count_0 : decode cX3_count 0 = .ok (.iload_n 1, 1) := dk_27 (dk_at dksX3_count_0 0 rfl rfl)
theorem dX3_count_1 : decode cX3_count 1 = .ok (.tableswitch 175 0 13 #[71, 78, 85, 92, 99, 106, 113, 118, 123, 131, 149, 157, 162, 170], 71) := by decide +kernel
theorem dX3_count_72 : decode cX3_count 72 = .ok (.aload_n 0, 1) := dk_42 (dk_at dksX3_count_2 0 rfl rfl)
theorem dX3_count_73 : decode cX3_count 73 = .ok (.getfield 9, 3) := dk_180 0 9 (dk_at dksX3_count_2 1 rfl rfl)
theorem dX3_count_76 : decode cX3_count 76 = .ok (.iconst 0, 1) := dk_3 (dk_at dksX3_count_2 4 rfl rfl)
theorem dX3_count_77 : decode cX3_count 77 = .ok (.iaload, 1) := dk_46 (dk_at dksX3_count_2 5 rfl rfl)
theorem dX3_count_78 : decode cX3_count 78 = .ok (.ireturn, 1) := dk_172 (dk_at dksX3_count_2 6 rfl rfl)
theorem dX3_count_79 : decode cX3_count 79 = .ok (.aload_n 0, 1) := dk_42 (dk_at dksX3_count_2 7 rfl rfl)
theorem dX3_count_80 : decode cX3_count 80 = .ok (.getfield 9, 3) := dk_180 0 9 (dk_at dksX3_count_2 8 rfl rfl)
theorem dX3_count_83 : decode cX3_count 83 = .ok (.iconst 1, 1) := dk_4 (dk_at dksX3_count_2 11 rfl rfl)
theorem dX3_count_84 : decode cX3_count 84 = .ok (.iaload, 1) := dk_46 (dk_at dksX3_count_2 12 rfl rfl)
theorem dX3_count_85 : decode cX3_count 85 = .ok (.ireturn, 1) := dk_172 (dk_at dksX3_count_2 13 rfl rfl)
theorem dX3_count_86 : decode cX3_count 86 = .ok (.aload_n 0, 1) := dk_42 (dk_at dksX3_count_2 14 rfl rfl)
theorem dX3_count_87 : decode cX3_count 87 = .ok (.getfield 9, 3) := dk_180 0 9 (dk_at dksX3_count_2 15 rfl rfl)
theorem dX3_count_90 : decode cX3_count 90 = .ok (.iconst 2, 1) := dk_5 (dk_at dksX3_count_2 18 rfl rfl)
theorem dX3_count_91 : decode cX3_count 91 = .ok (.iaload, 1) := dk_46 (dk_at dksX3_count_2 19 rfl rfl)
theorem dX3_count_92 : decode cX3_count 92 = .ok (.ireturn, 1) := dk_172 (dk_at dksX3_count_2 20 rfl rfl)
theorem dX3_count_93 : decode cX3_count 93 = .ok (.aload_n 0, 1) := dk_42 (dk_at dksX3_count_2 21 rfl rfl)
theorem dX3_count_94 : decode cX3_count 94 = .ok (.getfield 9, 3) := dk_180 0 9 (dk_at dksX3_count_3 0 rfl rfl)
theorem dX3_count_97 : decode cX3_count 97 = .ok (.iconst 3, 1) := dk_6 (dk_at dksX3_count_3 3 rfl rfl)
theorem dX3_count_98 : decode cX3_count 98 = .ok (.iaload, 1) := dk_46 (dk_at dksX3_count_3 4 rfl rfl)
theorem dX3_count_99 : decode cX3_count 99 = .ok (.ireturn, 1) := dk_172 (dk_at dksX3_count_3 5 rfl rfl)
theorem dX3_count_100 : decode cX3_count 100 = .ok (.aload_n 0, 1) := dk_42 (dk_at dksX3_count_3 6 rfl rfl)
theorem dX3_count_101 : decode cX3_count 101 = .ok (.getfield 9, 3) := dk_180 0 9 (dk_at dksX3_count_3 7 rfl rfl)
theorem dX3_count_104 : decode cX3_count 104 = .ok (.iconst 4, 1) := dk_7 (dk_at dksX3_count_3 10 rfl rfl)
theorem dX3_count_105 : decode cX3_count 105 = .ok (.iaload, 1) := dk_46 (dk_at dksX3_count_3 11 rfl rfl)
theorem dX3_count_106 : decode cX3_count 106 = .ok (.ireturn, 1) := dk_172 (dk_at dksX3_count_3 12 rfl rfl)
theorem dX3_count_107 : decode cX3_count 107 = .ok (.aload_n 0, 1) := dk_42 (dk_at dksX3_count_3 13 rfl rfl)
theorem dX3_count_108 : decode cX3_count 108 = .ok (.getfield 9, 3) := dk_180 0 9 (dk_at dksX3_count_3 14 rfl rfl)
theorem dX3_count_111 : decode cX3_count 111 = .ok (.iconst 5, 1) := dk_8 (dk_at dksX3_count_3 17 rfl rfl)
theorem dX3_count_112 : decode cX3_count 112 = .ok (.iaload, 1) := dk_46 (dk_at dksX3_count_3 18 rfl rfl)
theorem dX3_count_113 : decode cX3_count 113 = .ok (.ireturn, 1) := dk_172 (dk_at dksX3_count_3 19 rfl rfl)
theorem dX3_count_114 : decode cX3_count 114 = .ok (.aload_n 0, 1) := dk_42 (dk_at dksX3_count_3 20 rfl rfl)
theorem dX3_count_115 : decode cX3_count 115 = .ok (.getfield 183, 3) := dk_180 0 183 (dk_at dksX3_count_3 21 rfl rfl)
theorem dX3_count_118 : decode cX3_count 118 = .ok (.ireturn, 1) := dk_172 (dk_at dksX3_count_4 0 rfl rfl)
theorem dX3_count_119 : decode cX3_count 119 = .ok (.aload_n 0, 1) := dk_42 (dk_at dksX3_count_4 1 rfl rfl)
theorem dX3_count_120 : decode cX3_count 120 = .ok (.getfield 427, 3) := dk_180 1 171 (dk_at dksX3_count_4 2 rfl rfl)
theorem dX3_count_123 : decode cX3_count 123 = .ok (.ireturn, 1) := dk_172 (dk_at dksX3_count_4 5 rfl rfl)
theorem dX3_count_124 : decode cX3_count 124 = .ok (.aload_n 0, 1) := dk_42 (dk_at dksX3_count_4 6 rfl rfl)
theorem dX3_count_125 : decode cX3_count 125 = .ok (.getfield 9, 3) := dk_180 0 9 (dk_at dksX3_count_4 7 rfl rfl)
theorem dX3_count_128 : decode cX3_count 128 = .ok (.bipush 6, 2) := dk_16 6 (dk_at dksX3_count_4 10 rfl rfl)
theorem dX3_count_130 : decode cX3_count 130 = .ok (.iaload, 1) := dk_46 (dk_at dksX3_count_4 12 rfl rfl)
theorem dX3_count_131 : decode cX3_count 131 = .ok (.ireturn, 1) := dk_172 (dk_at dksX3_count_4 13 rfl rfl)
theorem dX3_count_132 : decode cX3_count 132 = .ok (.aload_n 0, 1) := dk_42 (dk_at dksX3_count_4 14 rfl rfl)
theorem dX3_count_133 : decode cX3_count 133 = .ok (.invokevirtual 186, 3) := dk_182 0 186 (dk_at dksX3_count_4 15 rfl rfl)
theorem dX3_count_136 : decode cX3_count 136 = .ok (.ifCond .eq 12, 3) := dk_153 0 12 (dk_at dksX3_count_4 18 rfl rfl)
theorem dX3_count_139 : decode cX3_count 139 = .ok (.aload_n 0, 1) := dk_42 (dk_at dksX3_count_4 21 rfl rfl)
theorem dX3_count_140 : decode cX3_count 140 = .ok (.bipush 6, 2) := dk_16 6 (dk_at dksX3_count_4 22 rfl rfl)
theorem dX3_count_142 : decode cX3_count 142 = .ok (.invokevirtual 454, 3) := dk_182 1 198 (dk_at dksX3_count_5 0 rfl rfl)
theorem dX3_count_145 : decode cX3_count 145 = .ok (.goto 4, 3) := dk_167 0 4 (dk_at dksX3_count_5 3 rfl rfl)
theorem dX3_count_148 : decode cX3_count 148 = .ok (.iconst (-1), 1) := dk_2 (dk_at dksX3_count_5 6 rfl rfl)
theorem dX3_count_149 : decode cX3_count 149 = .ok (.ireturn, 1) := dk_172 (dk_at dksX3_count_5 7 rfl rfl)
theorem dX3_count_150 : decode cX3_count 150 = .ok (.aload_n 0, 1) := dk_42 (dk_at dksX3_count_5 8 rfl rfl)
theorem dX3_count_151 : decode cX3_count 151 = .ok (.getfield 9, 3) := dk_180 0 9 (dk_at dksX3_count_5 9 rfl rfl)
theorem dX3_count_154 : decode cX3_count 154 = .ok (.bipush 7, 2) := dk_16 7 (dk_at dksX3_count_5 12 rfl rfl)
theorem dX3_count_156 : decode cX3_count 156 = .ok (.iaload, 1) := dk_46 (dk_at dksX3_count_5 14 rfl rfl)
theorem dX3_count_157 : decode cX3_count 157 = .ok (.ireturn, 1) := dk_172 (dk_at dksX3_count_5 15 rfl rfl)
theorem dX3_count_158 : decode cX3_count 158 = .ok (.aload_n 0, 1) := dk_42 (dk_at dksX3_count_5 16 rfl rfl)
theorem dX3_count_159 : decode cX3_count 159 = .ok (.getfield 356, 3) := dk_180 1 100 (dk_at dksX3_count_5 17 rfl rfl)
theorem dX3_count_162 : decode cX3_count 162 = .ok (.ireturn, 1) := dk_172 (dk_at dksX3_count_5 20 rfl rfl)
theorem dX3_count_163 : decode cX3_count 163 = .ok (.aload_n 0, 1) := dk_42 (dk_at dksX3_count_5 21 rfl rfl)
theorem dX3_count_164 : decode cX3_count 164 = .ok (.getfield 9, 3) := dk_180 0 9 (dk_at dksX3_count_6 0 rfl rfl)
theorem dX3_count_167 : decode cX3_count 167 = .ok (.bipush 8, 2) := dk_16 8 (dk_at dksX3_count_6 3 rfl rfl)
theorem dX3_count_169 : decode cX3_count 169 = .ok (.iaload, 1) := dk_46 (dk_at dksX3_count_6 5 rfl rfl)
theorem dX3_count_170 : decode cX3_count 170 = .ok (.ireturn, 1) := dk_172 (dk_at dksX3_count_6 6 rfl rfl)
theorem dX3_count_171 : decode cX3_count 171 = .ok (.aload_n 0, 1) := dk_42 (dk_at dksX3_count_6 7 rfl rfl)
theorem dX3_count_172 : decode cX3_count 172 = .ok (.getfield 194, 3) := dk_180 0 194 (dk_at dksX3_count_6 8 rfl rfl)
theorem dX3_count_175 : decode cX3_count 175 = .ok (.ireturn, 1) := dk_172 (dk_at dksX3_count_6 11 rfl rfl)
theorem dX3_count_176 : decode cX3_count 176 = .ok (.iconst (-1), 1) := dk_2 (dk_at dksX3_count_6 12 rfl rfl)
theorem dX3_count_177 : decode cX3_count 177 = .ok (.ireturn, 1) := dk_172 (dk_at dksX3_count_6 13 rfl rfl)
abbrev cX3_image : ByteArray := prog_21_method_135_code
def yX3_image : MethodName := ⟨RX3, "image", "(I)I"⟩
def dkwX3_image_1 : List UInt8 := [182, 2, 47, 42, 180, 0, 9, 16, 6, 46, 172]
abbrev dktX3_image_1 : List UInt8 := dkwX3_image_1 ++ []
def dkwX3_image_0 : List UInt8 := [27, 133, 9, 20, 2, 123, 184, 0, 179, 154, 0, 5, 2, 172, 42, 180, 0, 172, 27, 4, 84, 42, 27, 3]
abbrev dktX3_image_0 : List UInt8 := dkwX3_image_0 ++ dktX3_image_1
theorem dksX3_image_0 : cX3_image.data.toList.drop 0 = dktX3_image_0 := by decide +kernel
theorem dksX3_image_1 : cX3_image.data.toList.drop 24 = dktX3_image_1 := dk_seg dksX3_image_0 24 rfl rfl
theorem dX3_image_0 : decode cX3_image 0 = .ok (.iload_n 1, 1) := dk_27 (dk_at dksX3_image_0 0 rfl rfl)
theorem dX3_image_1 : decode cX3_image 1 = .ok (.i2l, 1) := dk_133 (dk_at dksX3_image_0 1 rfl rfl)
theorem dX3_image_2 : decode cX3_image 2 = .ok (.lconst 0, 1) := dk_9 (dk_at dksX3_image_0 2 rfl rfl)
theorem dX3_image_3 : decode cX3_image 3 = .ok (.ldc2_w 635, 3) := dk_20 2 123 (dk_at dksX3_image_0 3 rfl rfl)
theorem dX3_image_6 : decode cX3_image 6 = .ok (.invokestatic 179, 3) := dk_184 0 179 (dk_at dksX3_image_0 6 rfl rfl)
theorem dX3_image_9 : decode cX3_image 9 = .ok (.ifCond .ne 5, 3) := dk_154 0 5 (dk_at dksX3_image_0 9 rfl rfl)
theorem dX3_image_12 : decode cX3_image 12 = .ok (.iconst (-1), 1) := dk_2 (dk_at dksX3_image_0 12 rfl rfl)
theorem dX3_image_13 : decode cX3_image 13 = .ok (.ireturn, 1) := dk_172 (dk_at dksX3_image_0 13 rfl rfl)
theorem dX3_image_14 : decode cX3_image 14 = .ok (.aload_n 0, 1) := dk_42 (dk_at dksX3_image_0 14 rfl rfl)
theorem dX3_image_15 : decode cX3_image 15 = .ok (.getfield 172, 3) := dk_180 0 172 (dk_at dksX3_image_0 15 rfl rfl)
theorem dX3_image_18 : decode cX3_image 18 = .ok (.iload_n 1, 1) := dk_27 (dk_at dksX3_image_0 18 rfl rfl)
theorem dX3_image_19 : decode cX3_image 19 = .ok (.iconst 1, 1) := dk_4 (dk_at dksX3_image_0 19 rfl rfl)
theorem dX3_image_20 : decode cX3_image 20 = .ok (.bastore, 1) := dk_84 (dk_at dksX3_image_0 20 rfl rfl)
theorem dX3_image_21 : decode cX3_image 21 = .ok (.aload_n 0, 1) := dk_42 (dk_at dksX3_image_0 21 rfl rfl)
theorem dX3_image_22 : decode cX3_image 22 = .ok (.iload_n 1, 1) := dk_27 (dk_at dksX3_image_0 22 rfl rfl)
theorem dX3_image_23 : decode cX3_image 23 = .ok (.iconst 0, 1) := dk_3 (dk_at dksX3_image_0 23 rfl rfl)
theorem dX3_image_24 : decode cX3_image 24 = .ok (.invokevirtual 559, 3) := dk_182 2 47 (dk_at dksX3_image_1 0 rfl rfl)
theorem dX3_image_27 : decode cX3_image 27 = .ok (.aload_n 0, 1) := dk_42 (dk_at dksX3_image_1 3 rfl rfl)
theorem dX3_image_28 : decode cX3_image 28 = .ok (.getfield 9, 3) := dk_180 0 9 (dk_at dksX3_image_1 4 rfl rfl)
theorem dX3_image_31 : decode cX3_image 31 = .ok (.bipush 6, 2) := dk_16 6 (dk_at dksX3_image_1 7 rfl rfl)
theorem dX3_image_33 : decode cX3_image 33 = .ok (.iaload, 1) := dk_46 (dk_at dksX3_image_1 9 rfl rfl)
theorem dX3_image_34 : decode cX3_image 34 = .ok (.ireturn, 1) := dk_172 (dk_at dksX3_image_1 10 rfl rfl)
abbrev cX3_back : ByteArray := prog_21_method_136_code
def yX3_back : MethodName := ⟨RX3, "back", "(I)I"⟩
def dkwX3_back_1 : List UInt8 := [27, 4, 182, 2, 47, 42, 180, 0, 9, 16, 6, 46, 172]
abbrev dktX3_back_1 : List UInt8 := dkwX3_back_1 ++ []
def dkwX3_back_0 : List UInt8 := [27, 133, 9, 20, 2, 123, 184, 0, 179, 153, 0, 12, 42, 180, 0, 172, 27, 51, 154, 0, 5, 2, 172, 42]
abbrev dktX3_back_0 : List UInt8 := dkwX3_back_0 ++ dktX3_back_1
theorem dksX3_back_0 : cX3_back.data.toList.drop 0 = dktX3_back_0 := by decide +kernel
theorem dksX3_back_1 : cX3_back.data.toList.drop 24 = dktX3_back_1 := dk_seg dksX3_back_0 24 rfl rfl
theorem dX3_back_0 : decode cX3_back 0 = .ok (.iload_n 1, 1) := dk_27 (dk_at dksX3_back_0 0 rfl rfl)
theorem dX3_back_1 : decode cX3_back 1 = .ok (.i2l, 1) := dk_133 (dk_at dksX3_back_0 1 rfl rfl)
theorem dX3_back_2 : decode cX3_back 2 = .ok (.lconst 0, 1) := dk_9 (dk_at dksX3_back_0 2 rfl rfl)
theorem dX3_back_3 : decode cX3_back 3 = .ok (.ldc2_w 635, 3) := dk_20 2 123 (dk_at dksX3_back_0 3 rfl rfl)
theorem dX3_back_6 : decode cX3_back 6 = .ok (.invokestatic 179, 3) := dk_184 0 179 (dk_at dksX3_back_0 6 rfl rfl)
theorem dX3_back_9 : decode cX3_back 9 = .ok (.ifCond .eq 12, 3) := dk_153 0 12 (dk_at dksX3_back_0 9 rfl rfl)
theorem dX3_back_12 : decode cX3_back 12 = .ok (.aload_n 0, 1) := dk_42 (dk_at dksX3_back_0 12 rfl rfl)
theorem dX3_back_13 : decode cX3_back 13 = .ok (.getfield 172, 3) := dk_180 0 172 (dk_at dksX3_back_0 13 rfl rfl)
theorem dX3_back_16 : decode cX3_back 16 = .ok (.iload_n 1, 1) := dk_27 (dk_at dksX3_back_0 16 rfl rfl)
theorem dX3_back_17 : decode cX3_back 17 = .ok (.baload, 1) := dk_51 (dk_at dksX3_back_0 17 rfl rfl)
theorem dX3_back_18 : decode cX3_back 18 = .ok (.ifCond .ne 5, 3) := dk_154 0 5 (dk_at dksX3_back_0 18 rfl rfl)
theorem dX3_back_21 : decode cX3_back 21 = .ok (.iconst (-1), 1) := dk_2 (dk_at dksX3_back_0 21 rfl rfl)
theorem dX3_back_22 : decode cX3_back 22 = .ok (.ireturn, 1) := dk_172 (dk_at dksX3_back_0 22 rfl rfl)
theorem dX3_back_23 : decode cX3_back 23 = .ok (.aload_n 0, 1) := dk_42 (dk_at dksX3_back_0 23 rfl rfl)
theorem dX3_back_24 : decode cX3_back 24 = .ok (.iload_n 1, 1) := dk_27 (dk_at dksX3_back_1 0 rfl rfl)
theorem dX3_back_25 : decode cX3_back 25 = .ok (.iconst 1, 1) := dk_4 (dk_at dksX3_back_1 1 rfl rfl)
theorem dX3_back_26 : decode cX3_back 26 = .ok (.invokevirtual 559, 3) := dk_182 2 47 (dk_at dksX3_back_1 2 rfl rfl)
theorem dX3_back_29 : decode cX3_back 29 = .ok (.aload_n 0, 1) := dk_42 (dk_at dksX3_back_1 5 rfl rfl)
theorem dX3_back_30 : decode cX3_back 30 = .ok (.getfield 9, 3) := dk_180 0 9 (dk_at dksX3_back_1 6 rfl rfl)
theorem dX3_back_33 : decode cX3_back 33 = .ok (.bipush 6, 2) := dk_16 6 (dk_at dksX3_back_1 9 rfl rfl)
theorem dX3_back_35 : decode cX3_back 35 = .ok (.iaload, 1) := dk_46 (dk_at dksX3_back_1 11 rfl rfl)
theorem dX3_back_36 : decode cX3_back 36 = .ok (.ireturn, 1) := dk_172 (dk_at dksX3_back_1 12 rfl rfl)
theorem q162 : (Jvm.Cond.initialized "TruthBridgeModel") ∈ lw_all := lw_g (lw_at lw_m1 7 rfl) rfl
theorem q1336 : (Jvm.Cond.instantiable "TruthBridgeModel" (77 : Nat)) ∈ lw_all := lw_g (lw_at lw_m5 221 rfl) rfl
theorem q1338 : (Jvm.Cond.instanceMethod ({ cls := "TruthBridgeModel", name := "<init>", desc := "()V" } : Jvm.MethodName)) ∈ lw_all := lw_g (lw_at lw_m5 223 rfl) rfl
theorem q1339 : (Jvm.Cond.code ({ cls := "TruthBridgeModel", name := "<init>", desc := "()V" } : Jvm.MethodName) prog_21_method_1_code (1 : Nat) (Option.none : Option Jvm.ClassFile.FieldType)) ∈ lw_all := lw_g (lw_at lw_m5 224 rfl) rfl
theorem q1340 : (Jvm.Cond.methodLink "TruthBridgeModel" (3 : Nat) ({ cls := "java/lang/Object", name := "<init>", desc := "()V" } : Jvm.MethodName)) ∈ lw_all := lw_g (lw_at lw_m5 225 rfl) rfl
theorem q1341 : (Jvm.Cond.fieldLink "TruthBridgeModel" (9 : Nat) "TruthBridgeModel" "scalar" "[I") ∈ lw_all := lw_g (lw_at lw_m5 226 rfl) rfl
theorem q1342 : (Jvm.Cond.fieldLink "TruthBridgeModel" (13 : Nat) "TruthBridgeModel" "side" "[I") ∈ lw_all := lw_g (lw_at lw_m5 227 rfl) rfl
theorem q1343 : (Jvm.Cond.fieldLink "TruthBridgeModel" (16 : Nat) "TruthBridgeModel" "weight" "[I") ∈ lw_all := lw_g (lw_at lw_m5 228 rfl) rfl
theorem q1344 : (Jvm.Cond.fieldLink "TruthBridgeModel" (19 : Nat) "TruthBridgeModel" "price" "[I") ∈ lw_all := lw_g (lw_at lw_m5 229 rfl) rfl
theorem q1345 : (Jvm.Cond.fieldLink "TruthBridgeModel" (22 : Nat) "TruthBridgeModel" "gone" "[I") ∈ lw_all := lw_g (lw_at lw_m5 230 rfl) rfl
theorem q1346 : (Jvm.Cond.fieldLink "TruthBridgeModel" (25 : Nat) "TruthBridgeModel" "fell" "[I") ∈ lw_all := lw_g (lw_at lw_m5 231 rfl) rfl
theorem q1347 : (Jvm.Cond.fieldLink "TruthBridgeModel" (28 : Nat) "TruthBridgeModel" "placeFact" "[I") ∈ lw_all := lw_g (lw_at lw_m5 232 rfl) rfl
theorem q1348 : (Jvm.Cond.fieldLink "TruthBridgeModel" (31 : Nat) "TruthBridgeModel" "pathOne" "[I") ∈ lw_all := lw_g (lw_at lw_m5 233 rfl) rfl
theorem q1349 : (Jvm.Cond.fieldLink "TruthBridgeModel" (34 : Nat) "TruthBridgeModel" "pathOther" "[I") ∈ lw_all := lw_g (lw_at lw_m5 234 rfl) rfl
theorem q1350 : (Jvm.Cond.fieldLink "TruthBridgeModel" (37 : Nat) "TruthBridgeModel" "pathHours" "[I") ∈ lw_all := lw_g (lw_at lw_m5 235 rfl) rfl
theorem q1351 : (Jvm.Cond.fieldLink "TruthBridgeModel" (40 : Nat) "TruthBridgeModel" "turnFact" "[I") ∈ lw_all := lw_g (lw_at lw_m5 236 rfl) rfl
theorem q1352 : (Jvm.Cond.fieldLink "TruthBridgeModel" (43 : Nat) "TruthBridgeModel" "turnDay" "[I") ∈ lw_all := lw_g (lw_at lw_m5 237 rfl) rfl
theorem q1353 : (Jvm.Cond.fieldLink "TruthBridgeModel" (46 : Nat) "TruthBridgeModel" "trialSaying" "[I") ∈ lw_all := lw_g (lw_at lw_m5 238 rfl) rfl
theorem q1354 : (Jvm.Cond.fieldLink "TruthBridgeModel" (49 : Nat) "TruthBridgeModel" "trialFell" "[I") ∈ lw_all := lw_g (lw_at lw_m5 239 rfl) rfl
theorem q1355 : (Jvm.Cond.fieldLink "TruthBridgeModel" (52 : Nat) "TruthBridgeModel" "held" "[I") ∈ lw_all := lw_g (lw_at lw_m6 0 rfl) rfl
theorem q1356 : (Jvm.Cond.fieldLink "TruthBridgeModel" (55 : Nat) "TruthBridgeModel" "newScalar" "[I") ∈ lw_all := lw_g (lw_at lw_m6 1 rfl) rfl
theorem q1357 : (Jvm.Cond.fieldLink "TruthBridgeModel" (58 : Nat) "TruthBridgeModel" "newSide" "[I") ∈ lw_all := lw_g (lw_at lw_m6 2 rfl) rfl
theorem q1358 : (Jvm.Cond.fieldLink "TruthBridgeModel" (61 : Nat) "TruthBridgeModel" "newWeight" "[I") ∈ lw_all := lw_g (lw_at lw_m6 3 rfl) rfl
theorem q1359 : (Jvm.Cond.fieldLink "TruthBridgeModel" (64 : Nat) "TruthBridgeModel" "newKnown" "[I") ∈ lw_all := lw_g (lw_at lw_m6 4 rfl) rfl
theorem q1360 : (Jvm.Cond.fieldLink "TruthBridgeModel" (67 : Nat) "TruthBridgeModel" "newPrice" "[I") ∈ lw_all := lw_g (lw_at lw_m6 5 rfl) rfl
theorem q1361 : (Jvm.Cond.fieldLink "TruthBridgeModel" (70 : Nat) "TruthBridgeModel" "newPlaceFact" "[I") ∈ lw_all := lw_g (lw_at lw_m6 6 rfl) rfl
theorem q1362 : (Jvm.Cond.fieldLink "TruthBridgeModel" (73 : Nat) "TruthBridgeModel" "newPathOne" "[I") ∈ lw_all := lw_g (lw_at lw_m6 7 rfl) rfl
theorem q1363 : (Jvm.Cond.fieldLink "TruthBridgeModel" (76 : Nat) "TruthBridgeModel" "newPathOther" "[I") ∈ lw_all := lw_g (lw_at lw_m6 8 rfl) rfl
theorem q1364 : (Jvm.Cond.fieldLink "TruthBridgeModel" (79 : Nat) "TruthBridgeModel" "newPathHours" "[I") ∈ lw_all := lw_g (lw_at lw_m6 9 rfl) rfl
theorem q1365 : (Jvm.Cond.fieldLink "TruthBridgeModel" (82 : Nat) "TruthBridgeModel" "newTurnFact" "[I") ∈ lw_all := lw_g (lw_at lw_m6 10 rfl) rfl
theorem q1366 : (Jvm.Cond.fieldLink "TruthBridgeModel" (85 : Nat) "TruthBridgeModel" "newTurnDay" "[I") ∈ lw_all := lw_g (lw_at lw_m6 11 rfl) rfl
theorem q1367 : (Jvm.Cond.fieldLink "TruthBridgeModel" (194 : Nat) "TruthBridgeModel" "taped" "I") ∈ lw_all := lw_g (lw_at lw_m6 12 rfl) rfl
theorem q1368 : (Jvm.Cond.fieldLink "TruthBridgeModel" (221 : Nat) "TruthBridgeModel" "p" "I") ∈ lw_all := lw_g (lw_at lw_m6 13 rfl) rfl
theorem q1369 : (Jvm.Cond.fieldLink "TruthBridgeModel" (218 : Nat) "TruthBridgeModel" "fault" "I") ∈ lw_all := lw_g (lw_at lw_m6 14 rfl) rfl
theorem q1370 : (Jvm.Cond.fieldLink "TruthBridgeModel" (247 : Nat) "TruthBridgeModel" "slot" "I") ∈ lw_all := lw_g (lw_at lw_m6 15 rfl) rfl
theorem q1371 : (Jvm.Cond.fieldLink "TruthBridgeModel" (427 : Nat) "TruthBridgeModel" "rules" "I") ∈ lw_all := lw_g (lw_at lw_m6 16 rfl) rfl
theorem q1372 : (Jvm.Cond.fieldLink "TruthBridgeModel" (183 : Nat) "TruthBridgeModel" "sayings" "I") ∈ lw_all := lw_g (lw_at lw_m6 17 rfl) rfl
theorem q1373 : (Jvm.Cond.fieldLink "TruthBridgeModel" (250 : Nat) "TruthBridgeModel" "entries" "I") ∈ lw_all := lw_g (lw_at lw_m6 18 rfl) rfl
theorem q1374 : (Jvm.Cond.fieldLink "TruthBridgeModel" (290 : Nat) "TruthBridgeModel" "deep" "I") ∈ lw_all := lw_g (lw_at lw_m6 19 rfl) rfl
theorem q1375 : (Jvm.Cond.fieldLink "TruthBridgeModel" (253 : Nat) "TruthBridgeModel" "counted" "I") ∈ lw_all := lw_g (lw_at lw_m6 20 rfl) rfl
theorem q1376 : (Jvm.Cond.fieldLink "TruthBridgeModel" (287 : Nat) "TruthBridgeModel" "opened" "I") ∈ lw_all := lw_g (lw_at lw_m6 21 rfl) rfl
theorem q1377 : (Jvm.Cond.fieldLink "TruthBridgeModel" (88 : Nat) "TruthBridgeModel" "words" "I") ∈ lw_all := lw_g (lw_at lw_m6 22 rfl) rfl
theorem q1378 : (Jvm.Cond.fieldLink "TruthBridgeModel" (92 : Nat) "TruthBridgeModel" "tape" "[B") ∈ lw_all := lw_g (lw_at lw_m6 23 rfl) rfl
theorem q1379 : (Jvm.Cond.fieldLink "TruthBridgeModel" (96 : Nat) "TruthBridgeModel" "sort" "[I") ∈ lw_all := lw_g (lw_at lw_m6 24 rfl) rfl
theorem q1380 : (Jvm.Cond.fieldLink "TruthBridgeModel" (99 : Nat) "TruthBridgeModel" "number" "[I") ∈ lw_all := lw_g (lw_at lw_m6 25 rfl) rfl
theorem q1381 : (Jvm.Cond.fieldLink "TruthBridgeModel" (102 : Nat) "TruthBridgeModel" "clauses" "[I") ∈ lw_all := lw_g (lw_at lw_m6 26 rfl) rfl
theorem q1382 : (Jvm.Cond.fieldLink "TruthBridgeModel" (105 : Nat) "TruthBridgeModel" "sumAt" "[I") ∈ lw_all := lw_g (lw_at lw_m6 27 rfl) rfl
theorem q1383 : (Jvm.Cond.fieldLink "TruthBridgeModel" (108 : Nat) "TruthBridgeModel" "testAt" "[I") ∈ lw_all := lw_g (lw_at lw_m6 28 rfl) rfl
theorem q1384 : (Jvm.Cond.fieldLink "TruthBridgeModel" (111 : Nat) "TruthBridgeModel" "endAt" "[I") ∈ lw_all := lw_g (lw_at lw_m6 29 rfl) rfl
theorem q1385 : (Jvm.Cond.fieldLink "TruthBridgeModel" (114 : Nat) "TruthBridgeModel" "open" "[I") ∈ lw_all := lw_g (lw_at lw_m6 30 rfl) rfl
theorem q1386 : (Jvm.Cond.fieldLink "TruthBridgeModel" (117 : Nat) "TruthBridgeModel" "table" "[I") ∈ lw_all := lw_g (lw_at lw_m6 31 rfl) rfl
theorem q1387 : (Jvm.Cond.fieldLink "TruthBridgeModel" (120 : Nat) "TruthBridgeModel" "either" "[I") ∈ lw_all := lw_g (lw_at lw_m6 32 rfl) rfl
theorem q1388 : (Jvm.Cond.fieldLink "TruthBridgeModel" (123 : Nat) "TruthBridgeModel" "both" "[I") ∈ lw_all := lw_g (lw_at lw_m6 33 rfl) rfl
theorem q1389 : (Jvm.Cond.fieldLink "TruthBridgeModel" (126 : Nat) "TruthBridgeModel" "operand" "[I") ∈ lw_all := lw_g (lw_at lw_m6 34 rfl) rfl
theorem q1390 : (Jvm.Cond.fieldLink "TruthBridgeModel" (129 : Nat) "TruthBridgeModel" "opens" "[I") ∈ lw_all := lw_g (lw_at lw_m6 35 rfl) rfl
theorem q1391 : (Jvm.Cond.fieldLink "TruthBridgeModel" (362 : Nat) "TruthBridgeModel" "openMany" "I") ∈ lw_all := lw_g (lw_at lw_m6 36 rfl) rfl
theorem q1392 : (Jvm.Cond.fieldLink "TruthBridgeModel" (359 : Nat) "TruthBridgeModel" "level" "I") ∈ lw_all := lw_g (lw_at lw_m6 37 rfl) rfl
theorem q1393 : (Jvm.Cond.fieldLink "TruthBridgeModel" (396 : Nat) "TruthBridgeModel" "letters" "I") ∈ lw_all := lw_g (lw_at lw_m6 38 rfl) rfl
theorem q1394 : (Jvm.Cond.fieldLink "TruthBridgeModel" (132 : Nat) "TruthBridgeModel" "asked" "[J") ∈ lw_all := lw_g (lw_at lw_m6 39 rfl) rfl
theorem q1395 : (Jvm.Cond.fieldLink "TruthBridgeModel" (136 : Nat) "TruthBridgeModel" "stack" "[J") ∈ lw_all := lw_g (lw_at lw_m6 40 rfl) rfl
theorem q1396 : (Jvm.Cond.fieldLink "TruthBridgeModel" (139 : Nat) "TruthBridgeModel" "far" "[I") ∈ lw_all := lw_g (lw_at lw_m6 41 rfl) rfl
theorem q1397 : (Jvm.Cond.fieldLink "TruthBridgeModel" (142 : Nat) "TruthBridgeModel" "past" "[I") ∈ lw_all := lw_g (lw_at lw_m6 42 rfl) rfl
theorem q1398 : (Jvm.Cond.fieldLink "TruthBridgeModel" (145 : Nat) "TruthBridgeModel" "ring" "[I") ∈ lw_all := lw_g (lw_at lw_m6 43 rfl) rfl
theorem q1399 : (Jvm.Cond.fieldLink "TruthBridgeModel" (356 : Nat) "TruthBridgeModel" "pastMany" "I") ∈ lw_all := lw_g (lw_at lw_m6 44 rfl) rfl
theorem q1400 : (Jvm.Cond.fieldLink "TruthBridgeModel" (498 : Nat) "TruthBridgeModel" "pastAt" "I") ∈ lw_all := lw_g (lw_at lw_m6 45 rfl) rfl
theorem q1401 : (Jvm.Cond.fieldLink "TruthBridgeModel" (494 : Nat) "TruthBridgeModel" "takesBack" "Z") ∈ lw_all := lw_g (lw_at lw_m6 46 rfl) rfl
theorem q1402 : (Jvm.Cond.fieldLink "TruthBridgeModel" (148 : Nat) "TruthBridgeModel" "turnedRow" "[I") ∈ lw_all := lw_g (lw_at lw_m6 47 rfl) rfl
theorem q1403 : (Jvm.Cond.fieldLink "TruthBridgeModel" (151 : Nat) "TruthBridgeModel" "there" "[I") ∈ lw_all := lw_g (lw_at lw_m6 48 rfl) rfl
theorem q1404 : (Jvm.Cond.fieldLink "TruthBridgeModel" (154 : Nat) "TruthBridgeModel" "turn" "[I") ∈ lw_all := lw_g (lw_at lw_m6 49 rfl) rfl
theorem q1405 : (Jvm.Cond.fieldLink "TruthBridgeModel" (157 : Nat) "TruthBridgeModel" "bestTurn" "[I") ∈ lw_all := lw_g (lw_at lw_m6 50 rfl) rfl
theorem q1406 : (Jvm.Cond.fieldLink "TruthBridgeModel" (160 : Nat) "TruthBridgeModel" "bridgeAt" "[I") ∈ lw_all := lw_g (lw_at lw_m6 51 rfl) rfl
theorem q1407 : (Jvm.Cond.fieldLink "TruthBridgeModel" (571 : Nat) "TruthBridgeModel" "thereMany" "I") ∈ lw_all := lw_g (lw_at lw_m6 52 rfl) rfl
theorem q1408 : (Jvm.Cond.fieldLink "TruthBridgeModel" (574 : Nat) "TruthBridgeModel" "planned" "I") ∈ lw_all := lw_g (lw_at lw_m6 53 rfl) rfl
theorem q1409 : (Jvm.Cond.fieldLink "TruthBridgeModel" (163 : Nat) "TruthBridgeModel" "hours" "[I") ∈ lw_all := lw_g (lw_at lw_m6 54 rfl) rfl
theorem q1410 : (Jvm.Cond.fieldLink "TruthBridgeModel" (166 : Nat) "TruthBridgeModel" "following" "[I") ∈ lw_all := lw_g (lw_at lw_m6 55 rfl) rfl
theorem q1411 : (Jvm.Cond.fieldLink "TruthBridgeModel" (615 : Nat) "TruthBridgeModel" "drawnOver" "I") ∈ lw_all := lw_g (lw_at lw_m6 56 rfl) rfl
theorem q1412 : (Jvm.Cond.fieldLink "TruthBridgeModel" (618 : Nat) "TruthBridgeModel" "drawnFell" "I") ∈ lw_all := lw_g (lw_at lw_m6 57 rfl) rfl
theorem q1413 : (Jvm.Cond.fieldLink "TruthBridgeModel" (169 : Nat) "TruthBridgeModel" "images" "[I") ∈ lw_all := lw_g (lw_at lw_m6 58 rfl) rfl
theorem q1414 : (Jvm.Cond.fieldLink "TruthBridgeModel" (172 : Nat) "TruthBridgeModel" "isMade" "[Z") ∈ lw_all := lw_g (lw_at lw_m6 59 rfl) rfl
theorem q1415 : (Jvm.Cond.fieldLink "TruthBridgeModel" (629 : Nat) "TruthBridgeModel" "imageAt" "I") ∈ lw_all := lw_g (lw_at lw_m6 60 rfl) rfl
theorem q1416 : (Jvm.Cond.fieldLink "TruthBridgeModel" (626 : Nat) "TruthBridgeModel" "goesBack" "Z") ∈ lw_all := lw_g (lw_at lw_m6 61 rfl) rfl
theorem q1417 : (Jvm.Cond.lays "TruthBridgeModel" "TruthBridgeModel" "thrown" "I") ∈ lw_all := lw_g (lw_at lw_m6 62 rfl) rfl
theorem q1418 : (Jvm.Cond.soleField "TruthBridgeModel" "thrown") ∈ lw_all := lw_g (lw_at lw_m6 63 rfl) rfl
theorem q1419 : (Jvm.Cond.laysFinal "TruthBridgeModel" "TruthBridgeModel" "scalar" "[I") ∈ lw_all := lw_g (lw_at lw_m6 64 rfl) rfl
theorem q1420 : (Jvm.Cond.soleField "TruthBridgeModel" "scalar") ∈ lw_all := lw_g (lw_at lw_m6 65 rfl) rfl
theorem q1421 : (Jvm.Cond.laysFinal "TruthBridgeModel" "TruthBridgeModel" "side" "[I") ∈ lw_all := lw_g (lw_at lw_m6 66 rfl) rfl
theorem q1422 : (Jvm.Cond.soleField "TruthBridgeModel" "side") ∈ lw_all := lw_g (lw_at lw_m6 67 rfl) rfl
theorem q1423 : (Jvm.Cond.laysFinal "TruthBridgeModel" "TruthBridgeModel" "weight" "[I") ∈ lw_all := lw_g (lw_at lw_m6 68 rfl) rfl
theorem q1424 : (Jvm.Cond.soleField "TruthBridgeModel" "weight") ∈ lw_all := lw_g (lw_at lw_m6 69 rfl) rfl
theorem q1425 : (Jvm.Cond.laysFinal "TruthBridgeModel" "TruthBridgeModel" "price" "[I") ∈ lw_all := lw_g (lw_at lw_m6 70 rfl) rfl
theorem q1426 : (Jvm.Cond.soleField "TruthBridgeModel" "price") ∈ lw_all := lw_g (lw_at lw_m6 71 rfl) rfl
theorem q1427 : (Jvm.Cond.laysFinal "TruthBridgeModel" "TruthBridgeModel" "gone" "[I") ∈ lw_all := lw_g (lw_at lw_m6 72 rfl) rfl
theorem q1428 : (Jvm.Cond.soleField "TruthBridgeModel" "gone") ∈ lw_all := lw_g (lw_at lw_m6 73 rfl) rfl
theorem q1429 : (Jvm.Cond.laysFinal "TruthBridgeModel" "TruthBridgeModel" "fell" "[I") ∈ lw_all := lw_g (lw_at lw_m6 74 rfl) rfl
theorem q1430 : (Jvm.Cond.soleField "TruthBridgeModel" "fell") ∈ lw_all := lw_g (lw_at lw_m6 75 rfl) rfl
theorem q1431 : (Jvm.Cond.laysFinal "TruthBridgeModel" "TruthBridgeModel" "placeFact" "[I") ∈ lw_all := lw_g (lw_at lw_m6 76 rfl) rfl
theorem q1432 : (Jvm.Cond.soleField "TruthBridgeModel" "placeFact") ∈ lw_all := lw_g (lw_at lw_m6 77 rfl) rfl
theorem q1433 : (Jvm.Cond.laysFinal "TruthBridgeModel" "TruthBridgeModel" "pathOne" "[I") ∈ lw_all := lw_g (lw_at lw_m6 78 rfl) rfl
theorem q1434 : (Jvm.Cond.soleField "TruthBridgeModel" "pathOne") ∈ lw_all := lw_g (lw_at lw_m6 79 rfl) rfl
theorem q1435 : (Jvm.Cond.laysFinal "TruthBridgeModel" "TruthBridgeModel" "pathOther" "[I") ∈ lw_all := lw_g (lw_at lw_m6 80 rfl) rfl
theorem q1436 : (Jvm.Cond.soleField "TruthBridgeModel" "pathOther") ∈ lw_all := lw_g (lw_at lw_m6 81 rfl) rfl
theorem q1437 : (Jvm.Cond.laysFinal "TruthBridgeModel" "TruthBridgeModel" "pathHours" "[I") ∈ lw_all := lw_g (lw_at lw_m6 82 rfl) rfl
theorem q1438 : (Jvm.Cond.soleField "TruthBridgeModel" "pathHours") ∈ lw_all := lw_g (lw_at lw_m6 83 rfl) rfl
theorem q1439 : (Jvm.Cond.laysFinal "TruthBridgeModel" "TruthBridgeModel" "turnFact" "[I") ∈ lw_all := lw_g (lw_at lw_m6 84 rfl) rfl
theorem q1440 : (Jvm.Cond.soleField "TruthBridgeModel" "turnFact") ∈ lw_all := lw_g (lw_at lw_m6 85 rfl) rfl
theorem q1441 : (Jvm.Cond.laysFinal "TruthBridgeModel" "TruthBridgeModel" "turnDay" "[I") ∈ lw_all := lw_g (lw_at lw_m6 86 rfl) rfl
theorem q1442 : (Jvm.Cond.soleField "TruthBridgeModel" "turnDay") ∈ lw_all := lw_g (lw_at lw_m6 87 rfl) rfl
theorem q1443 : (Jvm.Cond.laysFinal "TruthBridgeModel" "TruthBridgeModel" "trialSaying" "[I") ∈ lw_all := lw_g (lw_at lw_m6 88 rfl) rfl
theorem q1444 : (Jvm.Cond.soleField "TruthBridgeModel" "trialSaying") ∈ lw_all := lw_g (lw_at lw_m6 89 rfl) rfl
theorem q1445 : (Jvm.Cond.laysFinal "TruthBridgeModel" "TruthBridgeModel" "trialFell" "[I") ∈ lw_all := lw_g (lw_at lw_m6 90 rfl) rfl
theorem q1446 : (Jvm.Cond.soleField "TruthBridgeModel" "trialFell") ∈ lw_all := lw_g (lw_at lw_m6 91 rfl) rfl
theorem q1447 : (Jvm.Cond.laysFinal "TruthBridgeModel" "TruthBridgeModel" "held" "[I") ∈ lw_all := lw_g (lw_at lw_m6 92 rfl) rfl
theorem q1448 : (Jvm.Cond.soleField "TruthBridgeModel" "held") ∈ lw_all := lw_g (lw_at lw_m6 93 rfl) rfl
theorem q1449 : (Jvm.Cond.laysFinal "TruthBridgeModel" "TruthBridgeModel" "newScalar" "[I") ∈ lw_all := lw_g (lw_at lw_m6 94 rfl) rfl
theorem q1450 : (Jvm.Cond.soleField "TruthBridgeModel" "newScalar") ∈ lw_all := lw_g (lw_at lw_m6 95 rfl) rfl
theorem q1451 : (Jvm.Cond.laysFinal "TruthBridgeModel" "TruthBridgeModel" "newSide" "[I") ∈ lw_all := lw_g (lw_at lw_m6 96 rfl) rfl
theorem q1452 : (Jvm.Cond.soleField "TruthBridgeModel" "newSide") ∈ lw_all := lw_g (lw_at lw_m6 97 rfl) rfl
theorem q1453 : (Jvm.Cond.laysFinal "TruthBridgeModel" "TruthBridgeModel" "newWeight" "[I") ∈ lw_all := lw_g (lw_at lw_m6 98 rfl) rfl
theorem q1454 : (Jvm.Cond.soleField "TruthBridgeModel" "newWeight") ∈ lw_all := lw_g (lw_at lw_m6 99 rfl) rfl
theorem q1455 : (Jvm.Cond.laysFinal "TruthBridgeModel" "TruthBridgeModel" "newKnown" "[I") ∈ lw_all := lw_g (lw_at lw_m6 100 rfl) rfl
theorem q1456 : (Jvm.Cond.soleField "TruthBridgeModel" "newKnown") ∈ lw_all := lw_g (lw_at lw_m6 101 rfl) rfl
theorem q1457 : (Jvm.Cond.laysFinal "TruthBridgeModel" "TruthBridgeModel" "newPrice" "[I") ∈ lw_all := lw_g (lw_at lw_m6 102 rfl) rfl
theorem q1458 : (Jvm.Cond.soleField "TruthBridgeModel" "newPrice") ∈ lw_all := lw_g (lw_at lw_m6 103 rfl) rfl
theorem q1459 : (Jvm.Cond.laysFinal "TruthBridgeModel" "TruthBridgeModel" "newPlaceFact" "[I") ∈ lw_all := lw_g (lw_at lw_m6 104 rfl) rfl
theorem q1460 : (Jvm.Cond.soleField "TruthBridgeModel" "newPlaceFact") ∈ lw_all := lw_g (lw_at lw_m6 105 rfl) rfl
theorem q1461 : (Jvm.Cond.laysFinal "TruthBridgeModel" "TruthBridgeModel" "newPathOne" "[I") ∈ lw_all := lw_g (lw_at lw_m6 106 rfl) rfl
theorem q1462 : (Jvm.Cond.soleField "TruthBridgeModel" "newPathOne") ∈ lw_all := lw_g (lw_at lw_m6 107 rfl) rfl
theorem q1463 : (Jvm.Cond.laysFinal "TruthBridgeModel" "TruthBridgeModel" "newPathOther" "[I") ∈ lw_all := lw_g (lw_at lw_m6 108 rfl) rfl
theorem q1464 : (Jvm.Cond.soleField "TruthBridgeModel" "newPathOther") ∈ lw_all := lw_g (lw_at lw_m6 109 rfl) rfl
theorem q1465 : (Jvm.Cond.laysFinal "TruthBridgeModel" "TruthBridgeModel" "newPathHours" "[I") ∈ lw_all := lw_g (lw_at lw_m6 110 rfl) rfl
theorem q1466 : (Jvm.Cond.soleField "TruthBridgeModel" "newPathHours") ∈ lw_all := lw_g (lw_at lw_m6 111 rfl) rfl
theorem q1467 : (Jvm.Cond.laysFinal "TruthBridgeModel" "TruthBridgeModel" "newTurnFact" "[I") ∈ lw_all := lw_g (lw_at lw_m6 112 rfl) rfl
theorem q1468 : (Jvm.Cond.soleField "TruthBridgeModel" "newTurnFact") ∈ lw_all := lw_g (lw_at lw_m6 113 rfl) rfl
theorem q1469 : (Jvm.Cond.laysFinal "TruthBridgeModel" "TruthBridgeModel" "newTurnDay" "[I") ∈ lw_all := lw_g (lw_at lw_m6 114 rfl) rfl
theorem q1470 : (Jvm.Cond.soleField "TruthBridgeModel" "newTurnDay") ∈ lw_all := lw_g (lw_at lw_m6 115 rfl) rfl
theorem q1471 : (Jvm.Cond.lays "TruthBridgeModel" "TruthBridgeModel" "taped" "I") ∈ lw_all := lw_g (lw_at lw_m6 116 rfl) rfl
theorem q1472 : (Jvm.Cond.soleField "TruthBridgeModel" "taped") ∈ lw_all := lw_g (lw_at lw_m6 117 rfl) rfl
theorem q1473 : (Jvm.Cond.lays "TruthBridgeModel" "TruthBridgeModel" "p" "I") ∈ lw_all := lw_g (lw_at lw_m6 118 rfl) rfl
theorem q1474 : (Jvm.Cond.soleField "TruthBridgeModel" "p") ∈ lw_all := lw_g (lw_at lw_m6 119 rfl) rfl
theorem q1475 : (Jvm.Cond.lays "TruthBridgeModel" "TruthBridgeModel" "fault" "I") ∈ lw_all := lw_g (lw_at lw_m6 120 rfl) rfl
theorem q1476 : (Jvm.Cond.soleField "TruthBridgeModel" "fault") ∈ lw_all := lw_g (lw_at lw_m6 121 rfl) rfl
theorem q1477 : (Jvm.Cond.lays "TruthBridgeModel" "TruthBridgeModel" "slot" "I") ∈ lw_all := lw_g (lw_at lw_m6 122 rfl) rfl
theorem q1478 : (Jvm.Cond.soleField "TruthBridgeModel" "slot") ∈ lw_all := lw_g (lw_at lw_m6 123 rfl) rfl
theorem q1479 : (Jvm.Cond.lays "TruthBridgeModel" "TruthBridgeModel" "rules" "I") ∈ lw_all := lw_g (lw_at lw_m6 124 rfl) rfl
theorem q1480 : (Jvm.Cond.soleField "TruthBridgeModel" "rules") ∈ lw_all := lw_g (lw_at lw_m6 125 rfl) rfl
theorem q1481 : (Jvm.Cond.lays "TruthBridgeModel" "TruthBridgeModel" "sayings" "I") ∈ lw_all := lw_g (lw_at lw_m6 126 rfl) rfl
theorem q1482 : (Jvm.Cond.soleField "TruthBridgeModel" "sayings") ∈ lw_all := lw_g (lw_at lw_m6 127 rfl) rfl
theorem q1483 : (Jvm.Cond.lays "TruthBridgeModel" "TruthBridgeModel" "entries" "I") ∈ lw_all := lw_g (lw_at lw_m6 128 rfl) rfl
theorem q1484 : (Jvm.Cond.soleField "TruthBridgeModel" "entries") ∈ lw_all := lw_g (lw_at lw_m6 129 rfl) rfl
theorem q1485 : (Jvm.Cond.lays "TruthBridgeModel" "TruthBridgeModel" "deep" "I") ∈ lw_all := lw_g (lw_at lw_m6 130 rfl) rfl
theorem q1486 : (Jvm.Cond.soleField "TruthBridgeModel" "deep") ∈ lw_all := lw_g (lw_at lw_m6 131 rfl) rfl
theorem q1487 : (Jvm.Cond.lays "TruthBridgeModel" "TruthBridgeModel" "counted" "I") ∈ lw_all := lw_g (lw_at lw_m6 132 rfl) rfl
theorem q1488 : (Jvm.Cond.soleField "TruthBridgeModel" "counted") ∈ lw_all := lw_g (lw_at lw_m6 133 rfl) rfl
theorem q1489 : (Jvm.Cond.lays "TruthBridgeModel" "TruthBridgeModel" "opened" "I") ∈ lw_all := lw_g (lw_at lw_m6 134 rfl) rfl
theorem q1490 : (Jvm.Cond.soleField "TruthBridgeModel" "opened") ∈ lw_all := lw_g (lw_at lw_m6 135 rfl) rfl
theorem q1491 : (Jvm.Cond.lays "TruthBridgeModel" "TruthBridgeModel" "words" "I") ∈ lw_all := lw_g (lw_at lw_m6 136 rfl) rfl
theorem q1492 : (Jvm.Cond.soleField "TruthBridgeModel" "words") ∈ lw_all := lw_g (lw_at lw_m6 137 rfl) rfl
theorem q1493 : (Jvm.Cond.laysFinal "TruthBridgeModel" "TruthBridgeModel" "tape" "[B") ∈ lw_all := lw_g (lw_at lw_m6 138 rfl) rfl
theorem q1494 : (Jvm.Cond.soleField "TruthBridgeModel" "tape") ∈ lw_all := lw_g (lw_at lw_m6 139 rfl) rfl
theorem q1495 : (Jvm.Cond.laysFinal "TruthBridgeModel" "TruthBridgeModel" "sort" "[I") ∈ lw_all := lw_g (lw_at lw_m6 140 rfl) rfl
theorem q1496 : (Jvm.Cond.soleField "TruthBridgeModel" "sort") ∈ lw_all := lw_g (lw_at lw_m6 141 rfl) rfl
theorem q1497 : (Jvm.Cond.laysFinal "TruthBridgeModel" "TruthBridgeModel" "number" "[I") ∈ lw_all := lw_g (lw_at lw_m6 142 rfl) rfl
theorem q1498 : (Jvm.Cond.soleField "TruthBridgeModel" "number") ∈ lw_all := lw_g (lw_at lw_m6 143 rfl) rfl
theorem q1499 : (Jvm.Cond.laysFinal "TruthBridgeModel" "TruthBridgeModel" "clauses" "[I") ∈ lw_all := lw_g (lw_at lw_m6 144 rfl) rfl
theorem q1500 : (Jvm.Cond.soleField "TruthBridgeModel" "clauses") ∈ lw_all := lw_g (lw_at lw_m6 145 rfl) rfl
theorem q1501 : (Jvm.Cond.laysFinal "TruthBridgeModel" "TruthBridgeModel" "sumAt" "[I") ∈ lw_all := lw_g (lw_at lw_m6 146 rfl) rfl
theorem q1502 : (Jvm.Cond.soleField "TruthBridgeModel" "sumAt") ∈ lw_all := lw_g (lw_at lw_m6 147 rfl) rfl
theorem q1503 : (Jvm.Cond.laysFinal "TruthBridgeModel" "TruthBridgeModel" "testAt" "[I") ∈ lw_all := lw_g (lw_at lw_m6 148 rfl) rfl
theorem q1504 : (Jvm.Cond.soleField "TruthBridgeModel" "testAt") ∈ lw_all := lw_g (lw_at lw_m6 149 rfl) rfl
theorem q1505 : (Jvm.Cond.laysFinal "TruthBridgeModel" "TruthBridgeModel" "endAt" "[I") ∈ lw_all := lw_g (lw_at lw_m6 150 rfl) rfl
theorem q1506 : (Jvm.Cond.soleField "TruthBridgeModel" "endAt") ∈ lw_all := lw_g (lw_at lw_m6 151 rfl) rfl
theorem q1507 : (Jvm.Cond.laysFinal "TruthBridgeModel" "TruthBridgeModel" "open" "[I") ∈ lw_all := lw_g (lw_at lw_m6 152 rfl) rfl
theorem q1508 : (Jvm.Cond.soleField "TruthBridgeModel" "open") ∈ lw_all := lw_g (lw_at lw_m6 153 rfl) rfl
theorem q1509 : (Jvm.Cond.laysFinal "TruthBridgeModel" "TruthBridgeModel" "table" "[I") ∈ lw_all := lw_g (lw_at lw_m6 154 rfl) rfl
theorem q1510 : (Jvm.Cond.soleField "TruthBridgeModel" "table") ∈ lw_all := lw_g (lw_at lw_m6 155 rfl) rfl
theorem q1511 : (Jvm.Cond.laysFinal "TruthBridgeModel" "TruthBridgeModel" "either" "[I") ∈ lw_all := lw_g (lw_at lw_m6 156 rfl) rfl
theorem q1512 : (Jvm.Cond.soleField "TruthBridgeModel" "either") ∈ lw_all := lw_g (lw_at lw_m6 157 rfl) rfl
theorem q1513 : (Jvm.Cond.laysFinal "TruthBridgeModel" "TruthBridgeModel" "both" "[I") ∈ lw_all := lw_g (lw_at lw_m6 158 rfl) rfl
theorem q1514 : (Jvm.Cond.soleField "TruthBridgeModel" "both") ∈ lw_all := lw_g (lw_at lw_m6 159 rfl) rfl
theorem q1515 : (Jvm.Cond.laysFinal "TruthBridgeModel" "TruthBridgeModel" "operand" "[I") ∈ lw_all := lw_g (lw_at lw_m6 160 rfl) rfl
theorem q1516 : (Jvm.Cond.soleField "TruthBridgeModel" "operand") ∈ lw_all := lw_g (lw_at lw_m6 161 rfl) rfl
theorem q1517 : (Jvm.Cond.laysFinal "TruthBridgeModel" "TruthBridgeModel" "opens" "[I") ∈ lw_all := lw_g (lw_at lw_m6 162 rfl) rfl
theorem q1518 : (Jvm.Cond.soleField "TruthBridgeModel" "opens") ∈ lw_all := lw_g (lw_at lw_m6 163 rfl) rfl
theorem q1519 : (Jvm.Cond.lays "TruthBridgeModel" "TruthBridgeModel" "openMany" "I") ∈ lw_all := lw_g (lw_at lw_m6 164 rfl) rfl
theorem q1520 : (Jvm.Cond.soleField "TruthBridgeModel" "openMany") ∈ lw_all := lw_g (lw_at lw_m6 165 rfl) rfl
theorem q1521 : (Jvm.Cond.lays "TruthBridgeModel" "TruthBridgeModel" "level" "I") ∈ lw_all := lw_g (lw_at lw_m6 166 rfl) rfl
theorem q1522 : (Jvm.Cond.soleField "TruthBridgeModel" "level") ∈ lw_all := lw_g (lw_at lw_m6 167 rfl) rfl
theorem q1523 : (Jvm.Cond.lays "TruthBridgeModel" "TruthBridgeModel" "letters" "I") ∈ lw_all := lw_g (lw_at lw_m6 168 rfl) rfl
theorem q1524 : (Jvm.Cond.soleField "TruthBridgeModel" "letters") ∈ lw_all := lw_g (lw_at lw_m6 169 rfl) rfl
theorem q1525 : (Jvm.Cond.laysFinal "TruthBridgeModel" "TruthBridgeModel" "asked" "[J") ∈ lw_all := lw_g (lw_at lw_m6 170 rfl) rfl
theorem q1526 : (Jvm.Cond.soleField "TruthBridgeModel" "asked") ∈ lw_all := lw_g (lw_at lw_m6 171 rfl) rfl
theorem q1527 : (Jvm.Cond.laysFinal "TruthBridgeModel" "TruthBridgeModel" "stack" "[J") ∈ lw_all := lw_g (lw_at lw_m6 172 rfl) rfl
theorem q1528 : (Jvm.Cond.soleField "TruthBridgeModel" "stack") ∈ lw_all := lw_g (lw_at lw_m6 173 rfl) rfl
theorem q1529 : (Jvm.Cond.laysFinal "TruthBridgeModel" "TruthBridgeModel" "far" "[I") ∈ lw_all := lw_g (lw_at lw_m6 174 rfl) rfl
theorem q1530 : (Jvm.Cond.soleField "TruthBridgeModel" "far") ∈ lw_all := lw_g (lw_at lw_m6 175 rfl) rfl
theorem q1531 : (Jvm.Cond.laysFinal "TruthBridgeModel" "TruthBridgeModel" "past" "[I") ∈ lw_all := lw_g (lw_at lw_m6 176 rfl) rfl
theorem q1532 : (Jvm.Cond.soleField "TruthBridgeModel" "past") ∈ lw_all := lw_g (lw_at lw_m6 177 rfl) rfl
theorem q1533 : (Jvm.Cond.laysFinal "TruthBridgeModel" "TruthBridgeModel" "ring" "[I") ∈ lw_all := lw_g (lw_at lw_m6 178 rfl) rfl
theorem q1534 : (Jvm.Cond.soleField "TruthBridgeModel" "ring") ∈ lw_all := lw_g (lw_at lw_m6 179 rfl) rfl
theorem q1535 : (Jvm.Cond.lays "TruthBridgeModel" "TruthBridgeModel" "pastMany" "I") ∈ lw_all := lw_g (lw_at lw_m6 180 rfl) rfl
theorem q1536 : (Jvm.Cond.soleField "TruthBridgeModel" "pastMany") ∈ lw_all := lw_g (lw_at lw_m6 181 rfl) rfl
theorem q1537 : (Jvm.Cond.lays "TruthBridgeModel" "TruthBridgeModel" "pastAt" "I") ∈ lw_all := lw_g (lw_at lw_m6 182 rfl) rfl
theorem q1538 : (Jvm.Cond.soleField "TruthBridgeModel" "pastAt") ∈ lw_all := lw_g (lw_at lw_m6 183 rfl) rfl
theorem q1539 : (Jvm.Cond.lays "TruthBridgeModel" "TruthBridgeModel" "takesBack" "Z") ∈ lw_all := lw_g (lw_at lw_m6 184 rfl) rfl
theorem q1540 : (Jvm.Cond.soleField "TruthBridgeModel" "takesBack") ∈ lw_all := lw_g (lw_at lw_m6 185 rfl) rfl
theorem q1541 : (Jvm.Cond.laysFinal "TruthBridgeModel" "TruthBridgeModel" "turnedRow" "[I") ∈ lw_all := lw_g (lw_at lw_m6 186 rfl) rfl
theorem q1542 : (Jvm.Cond.soleField "TruthBridgeModel" "turnedRow") ∈ lw_all := lw_g (lw_at lw_m6 187 rfl) rfl
theorem q1543 : (Jvm.Cond.laysFinal "TruthBridgeModel" "TruthBridgeModel" "there" "[I") ∈ lw_all := lw_g (lw_at lw_m6 188 rfl) rfl
theorem q1544 : (Jvm.Cond.soleField "TruthBridgeModel" "there") ∈ lw_all := lw_g (lw_at lw_m6 189 rfl) rfl
theorem q1545 : (Jvm.Cond.laysFinal "TruthBridgeModel" "TruthBridgeModel" "turn" "[I") ∈ lw_all := lw_g (lw_at lw_m6 190 rfl) rfl
theorem q1546 : (Jvm.Cond.soleField "TruthBridgeModel" "turn") ∈ lw_all := lw_g (lw_at lw_m6 191 rfl) rfl
theorem q1547 : (Jvm.Cond.laysFinal "TruthBridgeModel" "TruthBridgeModel" "bestTurn" "[I") ∈ lw_all := lw_g (lw_at lw_m6 192 rfl) rfl
theorem q1548 : (Jvm.Cond.soleField "TruthBridgeModel" "bestTurn") ∈ lw_all := lw_g (lw_at lw_m6 193 rfl) rfl
theorem q1549 : (Jvm.Cond.laysFinal "TruthBridgeModel" "TruthBridgeModel" "bridgeAt" "[I") ∈ lw_all := lw_g (lw_at lw_m6 194 rfl) rfl
theorem q1550 : (Jvm.Cond.soleField "TruthBridgeModel" "bridgeAt") ∈ lw_all := lw_g (lw_at lw_m6 195 rfl) rfl
theorem q1551 : (Jvm.Cond.lays "TruthBridgeModel" "TruthBridgeModel" "thereMany" "I") ∈ lw_all := lw_g (lw_at lw_m6 196 rfl) rfl
theorem q1552 : (Jvm.Cond.soleField "TruthBridgeModel" "thereMany") ∈ lw_all := lw_g (lw_at lw_m6 197 rfl) rfl
theorem q1553 : (Jvm.Cond.lays "TruthBridgeModel" "TruthBridgeModel" "planned" "I") ∈ lw_all := lw_g (lw_at lw_m6 198 rfl) rfl
theorem q1554 : (Jvm.Cond.soleField "TruthBridgeModel" "planned") ∈ lw_all := lw_g (lw_at lw_m6 199 rfl) rfl
theorem q1555 : (Jvm.Cond.laysFinal "TruthBridgeModel" "TruthBridgeModel" "hours" "[I") ∈ lw_all := lw_g (lw_at lw_m6 200 rfl) rfl
theorem q1556 : (Jvm.Cond.soleField "TruthBridgeModel" "hours") ∈ lw_all := lw_g (lw_at lw_m6 201 rfl) rfl
theorem q1557 : (Jvm.Cond.laysFinal "TruthBridgeModel" "TruthBridgeModel" "following" "[I") ∈ lw_all := lw_g (lw_at lw_m6 202 rfl) rfl
theorem q1558 : (Jvm.Cond.soleField "TruthBridgeModel" "following") ∈ lw_all := lw_g (lw_at lw_m6 203 rfl) rfl
theorem q1559 : (Jvm.Cond.lays "TruthBridgeModel" "TruthBridgeModel" "drawnOver" "I") ∈ lw_all := lw_g (lw_at lw_m6 204 rfl) rfl
theorem q1560 : (Jvm.Cond.soleField "TruthBridgeModel" "drawnOver") ∈ lw_all := lw_g (lw_at lw_m6 205 rfl) rfl
theorem q1561 : (Jvm.Cond.lays "TruthBridgeModel" "TruthBridgeModel" "drawnFell" "I") ∈ lw_all := lw_g (lw_at lw_m6 206 rfl) rfl
theorem q1562 : (Jvm.Cond.soleField "TruthBridgeModel" "drawnFell") ∈ lw_all := lw_g (lw_at lw_m6 207 rfl) rfl
theorem q1563 : (Jvm.Cond.laysFinal "TruthBridgeModel" "TruthBridgeModel" "images" "[I") ∈ lw_all := lw_g (lw_at lw_m6 208 rfl) rfl
theorem q1564 : (Jvm.Cond.soleField "TruthBridgeModel" "images") ∈ lw_all := lw_g (lw_at lw_m6 209 rfl) rfl
theorem q1565 : (Jvm.Cond.laysFinal "TruthBridgeModel" "TruthBridgeModel" "isMade" "[Z") ∈ lw_all := lw_g (lw_at lw_m6 210 rfl) rfl
theorem q1566 : (Jvm.Cond.soleField "TruthBridgeModel" "isMade") ∈ lw_all := lw_g (lw_at lw_m6 211 rfl) rfl
theorem q1567 : (Jvm.Cond.lays "TruthBridgeModel" "TruthBridgeModel" "imageAt" "I") ∈ lw_all := lw_g (lw_at lw_m6 212 rfl) rfl
theorem q1568 : (Jvm.Cond.soleField "TruthBridgeModel" "imageAt") ∈ lw_all := lw_g (lw_at lw_m6 213 rfl) rfl
theorem q1569 : (Jvm.Cond.lays "TruthBridgeModel" "TruthBridgeModel" "goesBack" "Z") ∈ lw_all := lw_g (lw_at lw_m6 214 rfl) rfl
theorem q1570 : (Jvm.Cond.soleField "TruthBridgeModel" "goesBack") ∈ lw_all := lw_g (lw_at lw_m6 215 rfl) rfl
theorem q1571 : (Jvm.Cond.superclass "TruthBridgeModel" "java/lang/Object") ∈ lw_all := lw_g (lw_at lw_m6 216 rfl) rfl
theorem q1574 : (Jvm.Cond.instanceMethod ({ cls := "TruthBridgeModel", name := "feed", desc := "(IIIII)I" } : Jvm.MethodName)) ∈ lw_all := lw_g (lw_at lw_m6 219 rfl) rfl
theorem q1575 : (Jvm.Cond.selects "TruthBridgeModel" ({ cls := "TruthBridgeModel", name := "feed", desc := "(IIIII)I" } : Jvm.MethodName) ({ cls := "TruthBridgeModel", name := "feed", desc := "(IIIII)I" } : Jvm.MethodName)) ∈ lw_all := lw_g (lw_at lw_m6 220 rfl) rfl
theorem q1576 : (Jvm.Cond.code ({ cls := "TruthBridgeModel", name := "feed", desc := "(IIIII)I" } : Jvm.MethodName) prog_21_method_13_code (6 : Nat) (Option.some Jvm.ClassFile.FieldType.int)) ∈ lw_all := lw_g (lw_at lw_m6 221 rfl) rfl
theorem q1577 : (Jvm.Cond.methodLink "TruthBridgeModel" (197 : Nat) ({ cls := "TruthBridgeModel", name := "put", desc := "(I)V" } : Jvm.MethodName)) ∈ lw_all := lw_g (lw_at lw_m6 222 rfl) rfl
theorem q1578 : (Jvm.Cond.privateMethod ({ cls := "TruthBridgeModel", name := "put", desc := "(I)V" } : Jvm.MethodName)) ∈ lw_tbl := lw_at lw_m6 223 rfl
theorem q1579 : (Jvm.Cond.instanceMethod ({ cls := "TruthBridgeModel", name := "put", desc := "(I)V" } : Jvm.MethodName)) ∈ lw_all := lw_g (lw_at lw_m6 224 rfl) rfl
theorem q1580 : (Jvm.Cond.code ({ cls := "TruthBridgeModel", name := "put", desc := "(I)V" } : Jvm.MethodName) prog_21_method_14_code (3 : Nat) (Option.none : Option Jvm.ClassFile.FieldType)) ∈ lw_all := lw_g (lw_at lw_m6 225 rfl) rfl
theorem q1582 : (Jvm.Cond.instanceMethod ({ cls := "TruthBridgeModel", name := "end", desc := "(I)I" } : Jvm.MethodName)) ∈ lw_all := lw_g (lw_at lw_m6 227 rfl) rfl
theorem q1583 : (Jvm.Cond.selects "TruthBridgeModel" ({ cls := "TruthBridgeModel", name := "end", desc := "(I)I" } : Jvm.MethodName) ({ cls := "TruthBridgeModel", name := "end", desc := "(I)I" } : Jvm.MethodName)) ∈ lw_all := lw_g (lw_at lw_m6 228 rfl) rfl
theorem q1584 : (Jvm.Cond.code ({ cls := "TruthBridgeModel", name := "end", desc := "(I)I" } : Jvm.MethodName) prog_21_method_15_code (2 : Nat) (Option.some Jvm.ClassFile.FieldType.int)) ∈ lw_all := lw_g (lw_at lw_m6 229 rfl) rfl
theorem q1586 : (Jvm.Cond.instanceMethod ({ cls := "TruthBridgeModel", name := "land", desc := "()I" } : Jvm.MethodName)) ∈ lw_all := lw_g (lw_at lw_m6 231 rfl) rfl
theorem q1587 : (Jvm.Cond.selects "TruthBridgeModel" ({ cls := "TruthBridgeModel", name := "land", desc := "()I" } : Jvm.MethodName) ({ cls := "TruthBridgeModel", name := "land", desc := "()I" } : Jvm.MethodName)) ∈ lw_all := lw_g (lw_at lw_m6 232 rfl) rfl
theorem q1588 : (Jvm.Cond.code ({ cls := "TruthBridgeModel", name := "land", desc := "()I" } : Jvm.MethodName) prog_21_method_46_code (3 : Nat) (Option.some Jvm.ClassFile.FieldType.int)) ∈ lw_all := lw_g (lw_at lw_m6 233 rfl) rfl
theorem q1589 : (Jvm.Cond.methodLink "TruthBridgeModel" (349 : Nat) ({ cls := "TruthBridgeModel", name := "readsAll", desc := "()V" } : Jvm.MethodName)) ∈ lw_all := lw_g (lw_at lw_m6 234 rfl) rfl
theorem q1590 : (Jvm.Cond.privateMethod ({ cls := "TruthBridgeModel", name := "readsAll", desc := "()V" } : Jvm.MethodName)) ∈ lw_tbl := lw_at lw_m6 235 rfl
theorem q1591 : (Jvm.Cond.instanceMethod ({ cls := "TruthBridgeModel", name := "readsAll", desc := "()V" } : Jvm.MethodName)) ∈ lw_all := lw_g (lw_at lw_m6 236 rfl) rfl
theorem q1592 : (Jvm.Cond.code ({ cls := "TruthBridgeModel", name := "readsAll", desc := "()V" } : Jvm.MethodName) prog_21_method_45_code (3 : Nat) (Option.none : Option Jvm.ClassFile.FieldType)) ∈ lw_all := lw_g (lw_at lw_m6 237 rfl) rfl
theorem q1593 : (Jvm.Cond.methodLink "TruthBridgeModel" (340 : Nat) ({ cls := "TruthBridgeModel", name := "starts", desc := "()V" } : Jvm.MethodName)) ∈ lw_all := lw_g (lw_at lw_m6 238 rfl) rfl
theorem q1594 : (Jvm.Cond.privateMethod ({ cls := "TruthBridgeModel", name := "starts", desc := "()V" } : Jvm.MethodName)) ∈ lw_tbl := lw_at lw_m6 239 rfl
theorem q1595 : (Jvm.Cond.instanceMethod ({ cls := "TruthBridgeModel", name := "starts", desc := "()V" } : Jvm.MethodName)) ∈ lw_all := lw_g (lw_at lw_m7 0 rfl) rfl
theorem q1596 : (Jvm.Cond.code ({ cls := "TruthBridgeModel", name := "starts", desc := "()V" } : Jvm.MethodName) prog_21_method_44_code (1 : Nat) (Option.none : Option Jvm.ClassFile.FieldType)) ∈ lw_all := lw_g (lw_at lw_m7 1 rfl) rfl
theorem q1597 : (Jvm.Cond.methodLink "TruthBridgeModel" (343 : Nat) ({ cls := "TruthBridgeModel", name := "landClause", desc := "(I)V" } : Jvm.MethodName)) ∈ lw_all := lw_g (lw_at lw_m7 2 rfl) rfl
theorem q1598 : (Jvm.Cond.privateMethod ({ cls := "TruthBridgeModel", name := "landClause", desc := "(I)V" } : Jvm.MethodName)) ∈ lw_tbl := lw_at lw_m7 3 rfl
theorem q1599 : (Jvm.Cond.instanceMethod ({ cls := "TruthBridgeModel", name := "landClause", desc := "(I)V" } : Jvm.MethodName)) ∈ lw_all := lw_g (lw_at lw_m7 4 rfl) rfl
theorem q1600 : (Jvm.Cond.code ({ cls := "TruthBridgeModel", name := "landClause", desc := "(I)V" } : Jvm.MethodName) prog_21_method_41_code (4 : Nat) (Option.none : Option Jvm.ClassFile.FieldType)) ∈ lw_all := lw_g (lw_at lw_m7 5 rfl) rfl
theorem q1601 : (Jvm.Cond.methodLink "TruthBridgeModel" (240 : Nat) ({ cls := "TruthBridgeModel", name := "blanks", desc := "()V" } : Jvm.MethodName)) ∈ lw_all := lw_g (lw_at lw_m7 6 rfl) rfl
theorem q1602 : (Jvm.Cond.privateMethod ({ cls := "TruthBridgeModel", name := "blanks", desc := "()V" } : Jvm.MethodName)) ∈ lw_tbl := lw_at lw_m7 7 rfl
theorem q1603 : (Jvm.Cond.instanceMethod ({ cls := "TruthBridgeModel", name := "blanks", desc := "()V" } : Jvm.MethodName)) ∈ lw_all := lw_g (lw_at lw_m7 8 rfl) rfl
theorem q1604 : (Jvm.Cond.code ({ cls := "TruthBridgeModel", name := "blanks", desc := "()V" } : Jvm.MethodName) prog_21_method_19_code (1 : Nat) (Option.none : Option Jvm.ClassFile.FieldType)) ∈ lw_all := lw_g (lw_at lw_m7 9 rfl) rfl
theorem q1605 : (Jvm.Cond.methodLink "TruthBridgeModel" (224 : Nat) ({ cls := "TruthBridgeModel", name := "sign", desc := "()I" } : Jvm.MethodName)) ∈ lw_all := lw_g (lw_at lw_m7 10 rfl) rfl
theorem q1606 : (Jvm.Cond.privateMethod ({ cls := "TruthBridgeModel", name := "sign", desc := "()I" } : Jvm.MethodName)) ∈ lw_tbl := lw_at lw_m7 11 rfl
theorem q1607 : (Jvm.Cond.instanceMethod ({ cls := "TruthBridgeModel", name := "sign", desc := "()I" } : Jvm.MethodName)) ∈ lw_all := lw_g (lw_at lw_m7 12 rfl) rfl
theorem q1608 : (Jvm.Cond.code ({ cls := "TruthBridgeModel", name := "sign", desc := "()I" } : Jvm.MethodName) prog_21_method_18_code (1 : Nat) (Option.some Jvm.ClassFile.FieldType.int)) ∈ lw_all := lw_g (lw_at lw_m7 13 rfl) rfl
theorem q1609 : (Jvm.Cond.methodLink "TruthBridgeModel" (330 : Nat) ({ cls := "TruthBridgeModel", name := "landWord", desc := "(I)Ljava/lang/String;" } : Jvm.MethodName)) ∈ lw_all := lw_g (lw_at lw_m7 14 rfl) rfl
theorem q1610 : (Jvm.Cond.static ({ cls := "TruthBridgeModel", name := "landWord", desc := "(I)Ljava/lang/String;" } : Jvm.MethodName)) ∈ lw_all := lw_g (lw_at lw_m7 15 rfl) rfl
theorem q1611 : (Jvm.Cond.code ({ cls := "TruthBridgeModel", name := "landWord", desc := "(I)Ljava/lang/String;" } : Jvm.MethodName) prog_21_method_36_code (1 : Nat) (Option.some (Jvm.ClassFile.FieldType.object "java/lang/String"))) ∈ lw_all := lw_g (lw_at lw_m7 16 rfl) rfl
theorem q1612 : (Jvm.Cond.stringRef "TruthBridgeModel" (313 : Nat) "facts") ∈ lw_tbl := lw_at lw_m7 17 rfl
theorem q1613 : (Jvm.Cond.stringRef "TruthBridgeModel" (201 : Nat) "person") ∈ lw_tbl := lw_at lw_m7 18 rfl
theorem q1614 : (Jvm.Cond.stringRef "TruthBridgeModel" (315 : Nat) "place") ∈ lw_tbl := lw_at lw_m7 19 rfl
theorem q1615 : (Jvm.Cond.stringRef "TruthBridgeModel" (317 : Nat) "path") ∈ lw_tbl := lw_at lw_m7 20 rfl
theorem q1616 : (Jvm.Cond.stringRef "TruthBridgeModel" (319 : Nat) "turn") ∈ lw_tbl := lw_at lw_m7 21 rfl
theorem q1617 : (Jvm.Cond.methodLink "TruthBridgeModel" (243 : Nat) ({ cls := "TruthBridgeModel", name := "stood", desc := "(Ljava/lang/String;)Z" } : Jvm.MethodName)) ∈ lw_all := lw_g (lw_at lw_m7 22 rfl) rfl
theorem q1618 : (Jvm.Cond.privateMethod ({ cls := "TruthBridgeModel", name := "stood", desc := "(Ljava/lang/String;)Z" } : Jvm.MethodName)) ∈ lw_tbl := lw_at lw_m7 23 rfl
theorem q1619 : (Jvm.Cond.instanceMethod ({ cls := "TruthBridgeModel", name := "stood", desc := "(Ljava/lang/String;)Z" } : Jvm.MethodName)) ∈ lw_all := lw_g (lw_at lw_m7 24 rfl) rfl
theorem q1620 : (Jvm.Cond.code ({ cls := "TruthBridgeModel", name := "stood", desc := "(Ljava/lang/String;)Z" } : Jvm.MethodName) prog_21_method_21_code (5 : Nat) (Option.some Jvm.ClassFile.FieldType.boolean)) ∈ lw_all := lw_g (lw_at lw_m7 25 rfl) rfl
theorem q1621 : (Jvm.Cond.methodLink "TruthBridgeModel" (231 : Nat) ({ cls := "java/lang/String", name := "length", desc := "()I" } : Jvm.MethodName)) ∈ lw_all := lw_g (lw_at lw_m7 26 rfl) rfl
theorem q1622 : (Jvm.Cond.methodLink "TruthBridgeModel" (236 : Nat) ({ cls := "java/lang/String", name := "charAt", desc := "(I)C" } : Jvm.MethodName)) ∈ lw_all := lw_g (lw_at lw_m7 27 rfl) rfl
theorem q1623 : (Jvm.Cond.methodLink "TruthBridgeModel" (256 : Nat) ({ cls := "TruthBridgeModel", name := "fails", desc := "(II)V" } : Jvm.MethodName)) ∈ lw_all := lw_g (lw_at lw_m7 28 rfl) rfl
theorem q1624 : (Jvm.Cond.privateMethod ({ cls := "TruthBridgeModel", name := "fails", desc := "(II)V" } : Jvm.MethodName)) ∈ lw_tbl := lw_at lw_m7 29 rfl
theorem q1625 : (Jvm.Cond.instanceMethod ({ cls := "TruthBridgeModel", name := "fails", desc := "(II)V" } : Jvm.MethodName)) ∈ lw_all := lw_g (lw_at lw_m7 30 rfl) rfl
theorem q1626 : (Jvm.Cond.code ({ cls := "TruthBridgeModel", name := "fails", desc := "(II)V" } : Jvm.MethodName) prog_21_method_17_code (3 : Nat) (Option.none : Option Jvm.ClassFile.FieldType)) ∈ lw_all := lw_g (lw_at lw_m7 31 rfl) rfl
theorem q1627 : (Jvm.Cond.methodLink "TruthBridgeModel" (333 : Nat) ({ cls := "TruthBridgeModel", name := "isFull", desc := "(II)Z" } : Jvm.MethodName)) ∈ lw_all := lw_g (lw_at lw_m7 32 rfl) rfl
theorem q1628 : (Jvm.Cond.privateMethod ({ cls := "TruthBridgeModel", name := "isFull", desc := "(II)Z" } : Jvm.MethodName)) ∈ lw_tbl := lw_at lw_m7 33 rfl
theorem q1629 : (Jvm.Cond.instanceMethod ({ cls := "TruthBridgeModel", name := "isFull", desc := "(II)Z" } : Jvm.MethodName)) ∈ lw_all := lw_g (lw_at lw_m7 34 rfl) rfl
theorem q1630 : (Jvm.Cond.code ({ cls := "TruthBridgeModel", name := "isFull", desc := "(II)Z" } : Jvm.MethodName) prog_21_method_40_code (3 : Nat) (Option.some Jvm.ClassFile.FieldType.boolean)) ∈ lw_all := lw_g (lw_at lw_m7 35 rfl) rfl
theorem q1631 : (Jvm.Cond.methodLink "TruthBridgeModel" (337 : Nat) ({ cls := "TruthBridgeModel", name := "landPart", desc := "(I)V" } : Jvm.MethodName)) ∈ lw_all := lw_g (lw_at lw_m7 36 rfl) rfl
theorem q1632 : (Jvm.Cond.privateMethod ({ cls := "TruthBridgeModel", name := "landPart", desc := "(I)V" } : Jvm.MethodName)) ∈ lw_tbl := lw_at lw_m7 37 rfl
theorem q1633 : (Jvm.Cond.instanceMethod ({ cls := "TruthBridgeModel", name := "landPart", desc := "(I)V" } : Jvm.MethodName)) ∈ lw_all := lw_g (lw_at lw_m7 38 rfl) rfl
theorem q1634 : (Jvm.Cond.code ({ cls := "TruthBridgeModel", name := "landPart", desc := "(I)V" } : Jvm.MethodName) prog_21_method_39_code (3 : Nat) (Option.none : Option Jvm.ClassFile.FieldType)) ∈ lw_all := lw_g (lw_at lw_m7 39 rfl) rfl
theorem q1635 : (Jvm.Cond.methodLink "TruthBridgeModel" (320 : Nat) ({ cls := "TruthBridgeModel", name := "amount", desc := "(II)I" } : Jvm.MethodName)) ∈ lw_all := lw_g (lw_at lw_m7 40 rfl) rfl
theorem q1636 : (Jvm.Cond.privateMethod ({ cls := "TruthBridgeModel", name := "amount", desc := "(II)I" } : Jvm.MethodName)) ∈ lw_tbl := lw_at lw_m7 41 rfl
theorem q1637 : (Jvm.Cond.instanceMethod ({ cls := "TruthBridgeModel", name := "amount", desc := "(II)I" } : Jvm.MethodName)) ∈ lw_all := lw_g (lw_at lw_m7 42 rfl) rfl
theorem q1638 : (Jvm.Cond.code ({ cls := "TruthBridgeModel", name := "amount", desc := "(II)I" } : Jvm.MethodName) prog_21_method_35_code (5 : Nat) (Option.some Jvm.ClassFile.FieldType.int)) ∈ lw_all := lw_g (lw_at lw_m7 43 rfl) rfl
theorem q1639 : (Jvm.Cond.constant "TruthBridgeModel" (263 : Nat) (99999 : Int32)) ∈ lw_all := lw_g (lw_at lw_m7 44 rfl) rfl
theorem q1640 : (Jvm.Cond.methodLink "TruthBridgeModel" (264 : Nat) ({ cls := "TruthBridgeModel", name := "digits", desc := "(I)I" } : Jvm.MethodName)) ∈ lw_all := lw_g (lw_at lw_m7 45 rfl) rfl
theorem q1641 : (Jvm.Cond.privateMethod ({ cls := "TruthBridgeModel", name := "digits", desc := "(I)I" } : Jvm.MethodName)) ∈ lw_tbl := lw_at lw_m7 46 rfl
theorem q1642 : (Jvm.Cond.instanceMethod ({ cls := "TruthBridgeModel", name := "digits", desc := "(I)I" } : Jvm.MethodName)) ∈ lw_all := lw_g (lw_at lw_m7 47 rfl) rfl
theorem q1643 : (Jvm.Cond.code ({ cls := "TruthBridgeModel", name := "digits", desc := "(I)I" } : Jvm.MethodName) prog_21_method_25_code (4 : Nat) (Option.some Jvm.ClassFile.FieldType.int)) ∈ lw_all := lw_g (lw_at lw_m7 48 rfl) rfl
theorem q1644 : (Jvm.Cond.methodLink "TruthBridgeModel" (260 : Nat) ({ cls := "TruthBridgeModel", name := "isDigit", desc := "()Z" } : Jvm.MethodName)) ∈ lw_all := lw_g (lw_at lw_m7 49 rfl) rfl
theorem q1645 : (Jvm.Cond.privateMethod ({ cls := "TruthBridgeModel", name := "isDigit", desc := "()Z" } : Jvm.MethodName)) ∈ lw_tbl := lw_at lw_m7 50 rfl
theorem q1646 : (Jvm.Cond.instanceMethod ({ cls := "TruthBridgeModel", name := "isDigit", desc := "()Z" } : Jvm.MethodName)) ∈ lw_all := lw_g (lw_at lw_m7 51 rfl) rfl
theorem q1647 : (Jvm.Cond.code ({ cls := "TruthBridgeModel", name := "isDigit", desc := "()Z" } : Jvm.MethodName) prog_21_method_20_code (1 : Nat) (Option.some Jvm.ClassFile.FieldType.boolean)) ∈ lw_all := lw_g (lw_at lw_m7 52 rfl) rfl
theorem q1648 : (Jvm.Cond.constantLong "TruthBridgeModel" (227 : Nat) (48 : Int64)) ∈ lw_all := lw_g (lw_at lw_m7 53 rfl) rfl
theorem q1649 : (Jvm.Cond.constantLong "TruthBridgeModel" (229 : Nat) (57 : Int64)) ∈ lw_all := lw_g (lw_at lw_m7 54 rfl) rfl
theorem q1650 : (Jvm.Cond.methodLink "TruthBridgeModel" (179 : Nat) ({ cls := "TruthBridgeModel", name := "in", desc := "(JJJ)Z" } : Jvm.MethodName)) ∈ lw_all := lw_g (lw_at lw_m7 55 rfl) rfl
theorem q1651 : (Jvm.Cond.static ({ cls := "TruthBridgeModel", name := "in", desc := "(JJJ)Z" } : Jvm.MethodName)) ∈ lw_all := lw_g (lw_at lw_m7 56 rfl) rfl
theorem q1652 : (Jvm.Cond.code ({ cls := "TruthBridgeModel", name := "in", desc := "(JJJ)Z" } : Jvm.MethodName) prog_21_method_3_code (6 : Nat) (Option.some Jvm.ClassFile.FieldType.boolean)) ∈ lw_all := lw_g (lw_at lw_m7 57 rfl) rfl
theorem q1653 : (Jvm.Cond.methodLink "TruthBridgeModel" (324 : Nat) ({ cls := "TruthBridgeModel", name := "allRead", desc := "()I" } : Jvm.MethodName)) ∈ lw_all := lw_g (lw_at lw_m7 58 rfl) rfl
theorem q1654 : (Jvm.Cond.privateMethod ({ cls := "TruthBridgeModel", name := "allRead", desc := "()I" } : Jvm.MethodName)) ∈ lw_tbl := lw_at lw_m7 59 rfl
theorem q1655 : (Jvm.Cond.instanceMethod ({ cls := "TruthBridgeModel", name := "allRead", desc := "()I" } : Jvm.MethodName)) ∈ lw_all := lw_g (lw_at lw_m7 60 rfl) rfl
theorem q1656 : (Jvm.Cond.code ({ cls := "TruthBridgeModel", name := "allRead", desc := "()I" } : Jvm.MethodName) prog_21_method_37_code (1 : Nat) (Option.some Jvm.ClassFile.FieldType.int)) ∈ lw_all := lw_g (lw_at lw_m7 61 rfl) rfl
theorem q1657 : (Jvm.Cond.methodLink "TruthBridgeModel" (327 : Nat) ({ cls := "TruthBridgeModel", name := "readsPath", desc := "()V" } : Jvm.MethodName)) ∈ lw_all := lw_g (lw_at lw_m7 62 rfl) rfl
theorem q1658 : (Jvm.Cond.privateMethod ({ cls := "TruthBridgeModel", name := "readsPath", desc := "()V" } : Jvm.MethodName)) ∈ lw_tbl := lw_at lw_m7 63 rfl
theorem q1659 : (Jvm.Cond.instanceMethod ({ cls := "TruthBridgeModel", name := "readsPath", desc := "()V" } : Jvm.MethodName)) ∈ lw_all := lw_g (lw_at lw_m7 64 rfl) rfl
theorem q1660 : (Jvm.Cond.code ({ cls := "TruthBridgeModel", name := "readsPath", desc := "()V" } : Jvm.MethodName) prog_21_method_38_code (3 : Nat) (Option.none : Option Jvm.ClassFile.FieldType)) ∈ lw_all := lw_g (lw_at lw_m7 65 rfl) rfl
theorem q1661 : (Jvm.Cond.methodLink "TruthBridgeModel" (346 : Nat) ({ cls := "TruthBridgeModel", name := "goesOn", desc := "()Z" } : Jvm.MethodName)) ∈ lw_all := lw_g (lw_at lw_m7 66 rfl) rfl
theorem q1662 : (Jvm.Cond.privateMethod ({ cls := "TruthBridgeModel", name := "goesOn", desc := "()Z" } : Jvm.MethodName)) ∈ lw_tbl := lw_at lw_m7 67 rfl
theorem q1663 : (Jvm.Cond.instanceMethod ({ cls := "TruthBridgeModel", name := "goesOn", desc := "()Z" } : Jvm.MethodName)) ∈ lw_all := lw_g (lw_at lw_m7 68 rfl) rfl
theorem q1664 : (Jvm.Cond.code ({ cls := "TruthBridgeModel", name := "goesOn", desc := "()Z" } : Jvm.MethodName) prog_21_method_43_code (2 : Nat) (Option.some Jvm.ClassFile.FieldType.boolean)) ∈ lw_all := lw_g (lw_at lw_m7 69 rfl) rfl
theorem q1665 : (Jvm.Cond.methodLink "TruthBridgeModel" (352 : Nat) ({ cls := "TruthBridgeModel", name := "copies", desc := "([I[I)V" } : Jvm.MethodName)) ∈ lw_all := lw_g (lw_at lw_m7 70 rfl) rfl
theorem q1666 : (Jvm.Cond.static ({ cls := "TruthBridgeModel", name := "copies", desc := "([I[I)V" } : Jvm.MethodName)) ∈ lw_all := lw_g (lw_at lw_m7 71 rfl) rfl
theorem q1667 : (Jvm.Cond.code ({ cls := "TruthBridgeModel", name := "copies", desc := "([I[I)V" } : Jvm.MethodName) prog_21_method_42_code (3 : Nat) (Option.none : Option Jvm.ClassFile.FieldType)) ∈ lw_all := lw_g (lw_at lw_m7 72 rfl) rfl
theorem q1668 : (Jvm.Cond.methodLink "TruthBridgeModel" (190 : Nat) ({ cls := "TruthBridgeModel", name := "worlds", desc := "()I" } : Jvm.MethodName)) ∈ lw_all := lw_g (lw_at lw_m7 73 rfl) rfl
theorem q1669 : (Jvm.Cond.privateMethod ({ cls := "TruthBridgeModel", name := "worlds", desc := "()I" } : Jvm.MethodName)) ∈ lw_tbl := lw_at lw_m7 74 rfl
theorem q1670 : (Jvm.Cond.instanceMethod ({ cls := "TruthBridgeModel", name := "worlds", desc := "()I" } : Jvm.MethodName)) ∈ lw_all := lw_g (lw_at lw_m7 75 rfl) rfl
theorem q1671 : (Jvm.Cond.code ({ cls := "TruthBridgeModel", name := "worlds", desc := "()I" } : Jvm.MethodName) prog_21_method_11_code (1 : Nat) (Option.some Jvm.ClassFile.FieldType.int)) ∈ lw_all := lw_g (lw_at lw_m7 76 rfl) rfl
theorem q1673 : (Jvm.Cond.instanceMethod ({ cls := "TruthBridgeModel", name := "saying", desc := "()I" } : Jvm.MethodName)) ∈ lw_all := lw_g (lw_at lw_m7 78 rfl) rfl
theorem q1674 : (Jvm.Cond.selects "TruthBridgeModel" ({ cls := "TruthBridgeModel", name := "saying", desc := "()I" } : Jvm.MethodName) ({ cls := "TruthBridgeModel", name := "saying", desc := "()I" } : Jvm.MethodName)) ∈ lw_all := lw_g (lw_at lw_m7 79 rfl) rfl
theorem q1675 : (Jvm.Cond.code ({ cls := "TruthBridgeModel", name := "saying", desc := "()I" } : Jvm.MethodName) prog_21_method_57_code (3 : Nat) (Option.some Jvm.ClassFile.FieldType.int)) ∈ lw_all := lw_g (lw_at lw_m7 80 rfl) rfl
theorem q1676 : (Jvm.Cond.methodLink "TruthBridgeModel" (365 : Nat) ({ cls := "TruthBridgeModel", name := "beginsLevel", desc := "()V" } : Jvm.MethodName)) ∈ lw_all := lw_g (lw_at lw_m7 81 rfl) rfl
theorem q1677 : (Jvm.Cond.privateMethod ({ cls := "TruthBridgeModel", name := "beginsLevel", desc := "()V" } : Jvm.MethodName)) ∈ lw_tbl := lw_at lw_m7 82 rfl
theorem q1678 : (Jvm.Cond.instanceMethod ({ cls := "TruthBridgeModel", name := "beginsLevel", desc := "()V" } : Jvm.MethodName)) ∈ lw_all := lw_g (lw_at lw_m7 83 rfl) rfl
theorem q1679 : (Jvm.Cond.code ({ cls := "TruthBridgeModel", name := "beginsLevel", desc := "()V" } : Jvm.MethodName) prog_21_method_47_code (2 : Nat) (Option.none : Option Jvm.ClassFile.FieldType)) ∈ lw_all := lw_g (lw_at lw_m7 84 rfl) rfl
theorem q1680 : (Jvm.Cond.methodLink "TruthBridgeModel" (411 : Nat) ({ cls := "TruthBridgeModel", name := "readsOperand", desc := "()Z" } : Jvm.MethodName)) ∈ lw_all := lw_g (lw_at lw_m7 85 rfl) rfl
theorem q1681 : (Jvm.Cond.privateMethod ({ cls := "TruthBridgeModel", name := "readsOperand", desc := "()Z" } : Jvm.MethodName)) ∈ lw_tbl := lw_at lw_m7 86 rfl
theorem q1682 : (Jvm.Cond.instanceMethod ({ cls := "TruthBridgeModel", name := "readsOperand", desc := "()Z" } : Jvm.MethodName)) ∈ lw_all := lw_g (lw_at lw_m7 87 rfl) rfl
theorem q1683 : (Jvm.Cond.code ({ cls := "TruthBridgeModel", name := "readsOperand", desc := "()Z" } : Jvm.MethodName) prog_21_method_54_code (2 : Nat) (Option.some Jvm.ClassFile.FieldType.boolean)) ∈ lw_all := lw_g (lw_at lw_m7 88 rfl) rfl
theorem q1684 : (Jvm.Cond.methodLink "TruthBridgeModel" (390 : Nat) ({ cls := "TruthBridgeModel", name := "opensOne", desc := "(II)V" } : Jvm.MethodName)) ∈ lw_all := lw_g (lw_at lw_m7 89 rfl) rfl
theorem q1685 : (Jvm.Cond.privateMethod ({ cls := "TruthBridgeModel", name := "opensOne", desc := "(II)V" } : Jvm.MethodName)) ∈ lw_tbl := lw_at lw_m7 90 rfl
theorem q1686 : (Jvm.Cond.instanceMethod ({ cls := "TruthBridgeModel", name := "opensOne", desc := "(II)V" } : Jvm.MethodName)) ∈ lw_all := lw_g (lw_at lw_m7 91 rfl) rfl
theorem q1687 : (Jvm.Cond.code ({ cls := "TruthBridgeModel", name := "opensOne", desc := "(II)V" } : Jvm.MethodName) prog_21_method_50_code (3 : Nat) (Option.none : Option Jvm.ClassFile.FieldType)) ∈ lw_all := lw_g (lw_at lw_m7 92 rfl) rfl
theorem q1688 : (Jvm.Cond.stringRef "TruthBridgeModel" (296 : Nat) "not") ∈ lw_tbl := lw_at lw_m7 93 rfl
theorem q1689 : (Jvm.Cond.methodLink "TruthBridgeModel" (393 : Nat) ({ cls := "TruthBridgeModel", name := "letterHere", desc := "()I" } : Jvm.MethodName)) ∈ lw_all := lw_g (lw_at lw_m7 94 rfl) rfl
theorem q1690 : (Jvm.Cond.privateMethod ({ cls := "TruthBridgeModel", name := "letterHere", desc := "()I" } : Jvm.MethodName)) ∈ lw_tbl := lw_at lw_m7 95 rfl
theorem q1691 : (Jvm.Cond.instanceMethod ({ cls := "TruthBridgeModel", name := "letterHere", desc := "()I" } : Jvm.MethodName)) ∈ lw_all := lw_g (lw_at lw_m7 96 rfl) rfl
theorem q1692 : (Jvm.Cond.code ({ cls := "TruthBridgeModel", name := "letterHere", desc := "()I" } : Jvm.MethodName) prog_21_method_52_code (2 : Nat) (Option.some Jvm.ClassFile.FieldType.int)) ∈ lw_all := lw_g (lw_at lw_m7 97 rfl) rfl
theorem q1693 : (Jvm.Cond.methodLink "TruthBridgeModel" (371 : Nat) ({ cls := "TruthBridgeModel", name := "letterOf", desc := "(I)Ljava/lang/String;" } : Jvm.MethodName)) ∈ lw_all := lw_g (lw_at lw_m7 98 rfl) rfl
theorem q1694 : (Jvm.Cond.static ({ cls := "TruthBridgeModel", name := "letterOf", desc := "(I)Ljava/lang/String;" } : Jvm.MethodName)) ∈ lw_all := lw_g (lw_at lw_m7 99 rfl) rfl
theorem q1695 : (Jvm.Cond.code ({ cls := "TruthBridgeModel", name := "letterOf", desc := "(I)Ljava/lang/String;" } : Jvm.MethodName) prog_21_method_53_code (1 : Nat) (Option.some (Jvm.ClassFile.FieldType.object "java/lang/String"))) ∈ lw_all := lw_g (lw_at lw_m7 100 rfl) rfl
theorem q1696 : (Jvm.Cond.stringRef "TruthBridgeModel" (374 : Nat) "a") ∈ lw_tbl := lw_at lw_m7 101 rfl
theorem q1697 : (Jvm.Cond.stringRef "TruthBridgeModel" (376 : Nat) "b") ∈ lw_tbl := lw_at lw_m7 102 rfl
theorem q1698 : (Jvm.Cond.stringRef "TruthBridgeModel" (378 : Nat) "c") ∈ lw_tbl := lw_at lw_m7 103 rfl
theorem q1699 : (Jvm.Cond.stringRef "TruthBridgeModel" (380 : Nat) "d") ∈ lw_tbl := lw_at lw_m7 104 rfl
theorem q1700 : (Jvm.Cond.stringRef "TruthBridgeModel" (382 : Nat) "e") ∈ lw_tbl := lw_at lw_m7 105 rfl
theorem q1701 : (Jvm.Cond.stringRef "TruthBridgeModel" (384 : Nat) "f") ∈ lw_tbl := lw_at lw_m7 106 rfl
theorem q1702 : (Jvm.Cond.stringRef "TruthBridgeModel" (386 : Nat) "g") ∈ lw_tbl := lw_at lw_m7 107 rfl
theorem q1703 : (Jvm.Cond.stringRef "TruthBridgeModel" (388 : Nat) "h") ∈ lw_tbl := lw_at lw_m7 108 rfl
theorem q1704 : (Jvm.Cond.methodLink "TruthBridgeModel" (399 : Nat) ({ cls := "TruthBridgeModel", name := "laysLetter", desc := "(I)V" } : Jvm.MethodName)) ∈ lw_all := lw_g (lw_at lw_m7 109 rfl) rfl
theorem q1705 : (Jvm.Cond.privateMethod ({ cls := "TruthBridgeModel", name := "laysLetter", desc := "(I)V" } : Jvm.MethodName)) ∈ lw_tbl := lw_at lw_m7 110 rfl
theorem q1706 : (Jvm.Cond.instanceMethod ({ cls := "TruthBridgeModel", name := "laysLetter", desc := "(I)V" } : Jvm.MethodName)) ∈ lw_all := lw_g (lw_at lw_m7 111 rfl) rfl
theorem q1707 : (Jvm.Cond.code ({ cls := "TruthBridgeModel", name := "laysLetter", desc := "(I)V" } : Jvm.MethodName) prog_21_method_51_code (4 : Nat) (Option.none : Option Jvm.ClassFile.FieldType)) ∈ lw_all := lw_g (lw_at lw_m7 112 rfl) rfl
theorem q1708 : (Jvm.Cond.methodLink "TruthBridgeModel" (368 : Nat) ({ cls := "TruthBridgeModel", name := "has", desc := "(II)Z" } : Jvm.MethodName)) ∈ lw_all := lw_g (lw_at lw_m7 113 rfl) rfl
theorem q1709 : (Jvm.Cond.static ({ cls := "TruthBridgeModel", name := "has", desc := "(II)Z" } : Jvm.MethodName)) ∈ lw_all := lw_g (lw_at lw_m7 114 rfl) rfl
theorem q1710 : (Jvm.Cond.code ({ cls := "TruthBridgeModel", name := "has", desc := "(II)Z" } : Jvm.MethodName) prog_21_method_5_code (2 : Nat) (Option.some Jvm.ClassFile.FieldType.boolean)) ∈ lw_all := lw_g (lw_at lw_m7 115 rfl) rfl
theorem q1711 : (Jvm.Cond.methodLink "TruthBridgeModel" (402 : Nat) ({ cls := "TruthBridgeModel", name := "operandEnds", desc := "()V" } : Jvm.MethodName)) ∈ lw_all := lw_g (lw_at lw_m7 116 rfl) rfl
theorem q1712 : (Jvm.Cond.privateMethod ({ cls := "TruthBridgeModel", name := "operandEnds", desc := "()V" } : Jvm.MethodName)) ∈ lw_tbl := lw_at lw_m7 117 rfl
theorem q1713 : (Jvm.Cond.instanceMethod ({ cls := "TruthBridgeModel", name := "operandEnds", desc := "()V" } : Jvm.MethodName)) ∈ lw_all := lw_g (lw_at lw_m7 118 rfl) rfl
theorem q1714 : (Jvm.Cond.code ({ cls := "TruthBridgeModel", name := "operandEnds", desc := "()V" } : Jvm.MethodName) prog_21_method_49_code (2 : Nat) (Option.none : Option Jvm.ClassFile.FieldType)) ∈ lw_all := lw_g (lw_at lw_m7 119 rfl) rfl
theorem q1715 : (Jvm.Cond.methodLink "TruthBridgeModel" (414 : Nat) ({ cls := "TruthBridgeModel", name := "readsBehind", desc := "()Z" } : Jvm.MethodName)) ∈ lw_all := lw_g (lw_at lw_m7 120 rfl) rfl
theorem q1716 : (Jvm.Cond.privateMethod ({ cls := "TruthBridgeModel", name := "readsBehind", desc := "()Z" } : Jvm.MethodName)) ∈ lw_tbl := lw_at lw_m7 121 rfl
theorem q1717 : (Jvm.Cond.instanceMethod ({ cls := "TruthBridgeModel", name := "readsBehind", desc := "()Z" } : Jvm.MethodName)) ∈ lw_all := lw_g (lw_at lw_m7 122 rfl) rfl
theorem q1718 : (Jvm.Cond.code ({ cls := "TruthBridgeModel", name := "readsBehind", desc := "()Z" } : Jvm.MethodName) prog_21_method_56_code (1 : Nat) (Option.some Jvm.ClassFile.FieldType.boolean)) ∈ lw_all := lw_g (lw_at lw_m7 123 rfl) rfl
theorem q1719 : (Jvm.Cond.methodLink "TruthBridgeModel" (408 : Nat) ({ cls := "TruthBridgeModel", name := "closesLevel", desc := "()V" } : Jvm.MethodName)) ∈ lw_all := lw_g (lw_at lw_m7 124 rfl) rfl
theorem q1720 : (Jvm.Cond.privateMethod ({ cls := "TruthBridgeModel", name := "closesLevel", desc := "()V" } : Jvm.MethodName)) ∈ lw_tbl := lw_at lw_m7 125 rfl
theorem q1721 : (Jvm.Cond.instanceMethod ({ cls := "TruthBridgeModel", name := "closesLevel", desc := "()V" } : Jvm.MethodName)) ∈ lw_all := lw_g (lw_at lw_m7 126 rfl) rfl
theorem q1722 : (Jvm.Cond.code ({ cls := "TruthBridgeModel", name := "closesLevel", desc := "()V" } : Jvm.MethodName) prog_21_method_55_code (2 : Nat) (Option.none : Option Jvm.ClassFile.FieldType)) ∈ lw_all := lw_g (lw_at lw_m7 127 rfl) rfl
theorem q1723 : (Jvm.Cond.methodLink "TruthBridgeModel" (405 : Nat) ({ cls := "TruthBridgeModel", name := "foldsOr", desc := "()V" } : Jvm.MethodName)) ∈ lw_all := lw_g (lw_at lw_m7 128 rfl) rfl
theorem q1724 : (Jvm.Cond.privateMethod ({ cls := "TruthBridgeModel", name := "foldsOr", desc := "()V" } : Jvm.MethodName)) ∈ lw_tbl := lw_at lw_m7 129 rfl
theorem q1725 : (Jvm.Cond.instanceMethod ({ cls := "TruthBridgeModel", name := "foldsOr", desc := "()V" } : Jvm.MethodName)) ∈ lw_all := lw_g (lw_at lw_m7 130 rfl) rfl
theorem q1726 : (Jvm.Cond.code ({ cls := "TruthBridgeModel", name := "foldsOr", desc := "()V" } : Jvm.MethodName) prog_21_method_48_code (2 : Nat) (Option.none : Option Jvm.ClassFile.FieldType)) ∈ lw_all := lw_g (lw_at lw_m7 131 rfl) rfl
theorem q1727 : (Jvm.Cond.stringRef "TruthBridgeModel" (309 : Nat) "and") ∈ lw_tbl := lw_at lw_m7 132 rfl
theorem q1728 : (Jvm.Cond.stringRef "TruthBridgeModel" (311 : Nat) "or") ∈ lw_tbl := lw_at lw_m7 133 rfl
theorem q1730 : (Jvm.Cond.instanceMethod ({ cls := "TruthBridgeModel", name := "rule", desc := "()I" } : Jvm.MethodName)) ∈ lw_all := lw_g (lw_at lw_m7 135 rfl) rfl
theorem q1731 : (Jvm.Cond.selects "TruthBridgeModel" ({ cls := "TruthBridgeModel", name := "rule", desc := "()I" } : Jvm.MethodName) ({ cls := "TruthBridgeModel", name := "rule", desc := "()I" } : Jvm.MethodName)) ∈ lw_all := lw_g (lw_at lw_m7 136 rfl) rfl
theorem q1732 : (Jvm.Cond.code ({ cls := "TruthBridgeModel", name := "rule", desc := "()I" } : Jvm.MethodName) prog_21_method_59_code (3 : Nat) (Option.some Jvm.ClassFile.FieldType.int)) ∈ lw_all := lw_g (lw_at lw_m7 137 rfl) rfl
theorem q1733 : (Jvm.Cond.methodLink "TruthBridgeModel" (430 : Nat) ({ cls := "TruthBridgeModel", name := "ruleClause", desc := "(I)V" } : Jvm.MethodName)) ∈ lw_all := lw_g (lw_at lw_m7 138 rfl) rfl
theorem q1734 : (Jvm.Cond.privateMethod ({ cls := "TruthBridgeModel", name := "ruleClause", desc := "(I)V" } : Jvm.MethodName)) ∈ lw_tbl := lw_at lw_m7 139 rfl
theorem q1735 : (Jvm.Cond.instanceMethod ({ cls := "TruthBridgeModel", name := "ruleClause", desc := "(I)V" } : Jvm.MethodName)) ∈ lw_all := lw_g (lw_at lw_m7 140 rfl) rfl
theorem q1736 : (Jvm.Cond.code ({ cls := "TruthBridgeModel", name := "ruleClause", desc := "(I)V" } : Jvm.MethodName) prog_21_method_58_code (4 : Nat) (Option.none : Option Jvm.ClassFile.FieldType)) ∈ lw_all := lw_g (lw_at lw_m7 141 rfl) rfl
theorem q1737 : (Jvm.Cond.stringRef "TruthBridgeModel" (417 : Nat) "say") ∈ lw_tbl := lw_at lw_m7 142 rfl
theorem q1738 : (Jvm.Cond.methodLink "TruthBridgeModel" (284 : Nat) ({ cls := "TruthBridgeModel", name := "sum", desc := "()V" } : Jvm.MethodName)) ∈ lw_all := lw_g (lw_at lw_m7 143 rfl) rfl
theorem q1739 : (Jvm.Cond.privateMethod ({ cls := "TruthBridgeModel", name := "sum", desc := "()V" } : Jvm.MethodName)) ∈ lw_tbl := lw_at lw_m7 144 rfl
theorem q1740 : (Jvm.Cond.instanceMethod ({ cls := "TruthBridgeModel", name := "sum", desc := "()V" } : Jvm.MethodName)) ∈ lw_all := lw_g (lw_at lw_m7 145 rfl) rfl
theorem q1741 : (Jvm.Cond.code ({ cls := "TruthBridgeModel", name := "sum", desc := "()V" } : Jvm.MethodName) prog_21_method_28_code (2 : Nat) (Option.none : Option Jvm.ClassFile.FieldType)) ∈ lw_all := lw_g (lw_at lw_m7 146 rfl) rfl
theorem q1742 : (Jvm.Cond.methodLink "TruthBridgeModel" (281 : Nat) ({ cls := "TruthBridgeModel", name := "term", desc := "()V" } : Jvm.MethodName)) ∈ lw_all := lw_g (lw_at lw_m7 147 rfl) rfl
theorem q1743 : (Jvm.Cond.privateMethod ({ cls := "TruthBridgeModel", name := "term", desc := "()V" } : Jvm.MethodName)) ∈ lw_tbl := lw_at lw_m7 148 rfl
theorem q1744 : (Jvm.Cond.instanceMethod ({ cls := "TruthBridgeModel", name := "term", desc := "()V" } : Jvm.MethodName)) ∈ lw_all := lw_g (lw_at lw_m7 149 rfl) rfl
theorem q1745 : (Jvm.Cond.code ({ cls := "TruthBridgeModel", name := "term", desc := "()V" } : Jvm.MethodName) prog_21_method_27_code (2 : Nat) (Option.none : Option Jvm.ClassFile.FieldType)) ∈ lw_all := lw_g (lw_at lw_m7 150 rfl) rfl
theorem q1746 : (Jvm.Cond.methodLink "TruthBridgeModel" (278 : Nat) ({ cls := "TruthBridgeModel", name := "value", desc := "()V" } : Jvm.MethodName)) ∈ lw_all := lw_g (lw_at lw_m7 151 rfl) rfl
theorem q1747 : (Jvm.Cond.privateMethod ({ cls := "TruthBridgeModel", name := "value", desc := "()V" } : Jvm.MethodName)) ∈ lw_tbl := lw_at lw_m7 152 rfl
theorem q1748 : (Jvm.Cond.instanceMethod ({ cls := "TruthBridgeModel", name := "value", desc := "()V" } : Jvm.MethodName)) ∈ lw_all := lw_g (lw_at lw_m7 153 rfl) rfl
theorem q1749 : (Jvm.Cond.code ({ cls := "TruthBridgeModel", name := "value", desc := "()V" } : Jvm.MethodName) prog_21_method_26_code (3 : Nat) (Option.none : Option Jvm.ClassFile.FieldType)) ∈ lw_all := lw_g (lw_at lw_m7 154 rfl) rfl
theorem q1750 : (Jvm.Cond.methodLink "TruthBridgeModel" (268 : Nat) ({ cls := "TruthBridgeModel", name := "isCounted", desc := "(I)V" } : Jvm.MethodName)) ∈ lw_all := lw_g (lw_at lw_m7 155 rfl) rfl
theorem q1751 : (Jvm.Cond.privateMethod ({ cls := "TruthBridgeModel", name := "isCounted", desc := "(I)V" } : Jvm.MethodName)) ∈ lw_tbl := lw_at lw_m7 156 rfl
theorem q1752 : (Jvm.Cond.instanceMethod ({ cls := "TruthBridgeModel", name := "isCounted", desc := "(I)V" } : Jvm.MethodName)) ∈ lw_all := lw_g (lw_at lw_m7 157 rfl) rfl
theorem q1753 : (Jvm.Cond.code ({ cls := "TruthBridgeModel", name := "isCounted", desc := "(I)V" } : Jvm.MethodName) prog_21_method_24_code (2 : Nat) (Option.none : Option Jvm.ClassFile.FieldType)) ∈ lw_all := lw_g (lw_at lw_m7 158 rfl) rfl
theorem q1754 : (Jvm.Cond.methodLink "TruthBridgeModel" (271 : Nat) ({ cls := "TruthBridgeModel", name := "entry", desc := "(II)V" } : Jvm.MethodName)) ∈ lw_all := lw_g (lw_at lw_m7 159 rfl) rfl
theorem q1755 : (Jvm.Cond.privateMethod ({ cls := "TruthBridgeModel", name := "entry", desc := "(II)V" } : Jvm.MethodName)) ∈ lw_tbl := lw_at lw_m7 160 rfl
theorem q1756 : (Jvm.Cond.instanceMethod ({ cls := "TruthBridgeModel", name := "entry", desc := "(II)V" } : Jvm.MethodName)) ∈ lw_all := lw_g (lw_at lw_m7 161 rfl) rfl
theorem q1757 : (Jvm.Cond.code ({ cls := "TruthBridgeModel", name := "entry", desc := "(II)V" } : Jvm.MethodName) prog_21_method_23_code (3 : Nat) (Option.none : Option Jvm.ClassFile.FieldType)) ∈ lw_all := lw_g (lw_at lw_m7 162 rfl) rfl
theorem q1758 : (Jvm.Cond.methodLink "TruthBridgeModel" (274 : Nat) ({ cls := "TruthBridgeModel", name := "wordOf", desc := "(I)Ljava/lang/String;" } : Jvm.MethodName)) ∈ lw_all := lw_g (lw_at lw_m7 163 rfl) rfl
theorem q1759 : (Jvm.Cond.static ({ cls := "TruthBridgeModel", name := "wordOf", desc := "(I)Ljava/lang/String;" } : Jvm.MethodName)) ∈ lw_all := lw_g (lw_at lw_m7 164 rfl) rfl
theorem q1760 : (Jvm.Cond.code ({ cls := "TruthBridgeModel", name := "wordOf", desc := "(I)Ljava/lang/String;" } : Jvm.MethodName) prog_21_method_16_code (1 : Nat) (Option.some (Jvm.ClassFile.FieldType.object "java/lang/String"))) ∈ lw_all := lw_g (lw_at lw_m7 165 rfl) rfl
theorem q1761 : (Jvm.Cond.stringRef "TruthBridgeModel" (203 : Nat) "side") ∈ lw_tbl := lw_at lw_m7 166 rfl
theorem q1762 : (Jvm.Cond.stringRef "TruthBridgeModel" (204 : Nat) "weight") ∈ lw_tbl := lw_at lw_m7 167 rfl
theorem q1763 : (Jvm.Cond.stringRef "TruthBridgeModel" (205 : Nat) "saying") ∈ lw_tbl := lw_at lw_m7 168 rfl
theorem q1764 : (Jvm.Cond.stringRef "TruthBridgeModel" (207 : Nat) "knows") ∈ lw_tbl := lw_at lw_m7 169 rfl
theorem q1765 : (Jvm.Cond.stringRef "TruthBridgeModel" (209 : Nat) "gain") ∈ lw_tbl := lw_at lw_m7 170 rfl
theorem q1766 : (Jvm.Cond.stringRef "TruthBridgeModel" (211 : Nat) "left") ∈ lw_tbl := lw_at lw_m7 171 rfl
theorem q1767 : (Jvm.Cond.stringRef "TruthBridgeModel" (213 : Nat) "here") ∈ lw_tbl := lw_at lw_m7 172 rfl
theorem q1768 : (Jvm.Cond.stringRef "TruthBridgeModel" (215 : Nat) "day") ∈ lw_tbl := lw_at lw_m7 173 rfl
theorem q1769 : (Jvm.Cond.stringRef "TruthBridgeModel" (217 : Nat) "price") ∈ lw_tbl := lw_at lw_m7 174 rfl
theorem q1770 : (Jvm.Cond.stringRef "TruthBridgeModel" (419 : Nat) "if") ∈ lw_tbl := lw_at lw_m7 175 rfl
theorem q1771 : (Jvm.Cond.methodLink "TruthBridgeModel" (421 : Nat) ({ cls := "TruthBridgeModel", name := "takes", desc := "(Ljava/lang/String;)Z" } : Jvm.MethodName)) ∈ lw_all := lw_g (lw_at lw_m7 176 rfl) rfl
theorem q1772 : (Jvm.Cond.privateMethod ({ cls := "TruthBridgeModel", name := "takes", desc := "(Ljava/lang/String;)Z" } : Jvm.MethodName)) ∈ lw_tbl := lw_at lw_m7 177 rfl
theorem q1773 : (Jvm.Cond.instanceMethod ({ cls := "TruthBridgeModel", name := "takes", desc := "(Ljava/lang/String;)Z" } : Jvm.MethodName)) ∈ lw_all := lw_g (lw_at lw_m7 178 rfl) rfl
theorem q1774 : (Jvm.Cond.code ({ cls := "TruthBridgeModel", name := "takes", desc := "(Ljava/lang/String;)Z" } : Jvm.MethodName) prog_21_method_22_code (3 : Nat) (Option.some Jvm.ClassFile.FieldType.boolean)) ∈ lw_all := lw_g (lw_at lw_m7 179 rfl) rfl
theorem q1775 : (Jvm.Cond.methodLink "TruthBridgeModel" (424 : Nat) ({ cls := "TruthBridgeModel", name := "test", desc := "()V" } : Jvm.MethodName)) ∈ lw_all := lw_g (lw_at lw_m7 180 rfl) rfl
theorem q1776 : (Jvm.Cond.privateMethod ({ cls := "TruthBridgeModel", name := "test", desc := "()V" } : Jvm.MethodName)) ∈ lw_tbl := lw_at lw_m7 181 rfl
theorem q1777 : (Jvm.Cond.instanceMethod ({ cls := "TruthBridgeModel", name := "test", desc := "()V" } : Jvm.MethodName)) ∈ lw_all := lw_g (lw_at lw_m7 182 rfl) rfl
theorem q1778 : (Jvm.Cond.code ({ cls := "TruthBridgeModel", name := "test", desc := "()V" } : Jvm.MethodName) prog_21_method_34_code (5 : Nat) (Option.none : Option Jvm.ClassFile.FieldType)) ∈ lw_all := lw_g (lw_at lw_m7 183 rfl) rfl
theorem q1779 : (Jvm.Cond.methodLink "TruthBridgeModel" (303 : Nat) ({ cls := "TruthBridgeModel", name := "fact", desc := "()Z" } : Jvm.MethodName)) ∈ lw_all := lw_g (lw_at lw_m7 184 rfl) rfl
theorem q1780 : (Jvm.Cond.privateMethod ({ cls := "TruthBridgeModel", name := "fact", desc := "()Z" } : Jvm.MethodName)) ∈ lw_tbl := lw_at lw_m7 185 rfl
theorem q1781 : (Jvm.Cond.instanceMethod ({ cls := "TruthBridgeModel", name := "fact", desc := "()Z" } : Jvm.MethodName)) ∈ lw_all := lw_g (lw_at lw_m7 186 rfl) rfl
theorem q1782 : (Jvm.Cond.code ({ cls := "TruthBridgeModel", name := "fact", desc := "()Z" } : Jvm.MethodName) prog_21_method_33_code (1 : Nat) (Option.some Jvm.ClassFile.FieldType.boolean)) ∈ lw_all := lw_g (lw_at lw_m7 187 rfl) rfl
theorem q1783 : (Jvm.Cond.methodLink "TruthBridgeModel" (298 : Nat) ({ cls := "TruthBridgeModel", name := "opens", desc := "(I)V" } : Jvm.MethodName)) ∈ lw_all := lw_g (lw_at lw_m7 188 rfl) rfl
theorem q1784 : (Jvm.Cond.privateMethod ({ cls := "TruthBridgeModel", name := "opens", desc := "(I)V" } : Jvm.MethodName)) ∈ lw_tbl := lw_at lw_m7 189 rfl
theorem q1785 : (Jvm.Cond.instanceMethod ({ cls := "TruthBridgeModel", name := "opens", desc := "(I)V" } : Jvm.MethodName)) ∈ lw_all := lw_g (lw_at lw_m7 190 rfl) rfl
theorem q1786 : (Jvm.Cond.code ({ cls := "TruthBridgeModel", name := "opens", desc := "(I)V" } : Jvm.MethodName) prog_21_method_31_code (2 : Nat) (Option.none : Option Jvm.ClassFile.FieldType)) ∈ lw_all := lw_g (lw_at lw_m7 191 rfl) rfl
theorem q1787 : (Jvm.Cond.methodLink "TruthBridgeModel" (300 : Nat) ({ cls := "TruthBridgeModel", name := "compared", desc := "()V" } : Jvm.MethodName)) ∈ lw_all := lw_g (lw_at lw_m7 192 rfl) rfl
theorem q1788 : (Jvm.Cond.privateMethod ({ cls := "TruthBridgeModel", name := "compared", desc := "()V" } : Jvm.MethodName)) ∈ lw_tbl := lw_at lw_m7 193 rfl
theorem q1789 : (Jvm.Cond.instanceMethod ({ cls := "TruthBridgeModel", name := "compared", desc := "()V" } : Jvm.MethodName)) ∈ lw_all := lw_g (lw_at lw_m7 194 rfl) rfl
theorem q1790 : (Jvm.Cond.code ({ cls := "TruthBridgeModel", name := "compared", desc := "()V" } : Jvm.MethodName) prog_21_method_29_code (3 : Nat) (Option.none : Option Jvm.ClassFile.FieldType)) ∈ lw_all := lw_g (lw_at lw_m7 195 rfl) rfl
theorem q1791 : (Jvm.Cond.methodLink "TruthBridgeModel" (306 : Nat) ({ cls := "TruthBridgeModel", name := "answers", desc := "(I)V" } : Jvm.MethodName)) ∈ lw_all := lw_g (lw_at lw_m7 196 rfl) rfl
theorem q1792 : (Jvm.Cond.privateMethod ({ cls := "TruthBridgeModel", name := "answers", desc := "(I)V" } : Jvm.MethodName)) ∈ lw_tbl := lw_at lw_m7 197 rfl
theorem q1793 : (Jvm.Cond.instanceMethod ({ cls := "TruthBridgeModel", name := "answers", desc := "(I)V" } : Jvm.MethodName)) ∈ lw_all := lw_g (lw_at lw_m7 198 rfl) rfl
theorem q1794 : (Jvm.Cond.code ({ cls := "TruthBridgeModel", name := "answers", desc := "(I)V" } : Jvm.MethodName) prog_21_method_32_code (2 : Nat) (Option.none : Option Jvm.ClassFile.FieldType)) ∈ lw_all := lw_g (lw_at lw_m7 199 rfl) rfl
theorem q1795 : (Jvm.Cond.methodLink "TruthBridgeModel" (293 : Nat) ({ cls := "TruthBridgeModel", name := "top", desc := "()I" } : Jvm.MethodName)) ∈ lw_all := lw_g (lw_at lw_m7 200 rfl) rfl
theorem q1796 : (Jvm.Cond.privateMethod ({ cls := "TruthBridgeModel", name := "top", desc := "()I" } : Jvm.MethodName)) ∈ lw_tbl := lw_at lw_m7 201 rfl
theorem q1797 : (Jvm.Cond.instanceMethod ({ cls := "TruthBridgeModel", name := "top", desc := "()I" } : Jvm.MethodName)) ∈ lw_all := lw_g (lw_at lw_m7 202 rfl) rfl
theorem q1798 : (Jvm.Cond.code ({ cls := "TruthBridgeModel", name := "top", desc := "()I" } : Jvm.MethodName) prog_21_method_30_code (1 : Nat) (Option.some Jvm.ClassFile.FieldType.int)) ∈ lw_all := lw_g (lw_at lw_m7 203 rfl) rfl
theorem q1800 : (Jvm.Cond.instanceMethod ({ cls := "TruthBridgeModel", name := "person", desc := "(II)I" } : Jvm.MethodName)) ∈ lw_all := lw_g (lw_at lw_m7 205 rfl) rfl
theorem q1801 : (Jvm.Cond.selects "TruthBridgeModel" ({ cls := "TruthBridgeModel", name := "person", desc := "(II)I" } : Jvm.MethodName) ({ cls := "TruthBridgeModel", name := "person", desc := "(II)I" } : Jvm.MethodName)) ∈ lw_all := lw_g (lw_at lw_m7 206 rfl) rfl
theorem q1802 : (Jvm.Cond.code ({ cls := "TruthBridgeModel", name := "person", desc := "(II)I" } : Jvm.MethodName) prog_21_method_74_code (5 : Nat) (Option.some Jvm.ClassFile.FieldType.int)) ∈ lw_all := lw_g (lw_at lw_m7 207 rfl) rfl
theorem q1803 : (Jvm.Cond.methodLink "TruthBridgeModel" (450 : Nat) ({ cls := "TruthBridgeModel", name := "isPerson", desc := "(I)Z" } : Jvm.MethodName)) ∈ lw_all := lw_g (lw_at lw_m7 208 rfl) rfl
theorem q1804 : (Jvm.Cond.privateMethod ({ cls := "TruthBridgeModel", name := "isPerson", desc := "(I)Z" } : Jvm.MethodName)) ∈ lw_tbl := lw_at lw_m7 209 rfl
theorem q1805 : (Jvm.Cond.instanceMethod ({ cls := "TruthBridgeModel", name := "isPerson", desc := "(I)Z" } : Jvm.MethodName)) ∈ lw_all := lw_g (lw_at lw_m7 210 rfl) rfl
theorem q1806 : (Jvm.Cond.code ({ cls := "TruthBridgeModel", name := "isPerson", desc := "(I)Z" } : Jvm.MethodName) prog_21_method_7_code (2 : Nat) (Option.some Jvm.ClassFile.FieldType.boolean)) ∈ lw_all := lw_g (lw_at lw_m7 211 rfl) rfl
theorem q1807 : (Jvm.Cond.methodLink "TruthBridgeModel" (454 : Nat) ({ cls := "TruthBridgeModel", name := "manyHeld", desc := "(I)I" } : Jvm.MethodName)) ∈ lw_all := lw_g (lw_at lw_m7 212 rfl) rfl
theorem q1808 : (Jvm.Cond.privateMethod ({ cls := "TruthBridgeModel", name := "manyHeld", desc := "(I)I" } : Jvm.MethodName)) ∈ lw_tbl := lw_at lw_m7 213 rfl
theorem q1809 : (Jvm.Cond.instanceMethod ({ cls := "TruthBridgeModel", name := "manyHeld", desc := "(I)I" } : Jvm.MethodName)) ∈ lw_all := lw_g (lw_at lw_m7 214 rfl) rfl
theorem q1810 : (Jvm.Cond.code ({ cls := "TruthBridgeModel", name := "manyHeld", desc := "(I)I" } : Jvm.MethodName) prog_21_method_66_code (4 : Nat) (Option.some Jvm.ClassFile.FieldType.int)) ∈ lw_all := lw_g (lw_at lw_m7 215 rfl) rfl
theorem q1811 : (Jvm.Cond.methodLink "TruthBridgeModel" (444 : Nat) ({ cls := "TruthBridgeModel", name := "bits", desc := "(I)I" } : Jvm.MethodName)) ∈ lw_all := lw_g (lw_at lw_m7 216 rfl) rfl
theorem q1812 : (Jvm.Cond.static ({ cls := "TruthBridgeModel", name := "bits", desc := "(I)I" } : Jvm.MethodName)) ∈ lw_all := lw_g (lw_at lw_m7 217 rfl) rfl
theorem q1813 : (Jvm.Cond.code ({ cls := "TruthBridgeModel", name := "bits", desc := "(I)I" } : Jvm.MethodName) prog_21_method_4_code (3 : Nat) (Option.some Jvm.ClassFile.FieldType.int)) ∈ lw_all := lw_g (lw_at lw_m7 218 rfl) rfl
theorem q1814 : (Jvm.Cond.methodLink "TruthBridgeModel" (457 : Nat) ({ cls := "TruthBridgeModel", name := "knowsFact", desc := "(II)Z" } : Jvm.MethodName)) ∈ lw_all := lw_g (lw_at lw_m7 219 rfl) rfl
theorem q1815 : (Jvm.Cond.privateMethod ({ cls := "TruthBridgeModel", name := "knowsFact", desc := "(II)Z" } : Jvm.MethodName)) ∈ lw_tbl := lw_at lw_m7 220 rfl
theorem q1816 : (Jvm.Cond.instanceMethod ({ cls := "TruthBridgeModel", name := "knowsFact", desc := "(II)Z" } : Jvm.MethodName)) ∈ lw_all := lw_g (lw_at lw_m7 221 rfl) rfl
theorem q1817 : (Jvm.Cond.code ({ cls := "TruthBridgeModel", name := "knowsFact", desc := "(II)Z" } : Jvm.MethodName) prog_21_method_72_code (5 : Nat) (Option.some Jvm.ClassFile.FieldType.boolean)) ∈ lw_all := lw_g (lw_at lw_m7 222 rfl) rfl
theorem q1818 : (Jvm.Cond.methodLink "TruthBridgeModel" (447 : Nat) ({ cls := "TruthBridgeModel", name := "isHeld", desc := "(II)Z" } : Jvm.MethodName)) ∈ lw_all := lw_g (lw_at lw_m7 223 rfl) rfl
theorem q1819 : (Jvm.Cond.privateMethod ({ cls := "TruthBridgeModel", name := "isHeld", desc := "(II)Z" } : Jvm.MethodName)) ∈ lw_tbl := lw_at lw_m7 224 rfl
theorem q1820 : (Jvm.Cond.instanceMethod ({ cls := "TruthBridgeModel", name := "isHeld", desc := "(II)Z" } : Jvm.MethodName)) ∈ lw_all := lw_g (lw_at lw_m7 225 rfl) rfl
theorem q1821 : (Jvm.Cond.code ({ cls := "TruthBridgeModel", name := "isHeld", desc := "(II)Z" } : Jvm.MethodName) prog_21_method_71_code (3 : Nat) (Option.some Jvm.ClassFile.FieldType.boolean)) ∈ lw_all := lw_g (lw_at lw_m7 226 rfl) rfl
theorem q1823 : (Jvm.Cond.instanceMethod ({ cls := "TruthBridgeModel", name := "fact", desc := "(I)I" } : Jvm.MethodName)) ∈ lw_all := lw_g (lw_at lw_m7 228 rfl) rfl
theorem q1824 : (Jvm.Cond.selects "TruthBridgeModel" ({ cls := "TruthBridgeModel", name := "fact", desc := "(I)I" } : Jvm.MethodName) ({ cls := "TruthBridgeModel", name := "fact", desc := "(I)I" } : Jvm.MethodName)) ∈ lw_all := lw_g (lw_at lw_m7 229 rfl) rfl
theorem q1825 : (Jvm.Cond.code ({ cls := "TruthBridgeModel", name := "fact", desc := "(I)I" } : Jvm.MethodName) prog_21_method_75_code (2 : Nat) (Option.some Jvm.ClassFile.FieldType.int)) ∈ lw_all := lw_g (lw_at lw_m7 230 rfl) rfl
theorem q1826 : (Jvm.Cond.methodLink "TruthBridgeModel" (460 : Nat) ({ cls := "TruthBridgeModel", name := "isFact", desc := "(I)Z" } : Jvm.MethodName)) ∈ lw_all := lw_g (lw_at lw_m7 231 rfl) rfl
theorem q1827 : (Jvm.Cond.privateMethod ({ cls := "TruthBridgeModel", name := "isFact", desc := "(I)Z" } : Jvm.MethodName)) ∈ lw_tbl := lw_at lw_m7 232 rfl
theorem q1828 : (Jvm.Cond.instanceMethod ({ cls := "TruthBridgeModel", name := "isFact", desc := "(I)Z" } : Jvm.MethodName)) ∈ lw_all := lw_g (lw_at lw_m7 233 rfl) rfl
theorem q1829 : (Jvm.Cond.code ({ cls := "TruthBridgeModel", name := "isFact", desc := "(I)Z" } : Jvm.MethodName) prog_21_method_9_code (2 : Nat) (Option.some Jvm.ClassFile.FieldType.boolean)) ∈ lw_all := lw_g (lw_at lw_m7 234 rfl) rfl
theorem q1831 : (Jvm.Cond.instanceMethod ({ cls := "TruthBridgeModel", name := "place", desc := "(I)I" } : Jvm.MethodName)) ∈ lw_all := lw_g (lw_at lw_m7 236 rfl) rfl
theorem q1832 : (Jvm.Cond.selects "TruthBridgeModel" ({ cls := "TruthBridgeModel", name := "place", desc := "(I)I" } : Jvm.MethodName) ({ cls := "TruthBridgeModel", name := "place", desc := "(I)I" } : Jvm.MethodName)) ∈ lw_all := lw_g (lw_at lw_m7 237 rfl) rfl
theorem q1833 : (Jvm.Cond.code ({ cls := "TruthBridgeModel", name := "place", desc := "(I)I" } : Jvm.MethodName) prog_21_method_76_code (2 : Nat) (Option.some Jvm.ClassFile.FieldType.int)) ∈ lw_all := lw_g (lw_at lw_m7 238 rfl) rfl
theorem q1834 : (Jvm.Cond.methodLink "TruthBridgeModel" (463 : Nat) ({ cls := "TruthBridgeModel", name := "isPlace", desc := "(I)Z" } : Jvm.MethodName)) ∈ lw_all := lw_g (lw_at lw_m7 239 rfl) rfl
theorem q1835 : (Jvm.Cond.privateMethod ({ cls := "TruthBridgeModel", name := "isPlace", desc := "(I)Z" } : Jvm.MethodName)) ∈ lw_tbl := lw_at lw_m8 0 rfl
theorem q1836 : (Jvm.Cond.instanceMethod ({ cls := "TruthBridgeModel", name := "isPlace", desc := "(I)Z" } : Jvm.MethodName)) ∈ lw_all := lw_g (lw_at lw_m8 1 rfl) rfl
theorem q1837 : (Jvm.Cond.code ({ cls := "TruthBridgeModel", name := "isPlace", desc := "(I)Z" } : Jvm.MethodName) prog_21_method_8_code (2 : Nat) (Option.some Jvm.ClassFile.FieldType.boolean)) ∈ lw_all := lw_g (lw_at lw_m8 2 rfl) rfl
theorem q1839 : (Jvm.Cond.instanceMethod ({ cls := "TruthBridgeModel", name := "way", desc := "(II)I" } : Jvm.MethodName)) ∈ lw_all := lw_g (lw_at lw_m8 4 rfl) rfl
theorem q1840 : (Jvm.Cond.selects "TruthBridgeModel" ({ cls := "TruthBridgeModel", name := "way", desc := "(II)I" } : Jvm.MethodName) ({ cls := "TruthBridgeModel", name := "way", desc := "(II)I" } : Jvm.MethodName)) ∈ lw_all := lw_g (lw_at lw_m8 5 rfl) rfl
theorem q1841 : (Jvm.Cond.code ({ cls := "TruthBridgeModel", name := "way", desc := "(II)I" } : Jvm.MethodName) prog_21_method_79_code (3 : Nat) (Option.some Jvm.ClassFile.FieldType.int)) ∈ lw_all := lw_g (lw_at lw_m8 6 rfl) rfl
theorem q1842 : (Jvm.Cond.methodLink "TruthBridgeModel" (467 : Nat) ({ cls := "TruthBridgeModel", name := "laysWays", desc := "()V" } : Jvm.MethodName)) ∈ lw_all := lw_g (lw_at lw_m8 7 rfl) rfl
theorem q1843 : (Jvm.Cond.privateMethod ({ cls := "TruthBridgeModel", name := "laysWays", desc := "()V" } : Jvm.MethodName)) ∈ lw_tbl := lw_at lw_m8 8 rfl
theorem q1844 : (Jvm.Cond.instanceMethod ({ cls := "TruthBridgeModel", name := "laysWays", desc := "()V" } : Jvm.MethodName)) ∈ lw_all := lw_g (lw_at lw_m8 9 rfl) rfl
theorem q1845 : (Jvm.Cond.code ({ cls := "TruthBridgeModel", name := "laysWays", desc := "()V" } : Jvm.MethodName) prog_21_method_77_code (5 : Nat) (Option.none : Option Jvm.ClassFile.FieldType)) ∈ lw_all := lw_g (lw_at lw_m8 10 rfl) rfl
theorem q1846 : (Jvm.Cond.constant "TruthBridgeModel" (466 : Nat) (100000 : Int32)) ∈ lw_all := lw_g (lw_at lw_m8 11 rfl) rfl
theorem q1847 : (Jvm.Cond.methodLink "TruthBridgeModel" (470 : Nat) ({ cls := "TruthBridgeModel", name := "wayOf", desc := "(II)I" } : Jvm.MethodName)) ∈ lw_all := lw_g (lw_at lw_m8 12 rfl) rfl
theorem q1848 : (Jvm.Cond.privateMethod ({ cls := "TruthBridgeModel", name := "wayOf", desc := "(II)I" } : Jvm.MethodName)) ∈ lw_tbl := lw_at lw_m8 13 rfl
theorem q1849 : (Jvm.Cond.instanceMethod ({ cls := "TruthBridgeModel", name := "wayOf", desc := "(II)I" } : Jvm.MethodName)) ∈ lw_all := lw_g (lw_at lw_m8 14 rfl) rfl
theorem q1850 : (Jvm.Cond.code ({ cls := "TruthBridgeModel", name := "wayOf", desc := "(II)I" } : Jvm.MethodName) prog_21_method_78_code (3 : Nat) (Option.some Jvm.ClassFile.FieldType.int)) ∈ lw_all := lw_g (lw_at lw_m8 15 rfl) rfl
theorem q1852 : (Jvm.Cond.instanceMethod ({ cls := "TruthBridgeModel", name := "so", desc := "(II)I" } : Jvm.MethodName)) ∈ lw_all := lw_g (lw_at lw_m8 17 rfl) rfl
theorem q1853 : (Jvm.Cond.selects "TruthBridgeModel" ({ cls := "TruthBridgeModel", name := "so", desc := "(II)I" } : Jvm.MethodName) ({ cls := "TruthBridgeModel", name := "so", desc := "(II)I" } : Jvm.MethodName)) ∈ lw_all := lw_g (lw_at lw_m8 18 rfl) rfl
theorem q1854 : (Jvm.Cond.code ({ cls := "TruthBridgeModel", name := "so", desc := "(II)I" } : Jvm.MethodName) prog_21_method_80_code (3 : Nat) (Option.some Jvm.ClassFile.FieldType.int)) ∈ lw_all := lw_g (lw_at lw_m8 19 rfl) rfl
theorem q1855 : (Jvm.Cond.methodLink "TruthBridgeModel" (473 : Nat) ({ cls := "TruthBridgeModel", name := "isSaying", desc := "(I)Z" } : Jvm.MethodName)) ∈ lw_all := lw_g (lw_at lw_m8 20 rfl) rfl
theorem q1856 : (Jvm.Cond.privateMethod ({ cls := "TruthBridgeModel", name := "isSaying", desc := "(I)Z" } : Jvm.MethodName)) ∈ lw_tbl := lw_at lw_m8 21 rfl
theorem q1857 : (Jvm.Cond.instanceMethod ({ cls := "TruthBridgeModel", name := "isSaying", desc := "(I)Z" } : Jvm.MethodName)) ∈ lw_all := lw_g (lw_at lw_m8 22 rfl) rfl
theorem q1858 : (Jvm.Cond.code ({ cls := "TruthBridgeModel", name := "isSaying", desc := "(I)Z" } : Jvm.MethodName) prog_21_method_10_code (2 : Nat) (Option.some Jvm.ClassFile.FieldType.boolean)) ∈ lw_all := lw_g (lw_at lw_m8 23 rfl) rfl
theorem q1859 : (Jvm.Cond.methodLink "TruthBridgeModel" (476 : Nat) ({ cls := "TruthBridgeModel", name := "isWorld", desc := "(I)Z" } : Jvm.MethodName)) ∈ lw_all := lw_g (lw_at lw_m8 24 rfl) rfl
theorem q1860 : (Jvm.Cond.privateMethod ({ cls := "TruthBridgeModel", name := "isWorld", desc := "(I)Z" } : Jvm.MethodName)) ∈ lw_tbl := lw_at lw_m8 25 rfl
theorem q1861 : (Jvm.Cond.instanceMethod ({ cls := "TruthBridgeModel", name := "isWorld", desc := "(I)Z" } : Jvm.MethodName)) ∈ lw_all := lw_g (lw_at lw_m8 26 rfl) rfl
theorem q1862 : (Jvm.Cond.code ({ cls := "TruthBridgeModel", name := "isWorld", desc := "(I)Z" } : Jvm.MethodName) prog_21_method_12_code (2 : Nat) (Option.some Jvm.ClassFile.FieldType.boolean)) ∈ lw_all := lw_g (lw_at lw_m8 27 rfl) rfl
theorem q1863 : (Jvm.Cond.methodLink "TruthBridgeModel" (186 : Nat) ({ cls := "TruthBridgeModel", name := "isLand", desc := "()Z" } : Jvm.MethodName)) ∈ lw_all := lw_g (lw_at lw_m8 28 rfl) rfl
theorem q1864 : (Jvm.Cond.privateMethod ({ cls := "TruthBridgeModel", name := "isLand", desc := "()Z" } : Jvm.MethodName)) ∈ lw_tbl := lw_at lw_m8 29 rfl
theorem q1865 : (Jvm.Cond.instanceMethod ({ cls := "TruthBridgeModel", name := "isLand", desc := "()Z" } : Jvm.MethodName)) ∈ lw_all := lw_g (lw_at lw_m8 30 rfl) rfl
theorem q1866 : (Jvm.Cond.code ({ cls := "TruthBridgeModel", name := "isLand", desc := "()Z" } : Jvm.MethodName) prog_21_method_6_code (1 : Nat) (Option.some Jvm.ClassFile.FieldType.boolean)) ∈ lw_all := lw_g (lw_at lw_m8 31 rfl) rfl
theorem q1867 : (Jvm.Cond.methodLink "TruthBridgeModel" (479 : Nat) ({ cls := "TruthBridgeModel", name := "isSo", desc := "(II)Z" } : Jvm.MethodName)) ∈ lw_all := lw_g (lw_at lw_m8 32 rfl) rfl
theorem q1868 : (Jvm.Cond.privateMethod ({ cls := "TruthBridgeModel", name := "isSo", desc := "(II)Z" } : Jvm.MethodName)) ∈ lw_tbl := lw_at lw_m8 33 rfl
theorem q1869 : (Jvm.Cond.instanceMethod ({ cls := "TruthBridgeModel", name := "isSo", desc := "(II)Z" } : Jvm.MethodName)) ∈ lw_all := lw_g (lw_at lw_m8 34 rfl) rfl
theorem q1870 : (Jvm.Cond.code ({ cls := "TruthBridgeModel", name := "isSo", desc := "(II)Z" } : Jvm.MethodName) prog_21_method_70_code (3 : Nat) (Option.some Jvm.ClassFile.FieldType.boolean)) ∈ lw_all := lw_g (lw_at lw_m8 35 rfl) rfl
theorem q1872 : (Jvm.Cond.instanceMethod ({ cls := "TruthBridgeModel", name := "isTrue", desc := "(I)I" } : Jvm.MethodName)) ∈ lw_all := lw_g (lw_at lw_m8 37 rfl) rfl
theorem q1873 : (Jvm.Cond.selects "TruthBridgeModel" ({ cls := "TruthBridgeModel", name := "isTrue", desc := "(I)I" } : Jvm.MethodName) ({ cls := "TruthBridgeModel", name := "isTrue", desc := "(I)I" } : Jvm.MethodName)) ∈ lw_all := lw_g (lw_at lw_m8 38 rfl) rfl
theorem q1874 : (Jvm.Cond.code ({ cls := "TruthBridgeModel", name := "isTrue", desc := "(I)I" } : Jvm.MethodName) prog_21_method_81_code (2 : Nat) (Option.some Jvm.ClassFile.FieldType.int)) ∈ lw_all := lw_g (lw_at lw_m8 39 rfl) rfl
theorem q1876 : (Jvm.Cond.instanceMethod ({ cls := "TruthBridgeModel", name := "knows", desc := "(II)I" } : Jvm.MethodName)) ∈ lw_all := lw_g (lw_at lw_m8 41 rfl) rfl
theorem q1877 : (Jvm.Cond.selects "TruthBridgeModel" ({ cls := "TruthBridgeModel", name := "knows", desc := "(II)I" } : Jvm.MethodName) ({ cls := "TruthBridgeModel", name := "knows", desc := "(II)I" } : Jvm.MethodName)) ∈ lw_all := lw_g (lw_at lw_m8 42 rfl) rfl
theorem q1878 : (Jvm.Cond.code ({ cls := "TruthBridgeModel", name := "knows", desc := "(II)I" } : Jvm.MethodName) prog_21_method_83_code (3 : Nat) (Option.some Jvm.ClassFile.FieldType.int)) ∈ lw_all := lw_g (lw_at lw_m8 43 rfl) rfl
theorem q1879 : (Jvm.Cond.methodLink "TruthBridgeModel" (482 : Nat) ({ cls := "TruthBridgeModel", name := "isHolder", desc := "(I)Z" } : Jvm.MethodName)) ∈ lw_all := lw_g (lw_at lw_m8 44 rfl) rfl
theorem q1880 : (Jvm.Cond.privateMethod ({ cls := "TruthBridgeModel", name := "isHolder", desc := "(I)Z" } : Jvm.MethodName)) ∈ lw_tbl := lw_at lw_m8 45 rfl
theorem q1881 : (Jvm.Cond.instanceMethod ({ cls := "TruthBridgeModel", name := "isHolder", desc := "(I)Z" } : Jvm.MethodName)) ∈ lw_all := lw_g (lw_at lw_m8 46 rfl) rfl
theorem q1882 : (Jvm.Cond.code ({ cls := "TruthBridgeModel", name := "isHolder", desc := "(I)Z" } : Jvm.MethodName) prog_21_method_82_code (2 : Nat) (Option.some Jvm.ClassFile.FieldType.boolean)) ∈ lw_all := lw_g (lw_at lw_m8 47 rfl) rfl
theorem q1883 : (Jvm.Cond.methodLink "TruthBridgeModel" (485 : Nat) ({ cls := "TruthBridgeModel", name := "heldBy", desc := "(I)I" } : Jvm.MethodName)) ∈ lw_all := lw_g (lw_at lw_m8 48 rfl) rfl
theorem q1884 : (Jvm.Cond.privateMethod ({ cls := "TruthBridgeModel", name := "heldBy", desc := "(I)I" } : Jvm.MethodName)) ∈ lw_tbl := lw_at lw_m8 49 rfl
theorem q1885 : (Jvm.Cond.instanceMethod ({ cls := "TruthBridgeModel", name := "heldBy", desc := "(I)I" } : Jvm.MethodName)) ∈ lw_all := lw_g (lw_at lw_m8 50 rfl) rfl
theorem q1886 : (Jvm.Cond.code ({ cls := "TruthBridgeModel", name := "heldBy", desc := "(I)I" } : Jvm.MethodName) prog_21_method_65_code (2 : Nat) (Option.some Jvm.ClassFile.FieldType.int)) ∈ lw_all := lw_g (lw_at lw_m8 51 rfl) rfl
theorem q1887 : (Jvm.Cond.methodLink "TruthBridgeModel" (488 : Nat) ({ cls := "TruthBridgeModel", name := "isKnown", desc := "(II)Z" } : Jvm.MethodName)) ∈ lw_all := lw_g (lw_at lw_m8 52 rfl) rfl
theorem q1888 : (Jvm.Cond.privateMethod ({ cls := "TruthBridgeModel", name := "isKnown", desc := "(II)Z" } : Jvm.MethodName)) ∈ lw_tbl := lw_at lw_m8 53 rfl
theorem q1889 : (Jvm.Cond.instanceMethod ({ cls := "TruthBridgeModel", name := "isKnown", desc := "(II)Z" } : Jvm.MethodName)) ∈ lw_all := lw_g (lw_at lw_m8 54 rfl) rfl
theorem q1890 : (Jvm.Cond.code ({ cls := "TruthBridgeModel", name := "isKnown", desc := "(II)Z" } : Jvm.MethodName) prog_21_method_67_code (5 : Nat) (Option.some Jvm.ClassFile.FieldType.boolean)) ∈ lw_all := lw_g (lw_at lw_m8 55 rfl) rfl
theorem q1892 : (Jvm.Cond.instanceMethod ({ cls := "TruthBridgeModel", name := "possible", desc := "(II)I" } : Jvm.MethodName)) ∈ lw_all := lw_g (lw_at lw_m8 57 rfl) rfl
theorem q1893 : (Jvm.Cond.selects "TruthBridgeModel" ({ cls := "TruthBridgeModel", name := "possible", desc := "(II)I" } : Jvm.MethodName) ({ cls := "TruthBridgeModel", name := "possible", desc := "(II)I" } : Jvm.MethodName)) ∈ lw_all := lw_g (lw_at lw_m8 58 rfl) rfl
theorem q1894 : (Jvm.Cond.code ({ cls := "TruthBridgeModel", name := "possible", desc := "(II)I" } : Jvm.MethodName) prog_21_method_84_code (3 : Nat) (Option.some Jvm.ClassFile.FieldType.int)) ∈ lw_all := lw_g (lw_at lw_m8 59 rfl) rfl
theorem q1896 : (Jvm.Cond.instanceMethod ({ cls := "TruthBridgeModel", name := "gain", desc := "(I)I" } : Jvm.MethodName)) ∈ lw_all := lw_g (lw_at lw_m8 61 rfl) rfl
theorem q1897 : (Jvm.Cond.selects "TruthBridgeModel" ({ cls := "TruthBridgeModel", name := "gain", desc := "(I)I" } : Jvm.MethodName) ({ cls := "TruthBridgeModel", name := "gain", desc := "(I)I" } : Jvm.MethodName)) ∈ lw_all := lw_g (lw_at lw_m8 62 rfl) rfl
theorem q1898 : (Jvm.Cond.code ({ cls := "TruthBridgeModel", name := "gain", desc := "(I)I" } : Jvm.MethodName) prog_21_method_85_code (2 : Nat) (Option.some Jvm.ClassFile.FieldType.int)) ∈ lw_all := lw_g (lw_at lw_m8 63 rfl) rfl
theorem q1899 : (Jvm.Cond.methodLink "TruthBridgeModel" (491 : Nat) ({ cls := "TruthBridgeModel", name := "gainOf", desc := "(I)I" } : Jvm.MethodName)) ∈ lw_all := lw_g (lw_at lw_m8 64 rfl) rfl
theorem q1900 : (Jvm.Cond.privateMethod ({ cls := "TruthBridgeModel", name := "gainOf", desc := "(I)I" } : Jvm.MethodName)) ∈ lw_tbl := lw_at lw_m8 65 rfl
theorem q1901 : (Jvm.Cond.instanceMethod ({ cls := "TruthBridgeModel", name := "gainOf", desc := "(I)I" } : Jvm.MethodName)) ∈ lw_all := lw_g (lw_at lw_m8 66 rfl) rfl
theorem q1902 : (Jvm.Cond.code ({ cls := "TruthBridgeModel", name := "gainOf", desc := "(I)I" } : Jvm.MethodName) prog_21_method_68_code (4 : Nat) (Option.some Jvm.ClassFile.FieldType.int)) ∈ lw_all := lw_g (lw_at lw_m8 67 rfl) rfl
theorem q1904 : (Jvm.Cond.instanceMethod ({ cls := "TruthBridgeModel", name := "shown", desc := "(I)I" } : Jvm.MethodName)) ∈ lw_all := lw_g (lw_at lw_m8 69 rfl) rfl
theorem q1905 : (Jvm.Cond.selects "TruthBridgeModel" ({ cls := "TruthBridgeModel", name := "shown", desc := "(I)I" } : Jvm.MethodName) ({ cls := "TruthBridgeModel", name := "shown", desc := "(I)I" } : Jvm.MethodName)) ∈ lw_all := lw_g (lw_at lw_m8 70 rfl) rfl
theorem q1906 : (Jvm.Cond.code ({ cls := "TruthBridgeModel", name := "shown", desc := "(I)I" } : Jvm.MethodName) prog_21_method_86_code (3 : Nat) (Option.some Jvm.ClassFile.FieldType.int)) ∈ lw_all := lw_g (lw_at lw_m8 71 rfl) rfl
theorem q1908 : (Jvm.Cond.instanceMethod ({ cls := "TruthBridgeModel", name := "undo", desc := "()I" } : Jvm.MethodName)) ∈ lw_all := lw_g (lw_at lw_m8 73 rfl) rfl
theorem q1909 : (Jvm.Cond.selects "TruthBridgeModel" ({ cls := "TruthBridgeModel", name := "undo", desc := "()I" } : Jvm.MethodName) ({ cls := "TruthBridgeModel", name := "undo", desc := "()I" } : Jvm.MethodName)) ∈ lw_all := lw_g (lw_at lw_m8 74 rfl) rfl
theorem q1910 : (Jvm.Cond.code ({ cls := "TruthBridgeModel", name := "undo", desc := "()I" } : Jvm.MethodName) prog_21_method_91_code (1 : Nat) (Option.some Jvm.ClassFile.FieldType.int)) ∈ lw_all := lw_g (lw_at lw_m8 75 rfl) rfl
theorem q1911 : (Jvm.Cond.methodLink "TruthBridgeModel" (508 : Nat) ({ cls := "TruthBridgeModel", name := "movesAll", desc := "(IZ)V" } : Jvm.MethodName)) ∈ lw_all := lw_g (lw_at lw_m8 76 rfl) rfl
theorem q1912 : (Jvm.Cond.privateMethod ({ cls := "TruthBridgeModel", name := "movesAll", desc := "(IZ)V" } : Jvm.MethodName)) ∈ lw_tbl := lw_at lw_m8 77 rfl
theorem q1913 : (Jvm.Cond.instanceMethod ({ cls := "TruthBridgeModel", name := "movesAll", desc := "(IZ)V" } : Jvm.MethodName)) ∈ lw_all := lw_g (lw_at lw_m8 78 rfl) rfl
theorem q1914 : (Jvm.Cond.code ({ cls := "TruthBridgeModel", name := "movesAll", desc := "(IZ)V" } : Jvm.MethodName) prog_21_method_89_code (3 : Nat) (Option.none : Option Jvm.ClassFile.FieldType)) ∈ lw_all := lw_g (lw_at lw_m8 79 rfl) rfl
theorem q1915 : (Jvm.Cond.methodLink "TruthBridgeModel" (501 : Nat) ({ cls := "TruthBridgeModel", name := "moves", desc := "(I)I" } : Jvm.MethodName)) ∈ lw_all := lw_g (lw_at lw_m8 80 rfl) rfl
theorem q1916 : (Jvm.Cond.privateMethod ({ cls := "TruthBridgeModel", name := "moves", desc := "(I)I" } : Jvm.MethodName)) ∈ lw_tbl := lw_at lw_m8 81 rfl
theorem q1917 : (Jvm.Cond.instanceMethod ({ cls := "TruthBridgeModel", name := "moves", desc := "(I)I" } : Jvm.MethodName)) ∈ lw_all := lw_g (lw_at lw_m8 82 rfl) rfl
theorem q1918 : (Jvm.Cond.code ({ cls := "TruthBridgeModel", name := "moves", desc := "(I)I" } : Jvm.MethodName) prog_21_method_87_code (3 : Nat) (Option.some Jvm.ClassFile.FieldType.int)) ∈ lw_all := lw_g (lw_at lw_m8 83 rfl) rfl
theorem q1919 : (Jvm.Cond.methodLink "TruthBridgeModel" (504 : Nat) ({ cls := "TruthBridgeModel", name := "movesRow", desc := "([I)V" } : Jvm.MethodName)) ∈ lw_all := lw_g (lw_at lw_m8 84 rfl) rfl
theorem q1920 : (Jvm.Cond.privateMethod ({ cls := "TruthBridgeModel", name := "movesRow", desc := "([I)V" } : Jvm.MethodName)) ∈ lw_tbl := lw_at lw_m8 85 rfl
theorem q1921 : (Jvm.Cond.instanceMethod ({ cls := "TruthBridgeModel", name := "movesRow", desc := "([I)V" } : Jvm.MethodName)) ∈ lw_all := lw_g (lw_at lw_m8 86 rfl) rfl
theorem q1922 : (Jvm.Cond.code ({ cls := "TruthBridgeModel", name := "movesRow", desc := "([I)V" } : Jvm.MethodName) prog_21_method_88_code (3 : Nat) (Option.none : Option Jvm.ClassFile.FieldType)) ∈ lw_all := lw_g (lw_at lw_m8 87 rfl) rfl
theorem q1924 : (Jvm.Cond.instanceMethod ({ cls := "TruthBridgeModel", name := "cross", desc := "(II)I" } : Jvm.MethodName)) ∈ lw_all := lw_g (lw_at lw_m8 89 rfl) rfl
theorem q1925 : (Jvm.Cond.selects "TruthBridgeModel" ({ cls := "TruthBridgeModel", name := "cross", desc := "(II)I" } : Jvm.MethodName) ({ cls := "TruthBridgeModel", name := "cross", desc := "(II)I" } : Jvm.MethodName)) ∈ lw_all := lw_g (lw_at lw_m8 90 rfl) rfl
theorem q1926 : (Jvm.Cond.code ({ cls := "TruthBridgeModel", name := "cross", desc := "(II)I" } : Jvm.MethodName) prog_21_method_93_code (3 : Nat) (Option.some Jvm.ClassFile.FieldType.int)) ∈ lw_all := lw_g (lw_at lw_m8 91 rfl) rfl
theorem q1927 : (Jvm.Cond.methodLink "TruthBridgeModel" (515 : Nat) ({ cls := "TruthBridgeModel", name := "keepsAct", desc := "()V" } : Jvm.MethodName)) ∈ lw_all := lw_g (lw_at lw_m8 92 rfl) rfl
theorem q1928 : (Jvm.Cond.privateMethod ({ cls := "TruthBridgeModel", name := "keepsAct", desc := "()V" } : Jvm.MethodName)) ∈ lw_tbl := lw_at lw_m8 93 rfl
theorem q1929 : (Jvm.Cond.instanceMethod ({ cls := "TruthBridgeModel", name := "keepsAct", desc := "()V" } : Jvm.MethodName)) ∈ lw_all := lw_g (lw_at lw_m8 94 rfl) rfl
theorem q1930 : (Jvm.Cond.code ({ cls := "TruthBridgeModel", name := "keepsAct", desc := "()V" } : Jvm.MethodName) prog_21_method_90_code (2 : Nat) (Option.none : Option Jvm.ClassFile.FieldType)) ∈ lw_all := lw_g (lw_at lw_m8 95 rfl) rfl
theorem q1931 : (Jvm.Cond.methodLink "TruthBridgeModel" (518 : Nat) ({ cls := "TruthBridgeModel", name := "crosses", desc := "(II)I" } : Jvm.MethodName)) ∈ lw_all := lw_g (lw_at lw_m8 96 rfl) rfl
theorem q1932 : (Jvm.Cond.privateMethod ({ cls := "TruthBridgeModel", name := "crosses", desc := "(II)I" } : Jvm.MethodName)) ∈ lw_tbl := lw_at lw_m8 97 rfl
theorem q1933 : (Jvm.Cond.instanceMethod ({ cls := "TruthBridgeModel", name := "crosses", desc := "(II)I" } : Jvm.MethodName)) ∈ lw_all := lw_g (lw_at lw_m8 98 rfl) rfl
theorem q1934 : (Jvm.Cond.code ({ cls := "TruthBridgeModel", name := "crosses", desc := "(II)I" } : Jvm.MethodName) prog_21_method_92_code (4 : Nat) (Option.some Jvm.ClassFile.FieldType.int)) ∈ lw_all := lw_g (lw_at lw_m8 99 rfl) rfl
theorem q1935 : (Jvm.Cond.methodLink "TruthBridgeModel" (512 : Nat) ({ cls := "TruthBridgeModel", name := "isTold", desc := "(II)V" } : Jvm.MethodName)) ∈ lw_all := lw_g (lw_at lw_m8 100 rfl) rfl
theorem q1936 : (Jvm.Cond.privateMethod ({ cls := "TruthBridgeModel", name := "isTold", desc := "(II)V" } : Jvm.MethodName)) ∈ lw_tbl := lw_at lw_m8 101 rfl
theorem q1937 : (Jvm.Cond.instanceMethod ({ cls := "TruthBridgeModel", name := "isTold", desc := "(II)V" } : Jvm.MethodName)) ∈ lw_all := lw_g (lw_at lw_m8 102 rfl) rfl
theorem q1938 : (Jvm.Cond.code ({ cls := "TruthBridgeModel", name := "isTold", desc := "(II)V" } : Jvm.MethodName) prog_21_method_69_code (4 : Nat) (Option.none : Option Jvm.ClassFile.FieldType)) ∈ lw_all := lw_g (lw_at lw_m8 103 rfl) rfl
theorem q1940 : (Jvm.Cond.instanceMethod ({ cls := "TruthBridgeModel", name := "tell", desc := "(III)I" } : Jvm.MethodName)) ∈ lw_all := lw_g (lw_at lw_m8 105 rfl) rfl
theorem q1941 : (Jvm.Cond.selects "TruthBridgeModel" ({ cls := "TruthBridgeModel", name := "tell", desc := "(III)I" } : Jvm.MethodName) ({ cls := "TruthBridgeModel", name := "tell", desc := "(III)I" } : Jvm.MethodName)) ∈ lw_all := lw_g (lw_at lw_m8 106 rfl) rfl
theorem q1942 : (Jvm.Cond.code ({ cls := "TruthBridgeModel", name := "tell", desc := "(III)I" } : Jvm.MethodName) prog_21_method_94_code (4 : Nat) (Option.some Jvm.ClassFile.FieldType.int)) ∈ lw_all := lw_g (lw_at lw_m8 107 rfl) rfl
theorem q1944 : (Jvm.Cond.instanceMethod ({ cls := "TruthBridgeModel", name := "look", desc := "(II)I" } : Jvm.MethodName)) ∈ lw_all := lw_g (lw_at lw_m8 109 rfl) rfl
theorem q1945 : (Jvm.Cond.selects "TruthBridgeModel" ({ cls := "TruthBridgeModel", name := "look", desc := "(II)I" } : Jvm.MethodName) ({ cls := "TruthBridgeModel", name := "look", desc := "(II)I" } : Jvm.MethodName)) ∈ lw_all := lw_g (lw_at lw_m8 110 rfl) rfl
theorem q1946 : (Jvm.Cond.code ({ cls := "TruthBridgeModel", name := "look", desc := "(II)I" } : Jvm.MethodName) prog_21_method_95_code (3 : Nat) (Option.some Jvm.ClassFile.FieldType.int)) ∈ lw_all := lw_g (lw_at lw_m8 111 rfl) rfl
theorem q1947 : (Jvm.Cond.methodLink "TruthBridgeModel" (521 : Nat) ({ cls := "TruthBridgeModel", name := "seesFact", desc := "(II)V" } : Jvm.MethodName)) ∈ lw_all := lw_g (lw_at lw_m8 112 rfl) rfl
theorem q1948 : (Jvm.Cond.privateMethod ({ cls := "TruthBridgeModel", name := "seesFact", desc := "(II)V" } : Jvm.MethodName)) ∈ lw_tbl := lw_at lw_m8 113 rfl
theorem q1949 : (Jvm.Cond.instanceMethod ({ cls := "TruthBridgeModel", name := "seesFact", desc := "(II)V" } : Jvm.MethodName)) ∈ lw_all := lw_g (lw_at lw_m8 114 rfl) rfl
theorem q1950 : (Jvm.Cond.code ({ cls := "TruthBridgeModel", name := "seesFact", desc := "(II)V" } : Jvm.MethodName) prog_21_method_73_code (4 : Nat) (Option.none : Option Jvm.ClassFile.FieldType)) ∈ lw_all := lw_g (lw_at lw_m8 115 rfl) rfl
theorem q1952 : (Jvm.Cond.instanceMethod ({ cls := "TruthBridgeModel", name := "midnight", desc := "()I" } : Jvm.MethodName)) ∈ lw_all := lw_g (lw_at lw_m8 117 rfl) rfl
theorem q1953 : (Jvm.Cond.selects "TruthBridgeModel" ({ cls := "TruthBridgeModel", name := "midnight", desc := "()I" } : Jvm.MethodName) ({ cls := "TruthBridgeModel", name := "midnight", desc := "()I" } : Jvm.MethodName)) ∈ lw_all := lw_g (lw_at lw_m8 118 rfl) rfl
theorem q1954 : (Jvm.Cond.code ({ cls := "TruthBridgeModel", name := "midnight", desc := "()I" } : Jvm.MethodName) prog_21_method_98_code (1 : Nat) (Option.some Jvm.ClassFile.FieldType.int)) ∈ lw_all := lw_g (lw_at lw_m8 119 rfl) rfl
theorem q1955 : (Jvm.Cond.methodLink "TruthBridgeModel" (527 : Nat) ({ cls := "TruthBridgeModel", name := "dayPasses", desc := "()V" } : Jvm.MethodName)) ∈ lw_all := lw_g (lw_at lw_m8 120 rfl) rfl
theorem q1956 : (Jvm.Cond.privateMethod ({ cls := "TruthBridgeModel", name := "dayPasses", desc := "()V" } : Jvm.MethodName)) ∈ lw_tbl := lw_at lw_m8 121 rfl
theorem q1957 : (Jvm.Cond.instanceMethod ({ cls := "TruthBridgeModel", name := "dayPasses", desc := "()V" } : Jvm.MethodName)) ∈ lw_all := lw_g (lw_at lw_m8 122 rfl) rfl
theorem q1958 : (Jvm.Cond.code ({ cls := "TruthBridgeModel", name := "dayPasses", desc := "()V" } : Jvm.MethodName) prog_21_method_97_code (2 : Nat) (Option.none : Option Jvm.ClassFile.FieldType)) ∈ lw_all := lw_g (lw_at lw_m8 123 rfl) rfl
theorem q1959 : (Jvm.Cond.methodLink "TruthBridgeModel" (524 : Nat) ({ cls := "TruthBridgeModel", name := "forgets", desc := "(I)V" } : Jvm.MethodName)) ∈ lw_all := lw_g (lw_at lw_m8 124 rfl) rfl
theorem q1960 : (Jvm.Cond.privateMethod ({ cls := "TruthBridgeModel", name := "forgets", desc := "(I)V" } : Jvm.MethodName)) ∈ lw_tbl := lw_at lw_m8 125 rfl
theorem q1961 : (Jvm.Cond.instanceMethod ({ cls := "TruthBridgeModel", name := "forgets", desc := "(I)V" } : Jvm.MethodName)) ∈ lw_all := lw_g (lw_at lw_m8 126 rfl) rfl
theorem q1962 : (Jvm.Cond.code ({ cls := "TruthBridgeModel", name := "forgets", desc := "(I)V" } : Jvm.MethodName) prog_21_method_96_code (5 : Nat) (Option.none : Option Jvm.ClassFile.FieldType)) ∈ lw_all := lw_g (lw_at lw_m8 127 rfl) rfl
theorem q1964 : (Jvm.Cond.instanceMethod ({ cls := "TruthBridgeModel", name := "run", desc := "(II)I" } : Jvm.MethodName)) ∈ lw_all := lw_g (lw_at lw_m8 129 rfl) rfl
theorem q1965 : (Jvm.Cond.selects "TruthBridgeModel" ({ cls := "TruthBridgeModel", name := "run", desc := "(II)I" } : Jvm.MethodName) ({ cls := "TruthBridgeModel", name := "run", desc := "(II)I" } : Jvm.MethodName)) ∈ lw_all := lw_g (lw_at lw_m8 130 rfl) rfl
theorem q1966 : (Jvm.Cond.code ({ cls := "TruthBridgeModel", name := "run", desc := "(II)I" } : Jvm.MethodName) prog_21_method_102_code (7 : Nat) (Option.some Jvm.ClassFile.FieldType.int)) ∈ lw_all := lw_g (lw_at lw_m8 131 rfl) rfl
theorem q1967 : (Jvm.Cond.methodLink "TruthBridgeModel" (540 : Nat) ({ cls := "TruthBridgeModel", name := "isRule", desc := "(I)Z" } : Jvm.MethodName)) ∈ lw_all := lw_g (lw_at lw_m8 132 rfl) rfl
theorem q1968 : (Jvm.Cond.privateMethod ({ cls := "TruthBridgeModel", name := "isRule", desc := "(I)Z" } : Jvm.MethodName)) ∈ lw_tbl := lw_at lw_m8 133 rfl
theorem q1969 : (Jvm.Cond.instanceMethod ({ cls := "TruthBridgeModel", name := "isRule", desc := "(I)Z" } : Jvm.MethodName)) ∈ lw_all := lw_g (lw_at lw_m8 134 rfl) rfl
theorem q1970 : (Jvm.Cond.code ({ cls := "TruthBridgeModel", name := "isRule", desc := "(I)Z" } : Jvm.MethodName) prog_21_method_61_code (2 : Nat) (Option.some Jvm.ClassFile.FieldType.boolean)) ∈ lw_all := lw_g (lw_at lw_m8 135 rfl) rfl
theorem q1971 : (Jvm.Cond.constantLong "TruthBridgeModel" (543 : Nat) (60 : Int64)) ∈ lw_all := lw_g (lw_at lw_m8 136 rfl) rfl
theorem q1972 : (Jvm.Cond.methodLink "TruthBridgeModel" (545 : Nat) ({ cls := "TruthBridgeModel", name := "sayingBy", desc := "(II)I" } : Jvm.MethodName)) ∈ lw_all := lw_g (lw_at lw_m8 137 rfl) rfl
theorem q1973 : (Jvm.Cond.privateMethod ({ cls := "TruthBridgeModel", name := "sayingBy", desc := "(II)I" } : Jvm.MethodName)) ∈ lw_tbl := lw_at lw_m8 138 rfl
theorem q1974 : (Jvm.Cond.instanceMethod ({ cls := "TruthBridgeModel", name := "sayingBy", desc := "(II)I" } : Jvm.MethodName)) ∈ lw_all := lw_g (lw_at lw_m8 139 rfl) rfl
theorem q1975 : (Jvm.Cond.code ({ cls := "TruthBridgeModel", name := "sayingBy", desc := "(II)I" } : Jvm.MethodName) prog_21_method_101_code (9 : Nat) (Option.some Jvm.ClassFile.FieldType.int)) ∈ lw_all := lw_g (lw_at lw_m8 140 rfl) rfl
theorem q1976 : (Jvm.Cond.methodLink "TruthBridgeModel" (533 : Nat) ({ cls := "TruthBridgeModel", name := "asks", desc := "(II)V" } : Jvm.MethodName)) ∈ lw_all := lw_g (lw_at lw_m8 141 rfl) rfl
theorem q1977 : (Jvm.Cond.privateMethod ({ cls := "TruthBridgeModel", name := "asks", desc := "(II)V" } : Jvm.MethodName)) ∈ lw_tbl := lw_at lw_m8 142 rfl
theorem q1978 : (Jvm.Cond.instanceMethod ({ cls := "TruthBridgeModel", name := "asks", desc := "(II)V" } : Jvm.MethodName)) ∈ lw_all := lw_g (lw_at lw_m8 143 rfl) rfl
theorem q1979 : (Jvm.Cond.code ({ cls := "TruthBridgeModel", name := "asks", desc := "(II)V" } : Jvm.MethodName) prog_21_method_100_code (3 : Nat) (Option.none : Option Jvm.ClassFile.FieldType)) ∈ lw_all := lw_g (lw_at lw_m8 144 rfl) rfl
theorem q1980 : (Jvm.Cond.methodLink "TruthBridgeModel" (530 : Nat) ({ cls := "TruthBridgeModel", name := "others", desc := "(I)I" } : Jvm.MethodName)) ∈ lw_all := lw_g (lw_at lw_m8 145 rfl) rfl
theorem q1981 : (Jvm.Cond.privateMethod ({ cls := "TruthBridgeModel", name := "others", desc := "(I)I" } : Jvm.MethodName)) ∈ lw_tbl := lw_at lw_m8 146 rfl
theorem q1982 : (Jvm.Cond.instanceMethod ({ cls := "TruthBridgeModel", name := "others", desc := "(I)I" } : Jvm.MethodName)) ∈ lw_all := lw_g (lw_at lw_m8 147 rfl) rfl
theorem q1983 : (Jvm.Cond.code ({ cls := "TruthBridgeModel", name := "others", desc := "(I)I" } : Jvm.MethodName) prog_21_method_99_code (4 : Nat) (Option.some Jvm.ClassFile.FieldType.int)) ∈ lw_all := lw_g (lw_at lw_m8 148 rfl) rfl
theorem q1984 : (Jvm.Cond.methodLink "TruthBridgeModel" (536 : Nat) ({ cls := "TruthBridgeModel", name := "wanted", desc := "(I)J" } : Jvm.MethodName)) ∈ lw_all := lw_g (lw_at lw_m8 149 rfl) rfl
theorem q1985 : (Jvm.Cond.privateMethod ({ cls := "TruthBridgeModel", name := "wanted", desc := "(I)J" } : Jvm.MethodName)) ∈ lw_tbl := lw_at lw_m8 150 rfl
theorem q1986 : (Jvm.Cond.instanceMethod ({ cls := "TruthBridgeModel", name := "wanted", desc := "(I)J" } : Jvm.MethodName)) ∈ lw_all := lw_g (lw_at lw_m8 151 rfl) rfl
theorem q1987 : (Jvm.Cond.code ({ cls := "TruthBridgeModel", name := "wanted", desc := "(I)J" } : Jvm.MethodName) prog_21_method_60_code (3 : Nat) (Option.some Jvm.ClassFile.FieldType.long)) ∈ lw_all := lw_g (lw_at lw_m8 152 rfl) rfl
theorem q1988 : (Jvm.Cond.methodLink "TruthBridgeModel" (433 : Nat) ({ cls := "TruthBridgeModel", name := "answer", desc := "(III)J" } : Jvm.MethodName)) ∈ lw_all := lw_g (lw_at lw_m8 153 rfl) rfl
theorem q1989 : (Jvm.Cond.privateMethod ({ cls := "TruthBridgeModel", name := "answer", desc := "(III)J" } : Jvm.MethodName)) ∈ lw_tbl := lw_at lw_m8 154 rfl
theorem q1990 : (Jvm.Cond.instanceMethod ({ cls := "TruthBridgeModel", name := "answer", desc := "(III)J" } : Jvm.MethodName)) ∈ lw_all := lw_g (lw_at lw_m8 155 rfl) rfl
theorem q1991 : (Jvm.Cond.code ({ cls := "TruthBridgeModel", name := "answer", desc := "(III)J" } : Jvm.MethodName) prog_21_method_64_code (8 : Nat) (Option.some Jvm.ClassFile.FieldType.long)) ∈ lw_all := lw_g (lw_at lw_m8 156 rfl) rfl
theorem q1992 : (Jvm.Cond.methodLink "TruthBridgeModel" (441 : Nat) ({ cls := "TruthBridgeModel", name := "both", desc := "(IJJ)J" } : Jvm.MethodName)) ∈ lw_all := lw_g (lw_at lw_m8 157 rfl) rfl
theorem q1993 : (Jvm.Cond.static ({ cls := "TruthBridgeModel", name := "both", desc := "(IJJ)J" } : Jvm.MethodName)) ∈ lw_all := lw_g (lw_at lw_m8 158 rfl) rfl
theorem q1994 : (Jvm.Cond.code ({ cls := "TruthBridgeModel", name := "both", desc := "(IJJ)J" } : Jvm.MethodName) prog_21_method_63_code (5 : Nat) (Option.some Jvm.ClassFile.FieldType.long)) ∈ lw_all := lw_g (lw_at lw_m8 159 rfl) rfl
theorem q1995 : (Jvm.Cond.methodLink "TruthBridgeModel" (437 : Nat) ({ cls := "TruthBridgeModel", name := "truth", desc := "(Z)J" } : Jvm.MethodName)) ∈ lw_all := lw_g (lw_at lw_m8 160 rfl) rfl
theorem q1996 : (Jvm.Cond.static ({ cls := "TruthBridgeModel", name := "truth", desc := "(Z)J" } : Jvm.MethodName)) ∈ lw_all := lw_g (lw_at lw_m8 161 rfl) rfl
theorem q1997 : (Jvm.Cond.code ({ cls := "TruthBridgeModel", name := "truth", desc := "(Z)J" } : Jvm.MethodName) prog_21_method_62_code (1 : Nat) (Option.some Jvm.ClassFile.FieldType.long)) ∈ lw_all := lw_g (lw_at lw_m8 162 rfl) rfl
theorem q1999 : (Jvm.Cond.instanceMethod ({ cls := "TruthBridgeModel", name := "follows", desc := "(II)I" } : Jvm.MethodName)) ∈ lw_all := lw_g (lw_at lw_m8 164 rfl) rfl
theorem q2000 : (Jvm.Cond.selects "TruthBridgeModel" ({ cls := "TruthBridgeModel", name := "follows", desc := "(II)I" } : Jvm.MethodName) ({ cls := "TruthBridgeModel", name := "follows", desc := "(II)I" } : Jvm.MethodName)) ∈ lw_all := lw_g (lw_at lw_m8 165 rfl) rfl
theorem q2001 : (Jvm.Cond.code ({ cls := "TruthBridgeModel", name := "follows", desc := "(II)I" } : Jvm.MethodName) prog_21_method_105_code (3 : Nat) (Option.some Jvm.ClassFile.FieldType.int)) ∈ lw_all := lw_g (lw_at lw_m8 166 rfl) rfl
theorem q2002 : (Jvm.Cond.methodLink "TruthBridgeModel" (548 : Nat) ({ cls := "TruthBridgeModel", name := "isSet", desc := "(I)Z" } : Jvm.MethodName)) ∈ lw_all := lw_g (lw_at lw_m8 167 rfl) rfl
theorem q2003 : (Jvm.Cond.privateMethod ({ cls := "TruthBridgeModel", name := "isSet", desc := "(I)Z" } : Jvm.MethodName)) ∈ lw_tbl := lw_at lw_m8 168 rfl
theorem q2004 : (Jvm.Cond.instanceMethod ({ cls := "TruthBridgeModel", name := "isSet", desc := "(I)Z" } : Jvm.MethodName)) ∈ lw_all := lw_g (lw_at lw_m8 169 rfl) rfl
theorem q2005 : (Jvm.Cond.code ({ cls := "TruthBridgeModel", name := "isSet", desc := "(I)Z" } : Jvm.MethodName) prog_21_method_104_code (2 : Nat) (Option.some Jvm.ClassFile.FieldType.boolean)) ∈ lw_all := lw_g (lw_at lw_m8 170 rfl) rfl
theorem q2006 : (Jvm.Cond.methodLink "TruthBridgeModel" (551 : Nat) ({ cls := "TruthBridgeModel", name := "doesFollow", desc := "(II)Z" } : Jvm.MethodName)) ∈ lw_all := lw_g (lw_at lw_m8 171 rfl) rfl
theorem q2007 : (Jvm.Cond.privateMethod ({ cls := "TruthBridgeModel", name := "doesFollow", desc := "(II)Z" } : Jvm.MethodName)) ∈ lw_tbl := lw_at lw_m8 172 rfl
theorem q2008 : (Jvm.Cond.instanceMethod ({ cls := "TruthBridgeModel", name := "doesFollow", desc := "(II)Z" } : Jvm.MethodName)) ∈ lw_all := lw_g (lw_at lw_m8 173 rfl) rfl
theorem q2009 : (Jvm.Cond.code ({ cls := "TruthBridgeModel", name := "doesFollow", desc := "(II)Z" } : Jvm.MethodName) prog_21_method_103_code (6 : Nat) (Option.some Jvm.ClassFile.FieldType.boolean)) ∈ lw_all := lw_g (lw_at lw_m8 174 rfl) rfl
theorem q2011 : (Jvm.Cond.instanceMethod ({ cls := "TruthBridgeModel", name := "fewest", desc := "(II)I" } : Jvm.MethodName)) ∈ lw_all := lw_g (lw_at lw_m8 176 rfl) rfl
theorem q2012 : (Jvm.Cond.selects "TruthBridgeModel" ({ cls := "TruthBridgeModel", name := "fewest", desc := "(II)I" } : Jvm.MethodName) ({ cls := "TruthBridgeModel", name := "fewest", desc := "(II)I" } : Jvm.MethodName)) ∈ lw_all := lw_g (lw_at lw_m8 177 rfl) rfl
theorem q2013 : (Jvm.Cond.code ({ cls := "TruthBridgeModel", name := "fewest", desc := "(II)I" } : Jvm.MethodName) prog_21_method_106_code (7 : Nat) (Option.some Jvm.ClassFile.FieldType.int)) ∈ lw_all := lw_g (lw_at lw_m8 178 rfl) rfl
theorem q2015 : (Jvm.Cond.instanceMethod ({ cls := "TruthBridgeModel", name := "opposite", desc := "(II)I" } : Jvm.MethodName)) ∈ lw_all := lw_g (lw_at lw_m8 180 rfl) rfl
theorem q2016 : (Jvm.Cond.selects "TruthBridgeModel" ({ cls := "TruthBridgeModel", name := "opposite", desc := "(II)I" } : Jvm.MethodName) ({ cls := "TruthBridgeModel", name := "opposite", desc := "(II)I" } : Jvm.MethodName)) ∈ lw_all := lw_g (lw_at lw_m8 181 rfl) rfl
theorem q2017 : (Jvm.Cond.code ({ cls := "TruthBridgeModel", name := "opposite", desc := "(II)I" } : Jvm.MethodName) prog_21_method_107_code (4 : Nat) (Option.some Jvm.ClassFile.FieldType.int)) ∈ lw_all := lw_g (lw_at lw_m8 182 rfl) rfl
theorem q2019 : (Jvm.Cond.instanceMethod ({ cls := "TruthBridgeModel", name := "when", desc := "(II)I" } : Jvm.MethodName)) ∈ lw_all := lw_g (lw_at lw_m8 184 rfl) rfl
theorem q2020 : (Jvm.Cond.selects "TruthBridgeModel" ({ cls := "TruthBridgeModel", name := "when", desc := "(II)I" } : Jvm.MethodName) ({ cls := "TruthBridgeModel", name := "when", desc := "(II)I" } : Jvm.MethodName)) ∈ lw_all := lw_g (lw_at lw_m8 185 rfl) rfl
theorem q2021 : (Jvm.Cond.code ({ cls := "TruthBridgeModel", name := "when", desc := "(II)I" } : Jvm.MethodName) prog_21_method_108_code (7 : Nat) (Option.some Jvm.ClassFile.FieldType.int)) ∈ lw_all := lw_g (lw_at lw_m8 186 rfl) rfl
theorem q2022 : (Jvm.Cond.constantLong "TruthBridgeModel" (554 : Nat) (9999 : Int64)) ∈ lw_all := lw_g (lw_at lw_m8 187 rfl) rfl
theorem q2024 : (Jvm.Cond.instanceMethod ({ cls := "TruthBridgeModel", name := "least", desc := "(II)I" } : Jvm.MethodName)) ∈ lw_all := lw_g (lw_at lw_m8 189 rfl) rfl
theorem q2025 : (Jvm.Cond.selects "TruthBridgeModel" ({ cls := "TruthBridgeModel", name := "least", desc := "(II)I" } : Jvm.MethodName) ({ cls := "TruthBridgeModel", name := "least", desc := "(II)I" } : Jvm.MethodName)) ∈ lw_all := lw_g (lw_at lw_m8 190 rfl) rfl
theorem q2026 : (Jvm.Cond.code ({ cls := "TruthBridgeModel", name := "least", desc := "(II)I" } : Jvm.MethodName) prog_21_method_113_code (6 : Nat) (Option.some Jvm.ClassFile.FieldType.int)) ∈ lw_all := lw_g (lw_at lw_m8 191 rfl) rfl
theorem q2027 : (Jvm.Cond.methodLink "TruthBridgeModel" (556 : Nat) ({ cls := "TruthBridgeModel", name := "getsOver", desc := "(II)Z" } : Jvm.MethodName)) ∈ lw_all := lw_g (lw_at lw_m8 192 rfl) rfl
theorem q2028 : (Jvm.Cond.privateMethod ({ cls := "TruthBridgeModel", name := "getsOver", desc := "(II)Z" } : Jvm.MethodName)) ∈ lw_tbl := lw_at lw_m8 193 rfl
theorem q2029 : (Jvm.Cond.instanceMethod ({ cls := "TruthBridgeModel", name := "getsOver", desc := "(II)Z" } : Jvm.MethodName)) ∈ lw_all := lw_g (lw_at lw_m8 194 rfl) rfl
theorem q2030 : (Jvm.Cond.code ({ cls := "TruthBridgeModel", name := "getsOver", desc := "(II)Z" } : Jvm.MethodName) prog_21_method_109_code (3 : Nat) (Option.some Jvm.ClassFile.FieldType.boolean)) ∈ lw_all := lw_g (lw_at lw_m8 195 rfl) rfl
theorem q2031 : (Jvm.Cond.methodLink "TruthBridgeModel" (562 : Nat) ({ cls := "TruthBridgeModel", name := "keepsAll", desc := "()V" } : Jvm.MethodName)) ∈ lw_all := lw_g (lw_at lw_m8 196 rfl) rfl
theorem q2032 : (Jvm.Cond.privateMethod ({ cls := "TruthBridgeModel", name := "keepsAll", desc := "()V" } : Jvm.MethodName)) ∈ lw_tbl := lw_at lw_m8 197 rfl
theorem q2033 : (Jvm.Cond.instanceMethod ({ cls := "TruthBridgeModel", name := "keepsAll", desc := "()V" } : Jvm.MethodName)) ∈ lw_all := lw_g (lw_at lw_m8 198 rfl) rfl
theorem q2034 : (Jvm.Cond.code ({ cls := "TruthBridgeModel", name := "keepsAll", desc := "()V" } : Jvm.MethodName) prog_21_method_111_code (1 : Nat) (Option.none : Option Jvm.ClassFile.FieldType)) ∈ lw_all := lw_g (lw_at lw_m8 199 rfl) rfl
theorem q2035 : (Jvm.Cond.methodLink "TruthBridgeModel" (559 : Nat) ({ cls := "TruthBridgeModel", name := "carriesAll", desc := "(IZ)V" } : Jvm.MethodName)) ∈ lw_all := lw_g (lw_at lw_m8 200 rfl) rfl
theorem q2036 : (Jvm.Cond.privateMethod ({ cls := "TruthBridgeModel", name := "carriesAll", desc := "(IZ)V" } : Jvm.MethodName)) ∈ lw_tbl := lw_at lw_m8 201 rfl
theorem q2037 : (Jvm.Cond.instanceMethod ({ cls := "TruthBridgeModel", name := "carriesAll", desc := "(IZ)V" } : Jvm.MethodName)) ∈ lw_all := lw_g (lw_at lw_m8 202 rfl) rfl
theorem q2038 : (Jvm.Cond.code ({ cls := "TruthBridgeModel", name := "carriesAll", desc := "(IZ)V" } : Jvm.MethodName) prog_21_method_134_code (3 : Nat) (Option.none : Option Jvm.ClassFile.FieldType)) ∈ lw_all := lw_g (lw_at lw_m8 203 rfl) rfl
theorem q2039 : (Jvm.Cond.methodLink "TruthBridgeModel" (632 : Nat) ({ cls := "TruthBridgeModel", name := "carryRow", desc := "([I)V" } : Jvm.MethodName)) ∈ lw_all := lw_g (lw_at lw_m8 204 rfl) rfl
theorem q2040 : (Jvm.Cond.privateMethod ({ cls := "TruthBridgeModel", name := "carryRow", desc := "([I)V" } : Jvm.MethodName)) ∈ lw_tbl := lw_at lw_m8 205 rfl
theorem q2041 : (Jvm.Cond.instanceMethod ({ cls := "TruthBridgeModel", name := "carryRow", desc := "([I)V" } : Jvm.MethodName)) ∈ lw_all := lw_g (lw_at lw_m8 206 rfl) rfl
theorem q2042 : (Jvm.Cond.code ({ cls := "TruthBridgeModel", name := "carryRow", desc := "([I)V" } : Jvm.MethodName) prog_21_method_133_code (3 : Nat) (Option.none : Option Jvm.ClassFile.FieldType)) ∈ lw_all := lw_g (lw_at lw_m8 207 rfl) rfl
theorem q2043 : (Jvm.Cond.methodLink "TruthBridgeModel" (565 : Nat) ({ cls := "TruthBridgeModel", name := "canGetOver", desc := "(I)Z" } : Jvm.MethodName)) ∈ lw_all := lw_g (lw_at lw_m8 208 rfl) rfl
theorem q2044 : (Jvm.Cond.privateMethod ({ cls := "TruthBridgeModel", name := "canGetOver", desc := "(I)Z" } : Jvm.MethodName)) ∈ lw_tbl := lw_at lw_m8 209 rfl
theorem q2045 : (Jvm.Cond.instanceMethod ({ cls := "TruthBridgeModel", name := "canGetOver", desc := "(I)Z" } : Jvm.MethodName)) ∈ lw_all := lw_g (lw_at lw_m8 210 rfl) rfl
theorem q2046 : (Jvm.Cond.code ({ cls := "TruthBridgeModel", name := "canGetOver", desc := "(I)Z" } : Jvm.MethodName) prog_21_method_110_code (3 : Nat) (Option.some Jvm.ClassFile.FieldType.boolean)) ∈ lw_all := lw_g (lw_at lw_m8 211 rfl) rfl
theorem q2047 : (Jvm.Cond.methodLink "TruthBridgeModel" (568 : Nat) ({ cls := "TruthBridgeModel", name := "laysBack", desc := "()V" } : Jvm.MethodName)) ∈ lw_all := lw_g (lw_at lw_m8 212 rfl) rfl
theorem q2048 : (Jvm.Cond.privateMethod ({ cls := "TruthBridgeModel", name := "laysBack", desc := "()V" } : Jvm.MethodName)) ∈ lw_tbl := lw_at lw_m8 213 rfl
theorem q2049 : (Jvm.Cond.instanceMethod ({ cls := "TruthBridgeModel", name := "laysBack", desc := "()V" } : Jvm.MethodName)) ∈ lw_all := lw_g (lw_at lw_m8 214 rfl) rfl
theorem q2050 : (Jvm.Cond.code ({ cls := "TruthBridgeModel", name := "laysBack", desc := "()V" } : Jvm.MethodName) prog_21_method_112_code (1 : Nat) (Option.none : Option Jvm.ClassFile.FieldType)) ∈ lw_all := lw_g (lw_at lw_m8 215 rfl) rfl
theorem q2052 : (Jvm.Cond.instanceMethod ({ cls := "TruthBridgeModel", name := "plan", desc := "(II)I" } : Jvm.MethodName)) ∈ lw_all := lw_g (lw_at lw_m8 217 rfl) rfl
theorem q2053 : (Jvm.Cond.selects "TruthBridgeModel" ({ cls := "TruthBridgeModel", name := "plan", desc := "(II)I" } : Jvm.MethodName) ({ cls := "TruthBridgeModel", name := "plan", desc := "(II)I" } : Jvm.MethodName)) ∈ lw_all := lw_g (lw_at lw_m8 218 rfl) rfl
theorem q2054 : (Jvm.Cond.code ({ cls := "TruthBridgeModel", name := "plan", desc := "(II)I" } : Jvm.MethodName) prog_21_method_118_code (4 : Nat) (Option.some Jvm.ClassFile.FieldType.int)) ∈ lw_all := lw_g (lw_at lw_m8 219 rfl) rfl
theorem q2055 : (Jvm.Cond.constantLong "TruthBridgeModel" (583 : Nat) (8 : Int64)) ∈ lw_all := lw_g (lw_at lw_m8 220 rfl) rfl
theorem q2056 : (Jvm.Cond.methodLink "TruthBridgeModel" (585 : Nat) ({ cls := "TruthBridgeModel", name := "laysThere", desc := "(I)V" } : Jvm.MethodName)) ∈ lw_all := lw_g (lw_at lw_m8 221 rfl) rfl
theorem q2057 : (Jvm.Cond.privateMethod ({ cls := "TruthBridgeModel", name := "laysThere", desc := "(I)V" } : Jvm.MethodName)) ∈ lw_tbl := lw_at lw_m8 222 rfl
theorem q2058 : (Jvm.Cond.instanceMethod ({ cls := "TruthBridgeModel", name := "laysThere", desc := "(I)V" } : Jvm.MethodName)) ∈ lw_all := lw_g (lw_at lw_m8 223 rfl) rfl
theorem q2059 : (Jvm.Cond.code ({ cls := "TruthBridgeModel", name := "laysThere", desc := "(I)V" } : Jvm.MethodName) prog_21_method_114_code (3 : Nat) (Option.none : Option Jvm.ClassFile.FieldType)) ∈ lw_all := lw_g (lw_at lw_m8 224 rfl) rfl
theorem q2060 : (Jvm.Cond.methodLink "TruthBridgeModel" (588 : Nat) ({ cls := "TruthBridgeModel", name := "findsPlan", desc := "()V" } : Jvm.MethodName)) ∈ lw_all := lw_g (lw_at lw_m8 225 rfl) rfl
theorem q2061 : (Jvm.Cond.privateMethod ({ cls := "TruthBridgeModel", name := "findsPlan", desc := "()V" } : Jvm.MethodName)) ∈ lw_tbl := lw_at lw_m8 226 rfl
theorem q2062 : (Jvm.Cond.instanceMethod ({ cls := "TruthBridgeModel", name := "findsPlan", desc := "()V" } : Jvm.MethodName)) ∈ lw_all := lw_g (lw_at lw_m8 227 rfl) rfl
theorem q2063 : (Jvm.Cond.code ({ cls := "TruthBridgeModel", name := "findsPlan", desc := "()V" } : Jvm.MethodName) prog_21_method_117_code (4 : Nat) (Option.none : Option Jvm.ClassFile.FieldType)) ∈ lw_all := lw_g (lw_at lw_m8 228 rfl) rfl
theorem q2064 : (Jvm.Cond.methodLink "TruthBridgeModel" (577 : Nat) ({ cls := "TruthBridgeModel", name := "bridgeTo", desc := "(IZ)V" } : Jvm.MethodName)) ∈ lw_all := lw_g (lw_at lw_m8 229 rfl) rfl
theorem q2065 : (Jvm.Cond.privateMethod ({ cls := "TruthBridgeModel", name := "bridgeTo", desc := "(IZ)V" } : Jvm.MethodName)) ∈ lw_tbl := lw_at lw_m8 230 rfl
theorem q2066 : (Jvm.Cond.instanceMethod ({ cls := "TruthBridgeModel", name := "bridgeTo", desc := "(IZ)V" } : Jvm.MethodName)) ∈ lw_all := lw_g (lw_at lw_m8 231 rfl) rfl
theorem q2067 : (Jvm.Cond.code ({ cls := "TruthBridgeModel", name := "bridgeTo", desc := "(IZ)V" } : Jvm.MethodName) prog_21_method_115_code (4 : Nat) (Option.none : Option Jvm.ClassFile.FieldType)) ∈ lw_all := lw_g (lw_at lw_m8 232 rfl) rfl
theorem q2068 : (Jvm.Cond.methodLink "TruthBridgeModel" (580 : Nat) ({ cls := "TruthBridgeModel", name := "isUsed", desc := "(II)Z" } : Jvm.MethodName)) ∈ lw_all := lw_g (lw_at lw_m8 233 rfl) rfl
theorem q2069 : (Jvm.Cond.privateMethod ({ cls := "TruthBridgeModel", name := "isUsed", desc := "(II)Z" } : Jvm.MethodName)) ∈ lw_tbl := lw_at lw_m8 234 rfl
theorem q2070 : (Jvm.Cond.instanceMethod ({ cls := "TruthBridgeModel", name := "isUsed", desc := "(II)Z" } : Jvm.MethodName)) ∈ lw_all := lw_g (lw_at lw_m8 235 rfl) rfl
theorem q2071 : (Jvm.Cond.code ({ cls := "TruthBridgeModel", name := "isUsed", desc := "(II)Z" } : Jvm.MethodName) prog_21_method_116_code (4 : Nat) (Option.some Jvm.ClassFile.FieldType.boolean)) ∈ lw_all := lw_g (lw_at lw_m8 236 rfl) rfl
theorem q2073 : (Jvm.Cond.instanceMethod ({ cls := "TruthBridgeModel", name := "walk", desc := "(II)I" } : Jvm.MethodName)) ∈ lw_all := lw_g (lw_at lw_m8 238 rfl) rfl
theorem q2074 : (Jvm.Cond.selects "TruthBridgeModel" ({ cls := "TruthBridgeModel", name := "walk", desc := "(II)I" } : Jvm.MethodName) ({ cls := "TruthBridgeModel", name := "walk", desc := "(II)I" } : Jvm.MethodName)) ∈ lw_all := lw_g (lw_at lw_m8 239 rfl) rfl
theorem q2075 : (Jvm.Cond.code ({ cls := "TruthBridgeModel", name := "walk", desc := "(II)I" } : Jvm.MethodName) prog_21_method_121_code (7 : Nat) (Option.some Jvm.ClassFile.FieldType.int)) ∈ lw_all := lw_g (lw_at lw_m9 0 rfl) rfl
theorem q2076 : (Jvm.Cond.methodLink "TruthBridgeModel" (591 : Nat) ({ cls := "TruthBridgeModel", name := "laysWalks", desc := "()V" } : Jvm.MethodName)) ∈ lw_all := lw_g (lw_at lw_m9 1 rfl) rfl
theorem q2077 : (Jvm.Cond.privateMethod ({ cls := "TruthBridgeModel", name := "laysWalks", desc := "()V" } : Jvm.MethodName)) ∈ lw_tbl := lw_at lw_m9 2 rfl
theorem q2078 : (Jvm.Cond.instanceMethod ({ cls := "TruthBridgeModel", name := "laysWalks", desc := "()V" } : Jvm.MethodName)) ∈ lw_all := lw_g (lw_at lw_m9 3 rfl) rfl
theorem q2079 : (Jvm.Cond.code ({ cls := "TruthBridgeModel", name := "laysWalks", desc := "()V" } : Jvm.MethodName) prog_21_method_119_code (6 : Nat) (Option.none : Option Jvm.ClassFile.FieldType)) ∈ lw_all := lw_g (lw_at lw_m9 4 rfl) rfl
theorem q2080 : (Jvm.Cond.methodLink "TruthBridgeModel" (594 : Nat) ({ cls := "TruthBridgeModel", name := "hoursOf", desc := "(I)I" } : Jvm.MethodName)) ∈ lw_all := lw_g (lw_at lw_m9 5 rfl) rfl
theorem q2081 : (Jvm.Cond.privateMethod ({ cls := "TruthBridgeModel", name := "hoursOf", desc := "(I)I" } : Jvm.MethodName)) ∈ lw_tbl := lw_at lw_m9 6 rfl
theorem q2082 : (Jvm.Cond.instanceMethod ({ cls := "TruthBridgeModel", name := "hoursOf", desc := "(I)I" } : Jvm.MethodName)) ∈ lw_all := lw_g (lw_at lw_m9 7 rfl) rfl
theorem q2083 : (Jvm.Cond.code ({ cls := "TruthBridgeModel", name := "hoursOf", desc := "(I)I" } : Jvm.MethodName) prog_21_method_120_code (5 : Nat) (Option.some Jvm.ClassFile.FieldType.int)) ∈ lw_all := lw_g (lw_at lw_m9 8 rfl) rfl
theorem q2085 : (Jvm.Cond.instanceMethod ({ cls := "TruthBridgeModel", name := "bought", desc := "(II)I" } : Jvm.MethodName)) ∈ lw_all := lw_g (lw_at lw_m9 10 rfl) rfl
theorem q2086 : (Jvm.Cond.selects "TruthBridgeModel" ({ cls := "TruthBridgeModel", name := "bought", desc := "(II)I" } : Jvm.MethodName) ({ cls := "TruthBridgeModel", name := "bought", desc := "(II)I" } : Jvm.MethodName)) ∈ lw_all := lw_g (lw_at lw_m9 11 rfl) rfl
theorem q2087 : (Jvm.Cond.code ({ cls := "TruthBridgeModel", name := "bought", desc := "(II)I" } : Jvm.MethodName) prog_21_method_122_code (9 : Nat) (Option.some Jvm.ClassFile.FieldType.int)) ∈ lw_all := lw_g (lw_at lw_m9 12 rfl) rfl
theorem q2089 : (Jvm.Cond.instanceMethod ({ cls := "TruthBridgeModel", name := "trial", desc := "(IZ)I" } : Jvm.MethodName)) ∈ lw_all := lw_g (lw_at lw_m9 14 rfl) rfl
theorem q2090 : (Jvm.Cond.selects "TruthBridgeModel" ({ cls := "TruthBridgeModel", name := "trial", desc := "(IZ)I" } : Jvm.MethodName) ({ cls := "TruthBridgeModel", name := "trial", desc := "(IZ)I" } : Jvm.MethodName)) ∈ lw_all := lw_g (lw_at lw_m9 15 rfl) rfl
theorem q2091 : (Jvm.Cond.code ({ cls := "TruthBridgeModel", name := "trial", desc := "(IZ)I" } : Jvm.MethodName) prog_21_method_123_code (4 : Nat) (Option.some Jvm.ClassFile.FieldType.int)) ∈ lw_all := lw_g (lw_at lw_m9 16 rfl) rfl
theorem q2093 : (Jvm.Cond.instanceMethod ({ cls := "TruthBridgeModel", name := "sets", desc := "(I)I" } : Jvm.MethodName)) ∈ lw_all := lw_g (lw_at lw_m9 18 rfl) rfl
theorem q2094 : (Jvm.Cond.selects "TruthBridgeModel" ({ cls := "TruthBridgeModel", name := "sets", desc := "(I)I" } : Jvm.MethodName) ({ cls := "TruthBridgeModel", name := "sets", desc := "(I)I" } : Jvm.MethodName)) ∈ lw_all := lw_g (lw_at lw_m9 19 rfl) rfl
theorem q2095 : (Jvm.Cond.code ({ cls := "TruthBridgeModel", name := "sets", desc := "(I)I" } : Jvm.MethodName) prog_21_method_126_code (7 : Nat) (Option.some Jvm.ClassFile.FieldType.int)) ∈ lw_all := lw_g (lw_at lw_m9 20 rfl) rfl
theorem q2096 : (Jvm.Cond.constantLong "TruthBridgeModel" (597 : Nat) (2 : Int64)) ∈ lw_all := lw_g (lw_at lw_m9 21 rfl) rfl
theorem q2097 : (Jvm.Cond.methodLink "TruthBridgeModel" (599 : Nat) ({ cls := "TruthBridgeModel", name := "firstOnes", desc := "()I" } : Jvm.MethodName)) ∈ lw_all := lw_g (lw_at lw_m9 22 rfl) rfl
theorem q2098 : (Jvm.Cond.privateMethod ({ cls := "TruthBridgeModel", name := "firstOnes", desc := "()I" } : Jvm.MethodName)) ∈ lw_tbl := lw_at lw_m9 23 rfl
theorem q2099 : (Jvm.Cond.instanceMethod ({ cls := "TruthBridgeModel", name := "firstOnes", desc := "()I" } : Jvm.MethodName)) ∈ lw_all := lw_g (lw_at lw_m9 24 rfl) rfl
theorem q2100 : (Jvm.Cond.code ({ cls := "TruthBridgeModel", name := "firstOnes", desc := "()I" } : Jvm.MethodName) prog_21_method_124_code (1 : Nat) (Option.some Jvm.ClassFile.FieldType.int)) ∈ lw_all := lw_g (lw_at lw_m9 25 rfl) rfl
theorem q2101 : (Jvm.Cond.methodLink "TruthBridgeModel" (602 : Nat) ({ cls := "TruthBridgeModel", name := "doesFit", desc := "(I)Z" } : Jvm.MethodName)) ∈ lw_all := lw_g (lw_at lw_m9 26 rfl) rfl
theorem q2102 : (Jvm.Cond.privateMethod ({ cls := "TruthBridgeModel", name := "doesFit", desc := "(I)Z" } : Jvm.MethodName)) ∈ lw_tbl := lw_at lw_m9 27 rfl
theorem q2103 : (Jvm.Cond.instanceMethod ({ cls := "TruthBridgeModel", name := "doesFit", desc := "(I)Z" } : Jvm.MethodName)) ∈ lw_all := lw_g (lw_at lw_m9 28 rfl) rfl
theorem q2104 : (Jvm.Cond.code ({ cls := "TruthBridgeModel", name := "doesFit", desc := "(I)Z" } : Jvm.MethodName) prog_21_method_125_code (4 : Nat) (Option.some Jvm.ClassFile.FieldType.boolean)) ∈ lw_all := lw_g (lw_at lw_m9 29 rfl) rfl
theorem q2106 : (Jvm.Cond.instanceMethod ({ cls := "TruthBridgeModel", name := "next", desc := "(I)I" } : Jvm.MethodName)) ∈ lw_all := lw_g (lw_at lw_m9 31 rfl) rfl
theorem q2107 : (Jvm.Cond.selects "TruthBridgeModel" ({ cls := "TruthBridgeModel", name := "next", desc := "(I)I" } : Jvm.MethodName) ({ cls := "TruthBridgeModel", name := "next", desc := "(I)I" } : Jvm.MethodName)) ∈ lw_all := lw_g (lw_at lw_m9 32 rfl) rfl
theorem q2108 : (Jvm.Cond.code ({ cls := "TruthBridgeModel", name := "next", desc := "(I)I" } : Jvm.MethodName) prog_21_method_127_code (7 : Nat) (Option.some Jvm.ClassFile.FieldType.int)) ∈ lw_all := lw_g (lw_at lw_m9 33 rfl) rfl
theorem q2110 : (Jvm.Cond.instanceMethod ({ cls := "TruthBridgeModel", name := "seed", desc := "(I)I" } : Jvm.MethodName)) ∈ lw_all := lw_g (lw_at lw_m9 35 rfl) rfl
theorem q2111 : (Jvm.Cond.selects "TruthBridgeModel" ({ cls := "TruthBridgeModel", name := "seed", desc := "(I)I" } : Jvm.MethodName) ({ cls := "TruthBridgeModel", name := "seed", desc := "(I)I" } : Jvm.MethodName)) ∈ lw_all := lw_g (lw_at lw_m9 36 rfl) rfl
theorem q2112 : (Jvm.Cond.code ({ cls := "TruthBridgeModel", name := "seed", desc := "(I)I" } : Jvm.MethodName) prog_21_method_128_code (3 : Nat) (Option.some Jvm.ClassFile.FieldType.int)) ∈ lw_all := lw_g (lw_at lw_m9 37 rfl) rfl
theorem q2114 : (Jvm.Cond.instanceMethod ({ cls := "TruthBridgeModel", name := "years", desc := "(III)I" } : Jvm.MethodName)) ∈ lw_all := lw_g (lw_at lw_m9 39 rfl) rfl
theorem q2115 : (Jvm.Cond.selects "TruthBridgeModel" ({ cls := "TruthBridgeModel", name := "years", desc := "(III)I" } : Jvm.MethodName) ({ cls := "TruthBridgeModel", name := "years", desc := "(III)I" } : Jvm.MethodName)) ∈ lw_all := lw_g (lw_at lw_m9 40 rfl) rfl
theorem q2116 : (Jvm.Cond.code ({ cls := "TruthBridgeModel", name := "years", desc := "(III)I" } : Jvm.MethodName) prog_21_method_131_code (8 : Nat) (Option.some Jvm.ClassFile.FieldType.int)) ∈ lw_all := lw_g (lw_at lw_m9 41 rfl) rfl
theorem q2117 : (Jvm.Cond.constantLong "TruthBridgeModel" (621 : Nat) (10 : Int64)) ∈ lw_all := lw_g (lw_at lw_m9 42 rfl) rfl
theorem q2118 : (Jvm.Cond.methodLink "TruthBridgeModel" (623 : Nat) ({ cls := "TruthBridgeModel", name := "drawnDays", desc := "(I)V" } : Jvm.MethodName)) ∈ lw_all := lw_g (lw_at lw_m9 43 rfl) rfl
theorem q2119 : (Jvm.Cond.privateMethod ({ cls := "TruthBridgeModel", name := "drawnDays", desc := "(I)V" } : Jvm.MethodName)) ∈ lw_tbl := lw_at lw_m9 44 rfl
theorem q2120 : (Jvm.Cond.instanceMethod ({ cls := "TruthBridgeModel", name := "drawnDays", desc := "(I)V" } : Jvm.MethodName)) ∈ lw_all := lw_g (lw_at lw_m9 45 rfl) rfl
theorem q2121 : (Jvm.Cond.code ({ cls := "TruthBridgeModel", name := "drawnDays", desc := "(I)V" } : Jvm.MethodName) prog_21_method_130_code (5 : Nat) (Option.none : Option Jvm.ClassFile.FieldType)) ∈ lw_all := lw_g (lw_at lw_m9 46 rfl) rfl
theorem q2122 : (Jvm.Cond.methodLink "TruthBridgeModel" (612 : Nat) ({ cls := "TruthBridgeModel", name := "draws", desc := "(I)I" } : Jvm.MethodName)) ∈ lw_all := lw_g (lw_at lw_m9 47 rfl) rfl
theorem q2123 : (Jvm.Cond.privateMethod ({ cls := "TruthBridgeModel", name := "draws", desc := "(I)I" } : Jvm.MethodName)) ∈ lw_tbl := lw_at lw_m9 48 rfl
theorem q2124 : (Jvm.Cond.instanceMethod ({ cls := "TruthBridgeModel", name := "draws", desc := "(I)I" } : Jvm.MethodName)) ∈ lw_all := lw_g (lw_at lw_m9 49 rfl) rfl
theorem q2125 : (Jvm.Cond.code ({ cls := "TruthBridgeModel", name := "draws", desc := "(I)I" } : Jvm.MethodName) prog_21_method_129_code (2 : Nat) (Option.some Jvm.ClassFile.FieldType.int)) ∈ lw_all := lw_g (lw_at lw_m9 50 rfl) rfl
theorem q2126 : (Jvm.Cond.constantLong "TruthBridgeModel" (605 : Nat) (1103515245 : Int64)) ∈ lw_all := lw_g (lw_at lw_m9 51 rfl) rfl
theorem q2127 : (Jvm.Cond.constantLong "TruthBridgeModel" (607 : Nat) (12345 : Int64)) ∈ lw_all := lw_g (lw_at lw_m9 52 rfl) rfl
theorem q2128 : (Jvm.Cond.constantLong "TruthBridgeModel" (609 : Nat) (2147483648 : Int64)) ∈ lw_all := lw_g (lw_at lw_m9 53 rfl) rfl
theorem q2129 : (Jvm.Cond.constant "TruthBridgeModel" (611 : Nat) (65536 : Int32)) ∈ lw_all := lw_g (lw_at lw_m9 54 rfl) rfl
theorem q2131 : (Jvm.Cond.instanceMethod ({ cls := "TruthBridgeModel", name := "count", desc := "(I)I" } : Jvm.MethodName)) ∈ lw_all := lw_g (lw_at lw_m9 56 rfl) rfl
theorem q2132 : (Jvm.Cond.selects "TruthBridgeModel" ({ cls := "TruthBridgeModel", name := "count", desc := "(I)I" } : Jvm.MethodName) ({ cls := "TruthBridgeModel", name := "count", desc := "(I)I" } : Jvm.MethodName)) ∈ lw_all := lw_g (lw_at lw_m9 57 rfl) rfl
theorem q2133 : (Jvm.Cond.code ({ cls := "TruthBridgeModel", name := "count", desc := "(I)I" } : Jvm.MethodName) prog_21_method_132_code (2 : Nat) (Option.some Jvm.ClassFile.FieldType.int)) ∈ lw_all := lw_g (lw_at lw_m9 58 rfl) rfl
theorem q2135 : (Jvm.Cond.instanceMethod ({ cls := "TruthBridgeModel", name := "image", desc := "(I)I" } : Jvm.MethodName)) ∈ lw_all := lw_g (lw_at lw_m9 60 rfl) rfl
theorem q2136 : (Jvm.Cond.selects "TruthBridgeModel" ({ cls := "TruthBridgeModel", name := "image", desc := "(I)I" } : Jvm.MethodName) ({ cls := "TruthBridgeModel", name := "image", desc := "(I)I" } : Jvm.MethodName)) ∈ lw_all := lw_g (lw_at lw_m9 61 rfl) rfl
theorem q2137 : (Jvm.Cond.code ({ cls := "TruthBridgeModel", name := "image", desc := "(I)I" } : Jvm.MethodName) prog_21_method_135_code (2 : Nat) (Option.some Jvm.ClassFile.FieldType.int)) ∈ lw_all := lw_g (lw_at lw_m9 62 rfl) rfl
theorem q2138 : (Jvm.Cond.constantLong "TruthBridgeModel" (635 : Nat) (3 : Int64)) ∈ lw_all := lw_g (lw_at lw_m9 63 rfl) rfl
theorem q2140 : (Jvm.Cond.instanceMethod ({ cls := "TruthBridgeModel", name := "back", desc := "(I)I" } : Jvm.MethodName)) ∈ lw_all := lw_g (lw_at lw_m9 65 rfl) rfl
theorem q2141 : (Jvm.Cond.selects "TruthBridgeModel" ({ cls := "TruthBridgeModel", name := "back", desc := "(I)I" } : Jvm.MethodName) ({ cls := "TruthBridgeModel", name := "back", desc := "(I)I" } : Jvm.MethodName)) ∈ lw_all := lw_g (lw_at lw_m9 66 rfl) rfl
theorem q2142 : (Jvm.Cond.code ({ cls := "TruthBridgeModel", name := "back", desc := "(I)I" } : Jvm.MethodName) prog_21_method_136_code (2 : Nat) (Option.some Jvm.ClassFile.FieldType.int)) ∈ lw_all := lw_g (lw_at lw_m9 67 rfl) rfl
theorem in_X3 : ∀ w ∈ wsX30, w ∈ lw_all := lw_in wsX30 [1417, 1419, 1421, 1423, 1425, 1427, 1429, 1431, 1433, 1435, 1437, 1439, 1441, 1443, 1445, 1447, 1449, 1451, 1453, 1455, 1457, 1459, 1461, 1463, 1465, 1467, 1469, 1471, 1473, 1475, 1477, 1479, 1481, 1483, 1485, 1487, 1489, 1491, 1493, 1495, 1497, 1499, 1501, 1503, 1505, 1507, 1509, 1511, 1513, 1515, 1517, 1519, 1521, 1523, 1525, 1527, 1529, 1531, 1533, 1535, 1537, 1539, 1541, 1543, 1545, 1547, 1549, 1551, 1553, 1555, 1557, 1559, 1561, 1563, 1565, 1567, 1569] (by decide +kernel) (by decide +kernel)
