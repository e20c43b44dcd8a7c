/-! TruthBridge$Text -/
set_option maxRecDepth 100000
def RX4 : String := "TruthBridge$Text"
def TX4 : u_T := fun k => match k with
  | 0 => ("TruthBridge$Text", "words", "[Ljava/lang/String;", true)
  | 1 => ("TruthBridge$Text", "read", "LTruthBridge$Gorge;", true)
  | 2 => ("TruthBridge$Text", "next", "I", false)
  | 3 => ("TruthBridge$Text", "deep", "I", false)
  | 4 => ("TruthBridge$Text", "made", "I", false)
  | 5 => ("TruthBridge$Text", "many", "I", false)
  | 6 => ("TruthBridge$Text", "lettersMany", "I", false)
  | _ => ("TruthBridge$Text", "this$0", "LTruthBridge;", true)
def tyX4 : Nat → FieldType := fun k => match k with
  | 0 => .array (.object "java/lang/String")
  | 1 => .object "TruthBridge$Gorge"
  | 2 => .int
  | 3 => .int
  | 4 => .int
  | 5 => .int
  | 6 => .int
  | _ => .object "TruthBridge"
abbrev wsX40 : List Cond := u_ws RX4 TX4 8
theorem nmX4 : ∀ a, a < 8 → ∀ b, b < 8 → a ≠ b → (TX4 a).2.1 ≠ (TX4 b).2.1 := by decide +kernel
theorem tyX4_ok : ∀ k, k < 8 → parseFieldDescriptor (TX4 k).2.2.1 = some (tyX4 k) := by decide +kernel
abbrev cX4_init : ByteArray := prog_16_method_1_code
def yX4_init : MethodName := ⟨RX4, "<init>", "(LTruthBridge;)V"⟩
def dkwX4_init_1 : List UInt8 := [180, 0, 3, 180, 0, 22, 181, 0, 26, 177]
abbrev dktX4_init_1 : List UInt8 := dkwX4_init_1 ++ []
def dkwX4_init_0 : List UInt8 := [42, 43, 181, 0, 3, 42, 183, 0, 9, 42, 42, 180, 0, 3, 180, 0, 15, 181, 0, 19, 42, 42]
abbrev dktX4_init_0 : List UInt8 := dkwX4_init_0 ++ dktX4_init_1
theorem dksX4_init_0 : cX4_init.data.toList.drop 0 = dktX4_init_0 := by decide +kernel
theorem dksX4_init_1 : cX4_init.data.toList.drop 22 = dktX4_init_1 := dk_seg dksX4_init_0 22 rfl rfl
theorem dX4_init_0 : decode cX4_init 0 = .ok (.aload_n 0, 1) := dk_42 (dk_at dksX4_init_0 0 rfl rfl)
theorem dX4_init_1 : decode cX4_init 1 = .ok (.aload_n 1, 1) := dk_43 (dk_at dksX4_init_0 1 rfl rfl)
theorem dX4_init_2 : decode cX4_init 2 = .ok (.putfield 3, 3) := dk_181 0 3 (dk_at dksX4_init_0 2 rfl rfl)
theorem dX4_init_5 : decode cX4_init 5 = .ok (.aload_n 0, 1) := dk_42 (dk_at dksX4_init_0 5 rfl rfl)
theorem dX4_init_6 : decode cX4_init 6 = .ok (.invokespecial 9, 3) := dk_183 0 9 (dk_at dksX4_init_0 6 rfl rfl)
theorem dX4_init_9 : decode cX4_init 9 = .ok (.aload_n 0, 1) := dk_42 (dk_at dksX4_init_0 9 rfl rfl)
theorem dX4_init_10 : decode cX4_init 10 = .ok (.aload_n 0, 1) := dk_42 (dk_at dksX4_init_0 10 rfl rfl)
theorem dX4_init_11 : decode cX4_init 11 = .ok (.getfield 3, 3) := dk_180 0 3 (dk_at dksX4_init_0 11 rfl rfl)
theorem dX4_init_14 : decode cX4_init 14 = .ok (.getfield 15, 3) := dk_180 0 15 (dk_at dksX4_init_0 14 rfl rfl)
theorem dX4_init_17 : decode cX4_init 17 = .ok (.putfield 19, 3) := dk_181 0 19 (dk_at dksX4_init_0 17 rfl rfl)
theorem dX4_init_20 : decode cX4_init 20 = .ok (.aload_n 0, 1) := dk_42 (dk_at dksX4_init_0 20 rfl rfl)
theorem dX4_init_21 : decode cX4_init 21 = .ok (.aload_n 0, 1) := dk_42 (dk_at dksX4_init_0 21 rfl rfl)
theorem dX4_init_22 : decode cX4_init 22 = .ok (.getfield 3, 3) := dk_180 0 3 (dk_at dksX4_init_1 0 rfl rfl)
theorem dX4_init_25 : decode cX4_init 25 = .ok (.getfield 22, 3) := dk_180 0 22 (dk_at dksX4_init_1 3 rfl rfl)
theorem dX4_init_28 : decode cX4_init 28 = .ok (.putfield 26, 3) := dk_181 0 26 (dk_at dksX4_init_1 6 rfl rfl)
theorem dX4_init_31 : decode cX4_init 31 = .ok (.return_, 1) := dk_177 (dk_at dksX4_init_1 9 rfl rfl)
abbrev cX4_landTold : ByteArray := prog_16_method_21_code
def yX4_landTold : MethodName := ⟨RX4, "landTold", "()LTruthBridge$Gorge;"⟩
def dkwX4_landTold_5 : List UInt8 := [180, 0, 26, 176]
abbrev dktX4_landTold_5 : List UInt8 := dkwX4_landTold_5 ++ []
def dkwX4_landTold_4 : List UInt8 := [42, 28, 182, 0, 188, 42, 16, 59, 182, 0, 191, 154, 255, 165, 42, 182, 0, 194, 42, 182, 0, 197, 42]
abbrev dktX4_landTold_4 : List UInt8 := dkwX4_landTold_4 ++ dktX4_landTold_5
def dkwX4_landTold_3 : List UInt8 := [181, 0, 90, 42, 89, 180, 0, 42, 42, 180, 0, 3, 180, 0, 178, 28, 50, 182, 0, 59, 96, 181, 0, 42]
abbrev dktX4_landTold_3 : List UInt8 := dkwX4_landTold_3 ++ dktX4_landTold_4
def dkwX4_landTold_2 : List UInt8 := [3, 27, 182, 0, 76, 42, 42, 28, 182, 0, 185, 7, 27, 182, 0, 76, 42, 89, 180, 0, 90, 4, 96]
abbrev dktX4_landTold_2 : List UInt8 := dkwX4_landTold_2 ++ dktX4_landTold_3
def dkwX4_landTold_1 : List UInt8 := [60, 42, 42, 180, 0, 3, 180, 0, 178, 182, 0, 181, 61, 42, 28, 2, 159, 0, 7, 4, 167, 0, 4, 3]
abbrev dktX4_landTold_1 : List UInt8 := dkwX4_landTold_1 ++ dktX4_landTold_2
def dkwX4_landTold_0 : List UInt8 := [42, 180, 0, 26, 42, 180, 0, 3, 180, 0, 171, 182, 0, 174, 87, 42, 182, 0, 52, 87, 42, 180, 0, 42]
abbrev dktX4_landTold_0 : List UInt8 := dkwX4_landTold_0 ++ dktX4_landTold_1
theorem dksX4_landTold_0 : cX4_landTold.data.toList.drop 0 = dktX4_landTold_0 := by decide +kernel
theorem dksX4_landTold_1 : cX4_landTold.data.toList.drop 24 = dktX4_landTold_1 := dk_seg dksX4_landTold_0 24 rfl rfl
theorem dksX4_landTold_2 : cX4_landTold.data.toList.drop 48 = dktX4_landTold_2 := dk_seg dksX4_landTold_1 24 rfl rfl
theorem dksX4_landTold_3 : cX4_landTold.data.toList.drop 71 = dktX4_landTold_3 := dk_seg dksX4_landTold_2 23 rfl rfl
theorem dksX4_landTold_4 : cX4_landTold.data.toList.drop 95 = dktX4_landTold_4 := dk_seg dksX4_landTold_3 24 rfl rfl
theorem dksX4_landTold_5 : cX4_landTold.data.toList.drop 118 = dktX4_landTold_5 := dk_seg dksX4_landTold_4 23 rfl rfl
theorem dX4_landTold_0 : decode cX4_landTold 0 = .ok (.aload_n 0, 1) := dk_42 (dk_at dksX4_landTold_0 0 rfl rfl)
theorem dX4_landTold_1 : decode cX4_landTold 1 = .ok (.getfield 26, 3) := dk_180 0 26 (dk_at dksX4_landTold_0 1 rfl rfl)
theorem dX4_landTold_4 : decode cX4_landTold 4 = .ok (.aload_n 0, 1) := dk_42 (dk_at dksX4_landTold_0 4 rfl rfl)
theorem dX4_landTold_5 : decode cX4_landTold 5 = .ok (.getfield 3, 3) := dk_180 0 3 (dk_at dksX4_landTold_0 5 rfl rfl)
theorem dX4_landTold_8 : decode cX4_landTold 8 = .ok (.getfield 171, 3) := dk_180 0 171 (dk_at dksX4_landTold_0 8 rfl rfl)
theorem dX4_landTold_11 : decode cX4_landTold 11 = .ok (.invokevirtual 174, 3) := dk_182 0 174 (dk_at dksX4_landTold_0 11 rfl rfl)
theorem dX4_landTold_14 : decode cX4_landTold 14 = .ok (.pop, 1) := dk_87 (dk_at dksX4_landTold_0 14 rfl rfl)
theorem dX4_landTold_15 : decode cX4_landTold 15 = .ok (.aload_n 0, 1) := dk_42 (dk_at dksX4_landTold_0 15 rfl rfl)
theorem dX4_landTold_16 : decode cX4_landTold 16 = .ok (.invokevirtual 52, 3) := dk_182 0 52 (dk_at dksX4_landTold_0 16 rfl rfl)
theorem dX4_landTold_19 : decode cX4_landTold 19 = .ok (.pop, 1) := dk_87 (dk_at dksX4_landTold_0 19 rfl rfl)
theorem dX4_landTold_20 : decode cX4_landTold 20 = .ok (.aload_n 0, 1) := dk_42 (dk_at dksX4_landTold_0 20 rfl rfl)
theorem dX4_landTold_21 : decode cX4_landTold 21 = .ok (.getfield 42, 3) := dk_180 0 42 (dk_at dksX4_landTold_0 21 rfl rfl)
theorem dX4_landTold_24 : decode cX4_landTold 24 = .ok (.istore_n 1, 1) := dk_60 (dk_at dksX4_landTold_1 0 rfl rfl)
theorem dX4_landTold_25 : decode cX4_landTold 25 = .ok (.aload_n 0, 1) := dk_42 (dk_at dksX4_landTold_1 1 rfl rfl)
theorem dX4_landTold_26 : decode cX4_landTold 26 = .ok (.aload_n 0, 1) := dk_42 (dk_at dksX4_landTold_1 2 rfl rfl)
theorem dX4_landTold_27 : decode cX4_landTold 27 = .ok (.getfield 3, 3) := dk_180 0 3 (dk_at dksX4_landTold_1 3 rfl rfl)
theorem dX4_landTold_30 : decode cX4_landTold 30 = .ok (.getfield 178, 3) := dk_180 0 178 (dk_at dksX4_landTold_1 6 rfl rfl)
theorem dX4_landTold_33 : decode cX4_landTold 33 = .ok (.invokevirtual 181, 3) := dk_182 0 181 (dk_at dksX4_landTold_1 9 rfl rfl)
theorem dX4_landTold_36 : decode cX4_landTold 36 = .ok (.istore_n 2, 1) := dk_61 (dk_at dksX4_landTold_1 12 rfl rfl)
theorem dX4_landTold_37 : decode cX4_landTold 37 = .ok (.aload_n 0, 1) := dk_42 (dk_at dksX4_landTold_1 13 rfl rfl)
theorem dX4_landTold_38 : decode cX4_landTold 38 = .ok (.iload_n 2, 1) := dk_28 (dk_at dksX4_landTold_1 14 rfl rfl)
theorem dX4_landTold_39 : decode cX4_landTold 39 = .ok (.iconst (-1), 1) := dk_2 (dk_at dksX4_landTold_1 15 rfl rfl)
theorem dX4_landTold_40 : decode cX4_landTold 40 = .ok (.if_icmp .eq 7, 3) := dk_159 0 7 (dk_at dksX4_landTold_1 16 rfl rfl)
theorem dX4_landTold_43 : decode cX4_landTold 43 = .ok (.iconst 1, 1) := dk_4 (dk_at dksX4_landTold_1 19 rfl rfl)
theorem dX4_landTold_44 : decode cX4_landTold 44 = .ok (.goto 4, 3) := dk_167 0 4 (dk_at dksX4_landTold_1 20 rfl rfl)
theorem dX4_landTold_47 : decode cX4_landTold 47 = .ok (.iconst 0, 1) := dk_3 (dk_at dksX4_landTold_1 23 rfl rfl)
theorem dX4_landTold_48 : decode cX4_landTold 48 = .ok (.iconst 0, 1) := dk_3 (dk_at dksX4_landTold_2 0 rfl rfl)
theorem dX4_landTold_49 : decode cX4_landTold 49 = .ok (.iload_n 1, 1) := dk_27 (dk_at dksX4_landTold_2 1 rfl rfl)
theorem dX4_landTold_50 : decode cX4_landTold 50 = .ok (.invokevirtual 76, 3) := dk_182 0 76 (dk_at dksX4_landTold_2 2 rfl rfl)
theorem dX4_landTold_53 : decode cX4_landTold 53 = .ok (.aload_n 0, 1) := dk_42 (dk_at dksX4_landTold_2 5 rfl rfl)
theorem dX4_landTold_54 : decode cX4_landTold 54 = .ok (.aload_n 0, 1) := dk_42 (dk_at dksX4_landTold_2 6 rfl rfl)
theorem dX4_landTold_55 : decode cX4_landTold 55 = .ok (.iload_n 2, 1) := dk_28 (dk_at dksX4_landTold_2 7 rfl rfl)
theorem dX4_landTold_56 : decode cX4_landTold 56 = .ok (.invokevirtual 185, 3) := dk_182 0 185 (dk_at dksX4_landTold_2 8 rfl rfl)
theorem dX4_landTold_59 : decode cX4_landTold 59 = .ok (.iconst 4, 1) := dk_7 (dk_at dksX4_landTold_2 11 rfl rfl)
theorem dX4_landTold_60 : decode cX4_landTold 60 = .ok (.iload_n 1, 1) := dk_27 (dk_at dksX4_landTold_2 12 rfl rfl)
theorem dX4_landTold_61 : decode cX4_landTold 61 = .ok (.invokevirtual 76, 3) := dk_182 0 76 (dk_at dksX4_landTold_2 13 rfl rfl)
theorem dX4_landTold_64 : decode cX4_landTold 64 = .ok (.aload_n 0, 1) := dk_42 (dk_at dksX4_landTold_2 16 rfl rfl)
theorem dX4_landTold_65 : decode cX4_landTold 65 = .ok (.dup, 1) := dk_89 (dk_at dksX4_landTold_2 17 rfl rfl)
theorem dX4_landTold_66 : decode cX4_landTold 66 = .ok (.getfield 90, 3) := dk_180 0 90 (dk_at dksX4_landTold_2 18 rfl rfl)
theorem dX4_landTold_69 : decode cX4_landTold 69 = .ok (.iconst 1, 1) := dk_4 (dk_at dksX4_landTold_2 21 rfl rfl)
theorem dX4_landTold_70 : decode cX4_landTold 70 = .ok (.iadd, 1) := dk_96 (dk_at dksX4_landTold_2 22 rfl rfl)
theorem dX4_landTold_71 : decode cX4_landTold 71 = .ok (.putfield 90, 3) := dk_181 0 90 (dk_at dksX4_landTold_3 0 rfl rfl)
theorem dX4_landTold_74 : decode cX4_landTold 74 = .ok (.aload_n 0, 1) := dk_42 (dk_at dksX4_landTold_3 3 rfl rfl)
theorem dX4_landTold_75 : decode cX4_landTold 75 = .ok (.dup, 1) := dk_89 (dk_at dksX4_landTold_3 4 rfl rfl)
theorem dX4_landTold_76 : decode cX4_landTold 76 = .ok (.getfield 42, 3) := dk_180 0 42 (dk_at dksX4_landTold_3 5 rfl rfl)
theorem dX4_landTold_79 : decode cX4_landTold 79 = .ok (.aload_n 0, 1) := dk_42 (dk_at dksX4_landTold_3 8 rfl rfl)
theorem dX4_landTold_80 : decode cX4_landTold 80 = .ok (.getfield 3, 3) := dk_180 0 3 (dk_at dksX4_landTold_3 9 rfl rfl)
theorem dX4_landTold_83 : decode cX4_landTold 83 = .ok (.getfield 178, 3) := dk_180 0 178 (dk_at dksX4_landTold_3 12 rfl rfl)
theorem dX4_landTold_86 : decode cX4_landTold 86 = .ok (.iload_n 2, 1) := dk_28 (dk_at dksX4_landTold_3 15 rfl rfl)
theorem dX4_landTold_87 : decode cX4_landTold 87 = .ok (.aaload, 1) := dk_50 (dk_at dksX4_landTold_3 16 rfl rfl)
theorem dX4_landTold_88 : decode cX4_landTold 88 = .ok (.invokevirtual 59, 3) := dk_182 0 59 (dk_at dksX4_landTold_3 17 rfl rfl)
theorem dX4_landTold_91 : decode cX4_landTold 91 = .ok (.iadd, 1) := dk_96 (dk_at dksX4_landTold_3 20 rfl rfl)
theorem dX4_landTold_92 : decode cX4_landTold 92 = .ok (.putfield 42, 3) := dk_181 0 42 (dk_at dksX4_landTold_3 21 rfl rfl)
theorem dX4_landTold_95 : decode cX4_landTold 95 = .ok (.aload_n 0, 1) := dk_42 (dk_at dksX4_landTold_4 0 rfl rfl)
theorem dX4_landTold_96 : decode cX4_landTold 96 = .ok (.iload_n 2, 1) := dk_28 (dk_at dksX4_landTold_4 1 rfl rfl)
theorem dX4_landTold_97 : decode cX4_landTold 97 = .ok (.invokevirtual 188, 3) := dk_182 0 188 (dk_at dksX4_landTold_4 2 rfl rfl)
theorem dX4_landTold_100 : decode cX4_landTold 100 = .ok (.aload_n 0, 1) := dk_42 (dk_at dksX4_landTold_4 5 rfl rfl)
theorem dX4_landTold_101 : decode cX4_landTold 101 = .ok (.bipush 59, 2) := dk_16 59 (dk_at dksX4_landTold_4 6 rfl rfl)
theorem dX4_landTold_103 : decode cX4_landTold 103 = .ok (.invokevirtual 191, 3) := dk_182 0 191 (dk_at dksX4_landTold_4 8 rfl rfl)
theorem dX4_landTold_106 : decode cX4_landTold 106 = .ok (.ifCond .ne (-91), 3) := dk_154 255 165 (dk_at dksX4_landTold_4 11 rfl rfl)
theorem dX4_landTold_109 : decode cX4_landTold 109 = .ok (.aload_n 0, 1) := dk_42 (dk_at dksX4_landTold_4 14 rfl rfl)
theorem dX4_landTold_110 : decode cX4_landTold 110 = .ok (.invokevirtual 194, 3) := dk_182 0 194 (dk_at dksX4_landTold_4 15 rfl rfl)
theorem dX4_landTold_113 : decode cX4_landTold 113 = .ok (.aload_n 0, 1) := dk_42 (dk_at dksX4_landTold_4 18 rfl rfl)
theorem dX4_landTold_114 : decode cX4_landTold 114 = .ok (.invokevirtual 197, 3) := dk_182 0 197 (dk_at dksX4_landTold_4 19 rfl rfl)
theorem dX4_landTold_117 : decode cX4_landTold 117 = .ok (.aload_n 0, 1) := dk_42 (dk_at dksX4_landTold_4 22 rfl rfl)
theorem dX4_landTold_118 : decode cX4_landTold 118 = .ok (.getfield 26, 3) := dk_180 0 26 (dk_at dksX4_landTold_5 0 rfl rfl)
theorem dX4_landTold_121 : decode cX4_landTold 121 = .ok (.areturn, 1) := dk_176 (dk_at dksX4_landTold_5 3 rfl rfl)
abbrev cX4_see : ByteArray := prog_16_method_3_code
def yX4_see : MethodName := ⟨RX4, "see", "()I"⟩
def dkwX4_see_3 : List UInt8 := [51, 17, 0, 255, 126, 167, 0, 4, 2, 172]
abbrev dktX4_see_3 : List UInt8 := dkwX4_see_3 ++ []
def dkwX4_see_2 : List UInt8 := [180, 0, 42, 42, 180, 0, 3, 180, 0, 45, 162, 0, 22, 42, 180, 0, 3, 180, 0, 48, 42, 180, 0, 42]
abbrev dktX4_see_2 : List UInt8 := dkwX4_see_2 ++ dktX4_see_3
def dkwX4_see_1 : List UInt8 := [180, 0, 42, 51, 16, 32, 160, 0, 16, 42, 89, 180, 0, 42, 4, 96, 181, 0, 42, 167, 255, 215, 42]
abbrev dktX4_see_1 : List UInt8 := dkwX4_see_1 ++ dktX4_see_2
def dkwX4_see_0 : List UInt8 := [42, 180, 0, 42, 42, 180, 0, 3, 180, 0, 45, 162, 0, 33, 42, 180, 0, 3, 180, 0, 48, 42]
abbrev dktX4_see_0 : List UInt8 := dkwX4_see_0 ++ dktX4_see_1
theorem dksX4_see_0 : cX4_see.data.toList.drop 0 = dktX4_see_0 := by decide +kernel
theorem dksX4_see_1 : cX4_see.data.toList.drop 22 = dktX4_see_1 := dk_seg dksX4_see_0 22 rfl rfl
theorem dksX4_see_2 : cX4_see.data.toList.drop 45 = dktX4_see_2 := dk_seg dksX4_see_1 23 rfl rfl
theorem dksX4_see_3 : cX4_see.data.toList.drop 69 = dktX4_see_3 := dk_seg dksX4_see_2 24 rfl rfl
theorem dX4_see_0 : decode cX4_see 0 = .ok (.aload_n 0, 1) := dk_42 (dk_at dksX4_see_0 0 rfl rfl)
theorem dX4_see_1 : decode cX4_see 1 = .ok (.getfield 42, 3) := dk_180 0 42 (dk_at dksX4_see_0 1 rfl rfl)
theorem dX4_see_4 : decode cX4_see 4 = .ok (.aload_n 0, 1) := dk_42 (dk_at dksX4_see_0 4 rfl rfl)
theorem dX4_see_5 : decode cX4_see 5 = .ok (.getfield 3, 3) := dk_180 0 3 (dk_at dksX4_see_0 5 rfl rfl)
theorem dX4_see_8 : decode cX4_see 8 = .ok (.getfield 45, 3) := dk_180 0 45 (dk_at dksX4_see_0 8 rfl rfl)
theorem dX4_see_11 : decode cX4_see 11 = .ok (.if_icmp .ge 33, 3) := dk_162 0 33 (dk_at dksX4_see_0 11 rfl rfl)
theorem dX4_see_14 : decode cX4_see 14 = .ok (.aload_n 0, 1) := dk_42 (dk_at dksX4_see_0 14 rfl rfl)
theorem dX4_see_15 : decode cX4_see 15 = .ok (.getfield 3, 3) := dk_180 0 3 (dk_at dksX4_see_0 15 rfl rfl)
theorem dX4_see_18 : decode cX4_see 18 = .ok (.getfield 48, 3) := dk_180 0 48 (dk_at dksX4_see_0 18 rfl rfl)
theorem dX4_see_21 : decode cX4_see 21 = .ok (.aload_n 0, 1) := dk_42 (dk_at dksX4_see_0 21 rfl rfl)
theorem dX4_see_22 : decode cX4_see 22 = .ok (.getfield 42, 3) := dk_180 0 42 (dk_at dksX4_see_1 0 rfl rfl)
theorem dX4_see_25 : decode cX4_see 25 = .ok (.baload, 1) := dk_51 (dk_at dksX4_see_1 3 rfl rfl)
theorem dX4_see_26 : decode cX4_see 26 = .ok (.bipush 32, 2) := dk_16 32 (dk_at dksX4_see_1 4 rfl rfl)
theorem dX4_see_28 : decode cX4_see 28 = .ok (.if_icmp .ne 16, 3) := dk_160 0 16 (dk_at dksX4_see_1 6 rfl rfl)
theorem dX4_see_31 : decode cX4_see 31 = .ok (.aload_n 0, 1) := dk_42 (dk_at dksX4_see_1 9 rfl rfl)
theorem dX4_see_32 : decode cX4_see 32 = .ok (.dup, 1) := dk_89 (dk_at dksX4_see_1 10 rfl rfl)
theorem dX4_see_33 : decode cX4_see 33 = .ok (.getfield 42, 3) := dk_180 0 42 (dk_at dksX4_see_1 11 rfl rfl)
theorem dX4_see_36 : decode cX4_see 36 = .ok (.iconst 1, 1) := dk_4 (dk_at dksX4_see_1 14 rfl rfl)
theorem dX4_see_37 : decode cX4_see 37 = .ok (.iadd, 1) := dk_96 (dk_at dksX4_see_1 15 rfl rfl)
theorem dX4_see_38 : decode cX4_see 38 = .ok (.putfield 42, 3) := dk_181 0 42 (dk_at dksX4_see_1 16 rfl rfl)
theorem dX4_see_41 : decode cX4_see 41 = .ok (.goto (-41), 3) := dk_167 255 215 (dk_at dksX4_see_1 19 rfl rfl)
theorem dX4_see_44 : decode cX4_see 44 = .ok (.aload_n 0, 1) := dk_42 (dk_at dksX4_see_1 22 rfl rfl)
theorem dX4_see_45 : decode cX4_see 45 = .ok (.getfield 42, 3) := dk_180 0 42 (dk_at dksX4_see_2 0 rfl rfl)
theorem dX4_see_48 : decode cX4_see 48 = .ok (.aload_n 0, 1) := dk_42 (dk_at dksX4_see_2 3 rfl rfl)
theorem dX4_see_49 : decode cX4_see 49 = .ok (.getfield 3, 3) := dk_180 0 3 (dk_at dksX4_see_2 4 rfl rfl)
theorem dX4_see_52 : decode cX4_see 52 = .ok (.getfield 45, 3) := dk_180 0 45 (dk_at dksX4_see_2 7 rfl rfl)
theorem dX4_see_55 : decode cX4_see 55 = .ok (.if_icmp .ge 22, 3) := dk_162 0 22 (dk_at dksX4_see_2 10 rfl rfl)
theorem dX4_see_58 : decode cX4_see 58 = .ok (.aload_n 0, 1) := dk_42 (dk_at dksX4_see_2 13 rfl rfl)
theorem dX4_see_59 : decode cX4_see 59 = .ok (.getfield 3, 3) := dk_180 0 3 (dk_at dksX4_see_2 14 rfl rfl)
theorem dX4_see_62 : decode cX4_see 62 = .ok (.getfield 48, 3) := dk_180 0 48 (dk_at dksX4_see_2 17 rfl rfl)
theorem dX4_see_65 : decode cX4_see 65 = .ok (.aload_n 0, 1) := dk_42 (dk_at dksX4_see_2 20 rfl rfl)
theorem dX4_see_66 : decode cX4_see 66 = .ok (.getfield 42, 3) := dk_180 0 42 (dk_at dksX4_see_2 21 rfl rfl)
theorem dX4_see_69 : decode cX4_see 69 = .ok (.baload, 1) := dk_51 (dk_at dksX4_see_3 0 rfl rfl)
theorem dX4_see_70 : decode cX4_see 70 = .ok (.sipush 255, 3) := dk_17 0 255 (dk_at dksX4_see_3 1 rfl rfl)
theorem dX4_see_73 : decode cX4_see 73 = .ok (.iand, 1) := dk_126 (dk_at dksX4_see_3 4 rfl rfl)
theorem dX4_see_74 : decode cX4_see 74 = .ok (.goto 4, 3) := dk_167 0 4 (dk_at dksX4_see_3 5 rfl rfl)
theorem dX4_see_77 : decode cX4_see 77 = .ok (.iconst (-1), 1) := dk_2 (dk_at dksX4_see_3 8 rfl rfl)
theorem dX4_see_78 : decode cX4_see 78 = .ok (.ireturn, 1) := dk_172 (dk_at dksX4_see_3 9 rfl rfl)
abbrev cX4_oneOf : ByteArray := prog_16_method_8_code
def yX4_oneOf : MethodName := ⟨RX4, "oneOf", "([Ljava/lang/String;)I"⟩
def dkwX4_oneOf_1 : List UInt8 := [167, 255, 235, 2, 172]
abbrev dktX4_oneOf_1 : List UInt8 := dkwX4_oneOf_1 ++ []
def dkwX4_oneOf_0 : List UInt8 := [3, 61, 28, 43, 190, 162, 0, 21, 42, 43, 28, 50, 182, 0, 68, 153, 0, 5, 28, 172, 132, 2, 1]
abbrev dktX4_oneOf_0 : List UInt8 := dkwX4_oneOf_0 ++ dktX4_oneOf_1
theorem dksX4_oneOf_0 : cX4_oneOf.data.toList.drop 0 = dktX4_oneOf_0 := by decide +kernel
theorem dksX4_oneOf_1 : cX4_oneOf.data.toList.drop 23 = dktX4_oneOf_1 := dk_seg dksX4_oneOf_0 23 rfl rfl
theorem dX4_oneOf_0 : decode cX4_oneOf 0 = .ok (.iconst 0, 1) := dk_3 (dk_at dksX4_oneOf_0 0 rfl rfl)
theorem dX4_oneOf_1 : decode cX4_oneOf 1 = .ok (.istore_n 2, 1) := dk_61 (dk_at dksX4_oneOf_0 1 rfl rfl)
theorem dX4_oneOf_2 : decode cX4_oneOf 2 = .ok (.iload_n 2, 1) := dk_28 (dk_at dksX4_oneOf_0 2 rfl rfl)
theorem dX4_oneOf_3 : decode cX4_oneOf 3 = .ok (.aload_n 1, 1) := dk_43 (dk_at dksX4_oneOf_0 3 rfl rfl)
theorem dX4_oneOf_4 : decode cX4_oneOf 4 = .ok (.arraylength, 1) := dk_190 (dk_at dksX4_oneOf_0 4 rfl rfl)
theorem dX4_oneOf_5 : decode cX4_oneOf 5 = .ok (.if_icmp .ge 21, 3) := dk_162 0 21 (dk_at dksX4_oneOf_0 5 rfl rfl)
theorem dX4_oneOf_8 : decode cX4_oneOf 8 = .ok (.aload_n 0, 1) := dk_42 (dk_at dksX4_oneOf_0 8 rfl rfl)
theorem dX4_oneOf_9 : decode cX4_oneOf 9 = .ok (.aload_n 1, 1) := dk_43 (dk_at dksX4_oneOf_0 9 rfl rfl)
theorem dX4_oneOf_10 : decode cX4_oneOf 10 = .ok (.iload_n 2, 1) := dk_28 (dk_at dksX4_oneOf_0 10 rfl rfl)
theorem dX4_oneOf_11 : decode cX4_oneOf 11 = .ok (.aaload, 1) := dk_50 (dk_at dksX4_oneOf_0 11 rfl rfl)
theorem dX4_oneOf_12 : decode cX4_oneOf 12 = .ok (.invokevirtual 68, 3) := dk_182 0 68 (dk_at dksX4_oneOf_0 12 rfl rfl)
theorem dX4_oneOf_15 : decode cX4_oneOf 15 = .ok (.ifCond .eq 5, 3) := dk_153 0 5 (dk_at dksX4_oneOf_0 15 rfl rfl)
theorem dX4_oneOf_18 : decode cX4_oneOf 18 = .ok (.iload_n 2, 1) := dk_28 (dk_at dksX4_oneOf_0 18 rfl rfl)
theorem dX4_oneOf_19 : decode cX4_oneOf 19 = .ok (.ireturn, 1) := dk_172 (dk_at dksX4_oneOf_0 19 rfl rfl)
theorem dX4_oneOf_20 : decode cX4_oneOf 20 = .ok (.iinc 2 1, 3) := dk_132 2 1 (dk_at dksX4_oneOf_0 20 rfl rfl)
theorem dX4_oneOf_23 : decode cX4_oneOf 23 = .ok (.goto (-21), 3) := dk_167 255 235 (dk_at dksX4_oneOf_1 0 rfl rfl)
theorem dX4_oneOf_26 : decode cX4_oneOf 26 = .ok (.iconst (-1), 1) := dk_2 (dk_at dksX4_oneOf_1 3 rfl rfl)
theorem dX4_oneOf_27 : decode cX4_oneOf 27 = .ok (.ireturn, 1) := dk_172 (dk_at dksX4_oneOf_1 4 rfl rfl)
abbrev cX4_isWord : ByteArray := prog_16_method_6_code
def yX4_isWord : MethodName := ⟨RX4, "isWord", "(Ljava/lang/String;)Z"⟩
def dkwX4_isWord_2 : List UInt8 := [180, 0, 42, 21, 4, 96, 51, 160, 0, 7, 4, 167, 0, 4, 3, 62, 132, 4, 1, 167, 255, 213, 29, 172]
abbrev dktX4_isWord_2 : List UInt8 := dkwX4_isWord_2 ++ []
def dkwX4_isWord_1 : List UInt8 := [153, 0, 45, 21, 4, 28, 162, 0, 39, 43, 21, 4, 182, 0, 64, 42, 180, 0, 3, 180, 0, 48, 42]
abbrev dktX4_isWord_1 : List UInt8 := dkwX4_isWord_1 ++ dktX4_isWord_2
def dkwX4_isWord_0 : List UInt8 := [42, 182, 0, 56, 61, 28, 43, 182, 0, 59, 160, 0, 7, 4, 167, 0, 4, 3, 62, 3, 54, 4, 29]
abbrev dktX4_isWord_0 : List UInt8 := dkwX4_isWord_0 ++ dktX4_isWord_1
theorem dksX4_isWord_0 : cX4_isWord.data.toList.drop 0 = dktX4_isWord_0 := by decide +kernel
theorem dksX4_isWord_1 : cX4_isWord.data.toList.drop 23 = dktX4_isWord_1 := dk_seg dksX4_isWord_0 23 rfl rfl
theorem dksX4_isWord_2 : cX4_isWord.data.toList.drop 46 = dktX4_isWord_2 := dk_seg dksX4_isWord_1 23 rfl rfl
theorem dX4_isWord_0 : decode cX4_isWord 0 = .ok (.aload_n 0, 1) := dk_42 (dk_at dksX4_isWord_0 0 rfl rfl)
theorem dX4_isWord_1 : decode cX4_isWord 1 = .ok (.invokevirtual 56, 3) := dk_182 0 56 (dk_at dksX4_isWord_0 1 rfl rfl)
theorem dX4_isWord_4 : decode cX4_isWord 4 = .ok (.istore_n 2, 1) := dk_61 (dk_at dksX4_isWord_0 4 rfl rfl)
theorem dX4_isWord_5 : decode cX4_isWord 5 = .ok (.iload_n 2, 1) := dk_28 (dk_at dksX4_isWord_0 5 rfl rfl)
theorem dX4_isWord_6 : decode cX4_isWord 6 = .ok (.aload_n 1, 1) := dk_43 (dk_at dksX4_isWord_0 6 rfl rfl)
theorem dX4_isWord_7 : decode cX4_isWord 7 = .ok (.invokevirtual 59, 3) := dk_182 0 59 (dk_at dksX4_isWord_0 7 rfl rfl)
theorem dX4_isWord_10 : decode cX4_isWord 10 = .ok (.if_icmp .ne 7, 3) := dk_160 0 7 (dk_at dksX4_isWord_0 10 rfl rfl)
theorem dX4_isWord_13 : decode cX4_isWord 13 = .ok (.iconst 1, 1) := dk_4 (dk_at dksX4_isWord_0 13 rfl rfl)
theorem dX4_isWord_14 : decode cX4_isWord 14 = .ok (.goto 4, 3) := dk_167 0 4 (dk_at dksX4_isWord_0 14 rfl rfl)
theorem dX4_isWord_17 : decode cX4_isWord 17 = .ok (.iconst 0, 1) := dk_3 (dk_at dksX4_isWord_0 17 rfl rfl)
theorem dX4_isWord_18 : decode cX4_isWord 18 = .ok (.istore_n 3, 1) := dk_62 (dk_at dksX4_isWord_0 18 rfl rfl)
theorem dX4_isWord_19 : decode cX4_isWord 19 = .ok (.iconst 0, 1) := dk_3 (dk_at dksX4_isWord_0 19 rfl rfl)
theorem dX4_isWord_20 : decode cX4_isWord 20 = .ok (.istore 4, 2) := dk_54 4 (dk_at dksX4_isWord_0 20 rfl rfl)
theorem dX4_isWord_22 : decode cX4_isWord 22 = .ok (.iload_n 3, 1) := dk_29 (dk_at dksX4_isWord_0 22 rfl rfl)
theorem dX4_isWord_23 : decode cX4_isWord 23 = .ok (.ifCond .eq 45, 3) := dk_153 0 45 (dk_at dksX4_isWord_1 0 rfl rfl)
theorem dX4_isWord_26 : decode cX4_isWord 26 = .ok (.iload 4, 2) := dk_21 4 (dk_at dksX4_isWord_1 3 rfl rfl)
theorem dX4_isWord_28 : decode cX4_isWord 28 = .ok (.iload_n 2, 1) := dk_28 (dk_at dksX4_isWord_1 5 rfl rfl)
theorem dX4_isWord_29 : decode cX4_isWord 29 = .ok (.if_icmp .ge 39, 3) := dk_162 0 39 (dk_at dksX4_isWord_1 6 rfl rfl)
theorem dX4_isWord_32 : decode cX4_isWord 32 = .ok (.aload_n 1, 1) := dk_43 (dk_at dksX4_isWord_1 9 rfl rfl)
theorem dX4_isWord_33 : decode cX4_isWord 33 = .ok (.iload 4, 2) := dk_21 4 (dk_at dksX4_isWord_1 10 rfl rfl)
theorem dX4_isWord_35 : decode cX4_isWord 35 = .ok (.invokevirtual 64, 3) := dk_182 0 64 (dk_at dksX4_isWord_1 12 rfl rfl)
theorem dX4_isWord_38 : decode cX4_isWord 38 = .ok (.aload_n 0, 1) := dk_42 (dk_at dksX4_isWord_1 15 rfl rfl)
theorem dX4_isWord_39 : decode cX4_isWord 39 = .ok (.getfield 3, 3) := dk_180 0 3 (dk_at dksX4_isWord_1 16 rfl rfl)
theorem dX4_isWord_42 : decode cX4_isWord 42 = .ok (.getfield 48, 3) := dk_180 0 48 (dk_at dksX4_isWord_1 19 rfl rfl)
theorem dX4_isWord_45 : decode cX4_isWord 45 = .ok (.aload_n 0, 1) := dk_42 (dk_at dksX4_isWord_1 22 rfl rfl)
theorem dX4_isWord_46 : decode cX4_isWord 46 = .ok (.getfield 42, 3) := dk_180 0 42 (dk_at dksX4_isWord_2 0 rfl rfl)
theorem dX4_isWord_49 : decode cX4_isWord 49 = .ok (.iload 4, 2) := dk_21 4 (dk_at dksX4_isWord_2 3 rfl rfl)
theorem dX4_isWord_51 : decode cX4_isWord 51 = .ok (.iadd, 1) := dk_96 (dk_at dksX4_isWord_2 5 rfl rfl)
theorem dX4_isWord_52 : decode cX4_isWord 52 = .ok (.baload, 1) := dk_51 (dk_at dksX4_isWord_2 6 rfl rfl)
theorem dX4_isWord_53 : decode cX4_isWord 53 = .ok (.if_icmp .ne 7, 3) := dk_160 0 7 (dk_at dksX4_isWord_2 7 rfl rfl)
theorem dX4_isWord_56 : decode cX4_isWord 56 = .ok (.iconst 1, 1) := dk_4 (dk_at dksX4_isWord_2 10 rfl rfl)
theorem dX4_isWord_57 : decode cX4_isWord 57 = .ok (.goto 4, 3) := dk_167 0 4 (dk_at dksX4_isWord_2 11 rfl rfl)
theorem dX4_isWord_60 : decode cX4_isWord 60 = .ok (.iconst 0, 1) := dk_3 (dk_at dksX4_isWord_2 14 rfl rfl)
theorem dX4_isWord_61 : decode cX4_isWord 61 = .ok (.istore_n 3, 1) := dk_62 (dk_at dksX4_isWord_2 15 rfl rfl)
theorem dX4_isWord_62 : decode cX4_isWord 62 = .ok (.iinc 4 1, 3) := dk_132 4 1 (dk_at dksX4_isWord_2 16 rfl rfl)
theorem dX4_isWord_65 : decode cX4_isWord 65 = .ok (.goto (-43), 3) := dk_167 255 213 (dk_at dksX4_isWord_2 19 rfl rfl)
theorem dX4_isWord_68 : decode cX4_isWord 68 = .ok (.iload_n 3, 1) := dk_29 (dk_at dksX4_isWord_2 22 rfl rfl)
theorem dX4_isWord_69 : decode cX4_isWord 69 = .ok (.ireturn, 1) := dk_172 (dk_at dksX4_isWord_2 23 rfl rfl)
abbrev cX4_letters : ByteArray := prog_16_method_5_code
def yX4_letters : MethodName := ⟨RX4, "letters", "()I"⟩
def dkwX4_letters_2 : List UInt8 := [180, 0, 48, 42, 180, 0, 42, 27, 96, 51, 16, 122, 163, 0, 9, 132, 1, 1, 167, 255, 199, 27, 172]
abbrev dktX4_letters_2 : List UInt8 := dkwX4_letters_2 ++ []
def dkwX4_letters_1 : List UInt8 := [180, 0, 3, 180, 0, 48, 42, 180, 0, 42, 27, 96, 51, 16, 97, 161, 0, 28, 42, 180, 0, 3]
abbrev dktX4_letters_1 : List UInt8 := dkwX4_letters_1 ++ dktX4_letters_2
def dkwX4_letters_0 : List UInt8 := [42, 182, 0, 52, 87, 3, 60, 42, 180, 0, 42, 27, 96, 42, 180, 0, 3, 180, 0, 45, 162, 0, 47, 42]
abbrev dktX4_letters_0 : List UInt8 := dkwX4_letters_0 ++ dktX4_letters_1
theorem dksX4_letters_0 : cX4_letters.data.toList.drop 0 = dktX4_letters_0 := by decide +kernel
theorem dksX4_letters_1 : cX4_letters.data.toList.drop 24 = dktX4_letters_1 := dk_seg dksX4_letters_0 24 rfl rfl
theorem dksX4_letters_2 : cX4_letters.data.toList.drop 46 = dktX4_letters_2 := dk_seg dksX4_letters_1 22 rfl rfl
theorem dX4_letters_0 : decode cX4_letters 0 = .ok (.aload_n 0, 1) := dk_42 (dk_at dksX4_letters_0 0 rfl rfl)
theorem dX4_letters_1 : decode cX4_letters 1 = .ok (.invokevirtual 52, 3) := dk_182 0 52 (dk_at dksX4_letters_0 1 rfl rfl)
theorem dX4_letters_4 : decode cX4_letters 4 = .ok (.pop, 1) := dk_87 (dk_at dksX4_letters_0 4 rfl rfl)
theorem dX4_letters_5 : decode cX4_letters 5 = .ok (.iconst 0, 1) := dk_3 (dk_at dksX4_letters_0 5 rfl rfl)
theorem dX4_letters_6 : decode cX4_letters 6 = .ok (.istore_n 1, 1) := dk_60 (dk_at dksX4_letters_0 6 rfl rfl)
theorem dX4_letters_7 : decode cX4_letters 7 = .ok (.aload_n 0, 1) := dk_42 (dk_at dksX4_letters_0 7 rfl rfl)
theorem dX4_letters_8 : decode cX4_letters 8 = .ok (.getfield 42, 3) := dk_180 0 42 (dk_at dksX4_letters_0 8 rfl rfl)
theorem dX4_letters_11 : decode cX4_letters 11 = .ok (.iload_n 1, 1) := dk_27 (dk_at dksX4_letters_0 11 rfl rfl)
theorem dX4_letters_12 : decode cX4_letters 12 = .ok (.iadd, 1) := dk_96 (dk_at dksX4_letters_0 12 rfl rfl)
theorem dX4_letters_13 : decode cX4_letters 13 = .ok (.aload_n 0, 1) := dk_42 (dk_at dksX4_letters_0 13 rfl rfl)
theorem dX4_letters_14 : decode cX4_letters 14 = .ok (.getfield 3, 3) := dk_180 0 3 (dk_at dksX4_letters_0 14 rfl rfl)
theorem dX4_letters_17 : decode cX4_letters 17 = .ok (.getfield 45, 3) := dk_180 0 45 (dk_at dksX4_letters_0 17 rfl rfl)
theorem dX4_letters_20 : decode cX4_letters 20 = .ok (.if_icmp .ge 47, 3) := dk_162 0 47 (dk_at dksX4_letters_0 20 rfl rfl)
theorem dX4_letters_23 : decode cX4_letters 23 = .ok (.aload_n 0, 1) := dk_42 (dk_at dksX4_letters_0 23 rfl rfl)
theorem dX4_letters_24 : decode cX4_letters 24 = .ok (.getfield 3, 3) := dk_180 0 3 (dk_at dksX4_letters_1 0 rfl rfl)
theorem dX4_letters_27 : decode cX4_letters 27 = .ok (.getfield 48, 3) := dk_180 0 48 (dk_at dksX4_letters_1 3 rfl rfl)
theorem dX4_letters_30 : decode cX4_letters 30 = .ok (.aload_n 0, 1) := dk_42 (dk_at dksX4_letters_1 6 rfl rfl)
theorem dX4_letters_31 : decode cX4_letters 31 = .ok (.getfield 42, 3) := dk_180 0 42 (dk_at dksX4_letters_1 7 rfl rfl)
theorem dX4_letters_34 : decode cX4_letters 34 = .ok (.iload_n 1, 1) := dk_27 (dk_at dksX4_letters_1 10 rfl rfl)
theorem dX4_letters_35 : decode cX4_letters 35 = .ok (.iadd, 1) := dk_96 (dk_at dksX4_letters_1 11 rfl rfl)
theorem dX4_letters_36 : decode cX4_letters 36 = .ok (.baload, 1) := dk_51 (dk_at dksX4_letters_1 12 rfl rfl)
theorem dX4_letters_37 : decode cX4_letters 37 = .ok (.bipush 97, 2) := dk_16 97 (dk_at dksX4_letters_1 13 rfl rfl)
theorem dX4_letters_39 : decode cX4_letters 39 = .ok (.if_icmp .lt 28, 3) := dk_161 0 28 (dk_at dksX4_letters_1 15 rfl rfl)
theorem dX4_letters_42 : decode cX4_letters 42 = .ok (.aload_n 0, 1) := dk_42 (dk_at dksX4_letters_1 18 rfl rfl)
theorem dX4_letters_43 : decode cX4_letters 43 = .ok (.getfield 3, 3) := dk_180 0 3 (dk_at dksX4_letters_1 19 rfl rfl)
theorem dX4_letters_46 : decode cX4_letters 46 = .ok (.getfield 48, 3) := dk_180 0 48 (dk_at dksX4_letters_2 0 rfl rfl)
theorem dX4_letters_49 : decode cX4_letters 49 = .ok (.aload_n 0, 1) := dk_42 (dk_at dksX4_letters_2 3 rfl rfl)
theorem dX4_letters_50 : decode cX4_letters 50 = .ok (.getfield 42, 3) := dk_180 0 42 (dk_at dksX4_letters_2 4 rfl rfl)
theorem dX4_letters_53 : decode cX4_letters 53 = .ok (.iload_n 1, 1) := dk_27 (dk_at dksX4_letters_2 7 rfl rfl)
theorem dX4_letters_54 : decode cX4_letters 54 = .ok (.iadd, 1) := dk_96 (dk_at dksX4_letters_2 8 rfl rfl)
theorem dX4_letters_55 : decode cX4_letters 55 = .ok (.baload, 1) := dk_51 (dk_at dksX4_letters_2 9 rfl rfl)
theorem dX4_letters_56 : decode cX4_letters 56 = .ok (.bipush 122, 2) := dk_16 122 (dk_at dksX4_letters_2 10 rfl rfl)
theorem dX4_letters_58 : decode cX4_letters 58 = .ok (.if_icmp .gt 9, 3) := dk_163 0 9 (dk_at dksX4_letters_2 12 rfl rfl)
theorem dX4_letters_61 : decode cX4_letters 61 = .ok (.iinc 1 1, 3) := dk_132 1 1 (dk_at dksX4_letters_2 15 rfl rfl)
theorem dX4_letters_64 : decode cX4_letters 64 = .ok (.goto (-57), 3) := dk_167 255 199 (dk_at dksX4_letters_2 18 rfl rfl)
theorem dX4_letters_67 : decode cX4_letters 67 = .ok (.iload_n 1, 1) := dk_27 (dk_at dksX4_letters_2 21 rfl rfl)
theorem dX4_letters_68 : decode cX4_letters 68 = .ok (.ireturn, 1) := dk_172 (dk_at dksX4_letters_2 22 rfl rfl)
abbrev cX4_demand : ByteArray := prog_16_method_2_code
def yX4_demand : MethodName := ⟨RX4, "demand", "(ZII)V"⟩
def dkwX4_demand_1 : List UInt8 := [181, 0, 39, 42, 180, 0, 3, 180, 0, 29, 191]
abbrev dktX4_demand_1 : List UInt8 := dkwX4_demand_1 ++ []
def dkwX4_demand_0 : List UInt8 := [27, 153, 0, 4, 177, 42, 180, 0, 3, 180, 0, 29, 28, 181, 0, 33, 42, 180, 0, 3, 180, 0, 29, 29]
abbrev dktX4_demand_0 : List UInt8 := dkwX4_demand_0 ++ dktX4_demand_1
theorem dksX4_demand_0 : cX4_demand.data.toList.drop 0 = dktX4_demand_0 := by decide +kernel
theorem dksX4_demand_1 : cX4_demand.data.toList.drop 24 = dktX4_demand_1 := dk_seg dksX4_demand_0 24 rfl rfl
theorem dX4_demand_0 : decode cX4_demand 0 = .ok (.iload_n 1, 1) := dk_27 (dk_at dksX4_demand_0 0 rfl rfl)
theorem dX4_demand_1 : decode cX4_demand 1 = .ok (.ifCond .eq 4, 3) := dk_153 0 4 (dk_at dksX4_demand_0 1 rfl rfl)
theorem dX4_demand_4 : decode cX4_demand 4 = .ok (.return_, 1) := dk_177 (dk_at dksX4_demand_0 4 rfl rfl)
theorem dX4_demand_5 : decode cX4_demand 5 = .ok (.aload_n 0, 1) := dk_42 (dk_at dksX4_demand_0 5 rfl rfl)
theorem dX4_demand_6 : decode cX4_demand 6 = .ok (.getfield 3, 3) := dk_180 0 3 (dk_at dksX4_demand_0 6 rfl rfl)
theorem dX4_demand_9 : decode cX4_demand 9 = .ok (.getfield 29, 3) := dk_180 0 29 (dk_at dksX4_demand_0 9 rfl rfl)
theorem dX4_demand_12 : decode cX4_demand 12 = .ok (.iload_n 2, 1) := dk_28 (dk_at dksX4_demand_0 12 rfl rfl)
theorem dX4_demand_13 : decode cX4_demand 13 = .ok (.putfield 33, 3) := dk_181 0 33 (dk_at dksX4_demand_0 13 rfl rfl)
theorem dX4_demand_16 : decode cX4_demand 16 = .ok (.aload_n 0, 1) := dk_42 (dk_at dksX4_demand_0 16 rfl rfl)
theorem dX4_demand_17 : decode cX4_demand 17 = .ok (.getfield 3, 3) := dk_180 0 3 (dk_at dksX4_demand_0 17 rfl rfl)
theorem dX4_demand_20 : decode cX4_demand 20 = .ok (.getfield 29, 3) := dk_180 0 29 (dk_at dksX4_demand_0 20 rfl rfl)
theorem dX4_demand_23 : decode cX4_demand 23 = .ok (.iload_n 3, 1) := dk_29 (dk_at dksX4_demand_0 23 rfl rfl)
theorem dX4_demand_24 : decode cX4_demand 24 = .ok (.putfield 39, 3) := dk_181 0 39 (dk_at dksX4_demand_1 0 rfl rfl)
theorem dX4_demand_27 : decode cX4_demand 27 = .ok (.aload_n 0, 1) := dk_42 (dk_at dksX4_demand_1 3 rfl rfl)
theorem dX4_demand_28 : decode cX4_demand 28 = .ok (.getfield 3, 3) := dk_180 0 3 (dk_at dksX4_demand_1 4 rfl rfl)
theorem dX4_demand_31 : decode cX4_demand 31 = .ok (.getfield 29, 3) := dk_180 0 29 (dk_at dksX4_demand_1 7 rfl rfl)
theorem dX4_demand_34 : decode cX4_demand 34 = .ok (.athrow, 1) := dk_191 (dk_at dksX4_demand_1 10 rfl rfl)
abbrev cX4_canBe : ByteArray := prog_16_method_14_code
def yX4_canBe : MethodName := ⟨RX4, "canBe", "(I)Z"⟩
def dkwX4_canBe_6 : List UInt8 := [167, 0, 4, 3, 172, 4, 172]
abbrev dktX4_canBe_6 : List UInt8 := dkwX4_canBe_6 ++ []
def dkwX4_canBe_5 : List UInt8 := [162, 0, 7, 4, 167, 0, 4, 3, 172, 42, 180, 0, 26, 180, 0, 107, 16, 8, 162, 0, 7, 4]
abbrev dktX4_canBe_5 : List UInt8 := dkwX4_canBe_5 ++ dktX4_canBe_6
def dkwX4_canBe_4 : List UInt8 := [180, 0, 101, 16, 6, 162, 0, 7, 4, 167, 0, 4, 3, 172, 42, 180, 0, 26, 180, 0, 104, 16, 10]
abbrev dktX4_canBe_4 : List UInt8 := dkwX4_canBe_4 ++ dktX4_canBe_5
def dkwX4_canBe_3 : List UInt8 := [42, 180, 0, 26, 180, 0, 98, 16, 6, 162, 0, 7, 4, 167, 0, 4, 3, 172, 42, 180, 0, 26]
abbrev dktX4_canBe_3 : List UInt8 := dkwX4_canBe_3 ++ dktX4_canBe_4
def dkwX4_canBe_2 : List UInt8 := [170, 0, 0, 0, 101, 0, 0, 0, 1, 0, 0, 0, 4, 0, 0, 0, 29, 0, 0, 0, 47, 0, 0, 0, 65, 0, 0, 0, 83]
abbrev dktX4_canBe_2 : List UInt8 := dkwX4_canBe_2 ++ dktX4_canBe_3
def dkwX4_canBe_1 : List UInt8 := [180, 0, 93, 154, 0, 7, 4, 167, 0, 4, 3, 159, 0, 5, 3, 172, 27]
abbrev dktX4_canBe_1 : List UInt8 := dkwX4_canBe_1 ++ dktX4_canBe_2
def dkwX4_canBe_0 : List UInt8 := [42, 180, 0, 90, 16, 40, 162, 0, 30, 27, 154, 0, 7, 4, 167, 0, 4, 3, 42, 180, 0, 26]
abbrev dktX4_canBe_0 : List UInt8 := dkwX4_canBe_0 ++ dktX4_canBe_1
theorem dksX4_canBe_0 : cX4_canBe.data.toList.drop 0 = dktX4_canBe_0 := by decide +kernel
theorem dksX4_canBe_1 : cX4_canBe.data.toList.drop 22 = dktX4_canBe_1 := dk_seg dksX4_canBe_0 22 rfl rfl
theorem dksX4_canBe_2 : cX4_canBe.data.toList.drop 39 = dktX4_canBe_2 := dk_seg dksX4_canBe_1 17 rfl rfl
theorem dksX4_canBe_3 : cX4_canBe.data.toList.drop 68 = dktX4_canBe_3 := dk_seg dksX4_canBe_2 29 rfl rfl
theorem dksX4_canBe_4 : cX4_canBe.data.toList.drop 90 = dktX4_canBe_4 := dk_seg dksX4_canBe_3 22 rfl rfl
theorem dksX4_canBe_5 : cX4_canBe.data.toList.drop 113 = dktX4_canBe_5 := dk_seg dksX4_canBe_4 23 rfl rfl
theorem dksX4_canBe_6 : cX4_canBe.data.toList.drop 135 = dktX4_canBe_6 := dk_seg dksX4_canBe_5 22 rfl rfl
theorem dX4_canBe_0 : decode cX4_canBe 0 = .ok (.aload_n 0, 1) := dk_42 (dk_at dksX4_canBe_0 0 rfl rfl)
theorem dX4_canBe_1 : decode cX4_canBe 1 = .ok (.getfield 90, 3) := dk_180 0 90 (dk_at dksX4_canBe_0 1 rfl rfl)
theorem dX4_canBe_4 : decode cX4_canBe 4 = .ok (.bipush 40, 2) := dk_16 40 (dk_at dksX4_canBe_0 4 rfl rfl)
theorem dX4_canBe_6 : decode cX4_canBe 6 = .ok (.if_icmp .ge 30, 3) := dk_162 0 30 (dk_at dksX4_canBe_0 6 rfl rfl)
theorem dX4_canBe_9 : decode cX4_canBe 9 = .ok (.iload_n 1, 1) := dk_27 (dk_at dksX4_canBe_0 9 rfl rfl)
theorem dX4_canBe_10 : decode cX4_canBe 10 = .ok (.ifCond .ne 7, 3) := dk_154 0 7 (dk_at dksX4_canBe_0 10 rfl rfl)
theorem dX4_canBe_13 : decode cX4_canBe 13 = .ok (.iconst 1, 1) := dk_4 (dk_at dksX4_canBe_0 13 rfl rfl)
theorem dX4_canBe_14 : decode cX4_canBe 14 = .ok (.goto 4, 3) := dk_167 0 4 (dk_at dksX4_canBe_0 14 rfl rfl)
theorem dX4_canBe_17 : decode cX4_canBe 17 = .ok (.iconst 0, 1) := dk_3 (dk_at dksX4_canBe_0 17 rfl rfl)
theorem dX4_canBe_18 : decode cX4_canBe 18 = .ok (.aload_n 0, 1) := dk_42 (dk_at dksX4_canBe_0 18 rfl rfl)
theorem dX4_canBe_19 : decode cX4_canBe 19 = .ok (.getfield 26, 3) := dk_180 0 26 (dk_at dksX4_canBe_0 19 rfl rfl)
theorem dX4_canBe_22 : decode cX4_canBe 22 = .ok (.getfield 93, 3) := dk_180 0 93 (dk_at dksX4_canBe_1 0 rfl rfl)
theorem dX4_canBe_25 : decode cX4_canBe 25 = .ok (.ifCond .ne 7, 3) := dk_154 0 7 (dk_at dksX4_canBe_1 3 rfl rfl)
theorem dX4_canBe_28 : decode cX4_canBe 28 = .ok (.iconst 1, 1) := dk_4 (dk_at dksX4_canBe_1 6 rfl rfl)
theorem dX4_canBe_29 : decode cX4_canBe 29 = .ok (.goto 4, 3) := dk_167 0 4 (dk_at dksX4_canBe_1 7 rfl rfl)
theorem dX4_canBe_32 : decode cX4_canBe 32 = .ok (.iconst 0, 1) := dk_3 (dk_at dksX4_canBe_1 10 rfl rfl)
theorem dX4_canBe_33 : decode cX4_canBe 33 = .ok (.if_icmp .eq 5, 3) := dk_159 0 5 (dk_at dksX4_canBe_1 11 rfl rfl)
theorem dX4_canBe_36 : decode cX4_canBe 36 = .ok (.iconst 0, 1) := dk_3 (dk_at dksX4_canBe_1 14 rfl rfl)
theorem dX4_canBe_37 : decode cX4_canBe 37 = .ok (.ireturn, 1) := dk_172 (dk_at dksX4_canBe_1 15 rfl rfl)
theorem dX4_canBe_38 : decode cX4_canBe 38 = .ok (.iload_n 1, 1) := dk_27 (dk_at dksX4_canBe_1 16 rfl rfl)
theorem dX4_canBe_39 : decode cX4_canBe 39 = .ok (.tableswitch 101 1 4 #[29, 47, 65, 83], 29) := by decide +kernel
theorem dX4_canBe_68 : decode cX4_canBe 68 = .ok (.aload_n 0, 1) := dk_42 (dk_at dksX4_canBe_3 0 rfl rfl)
theorem dX4_canBe_69 : decode cX4_canBe 69 = .ok (.getfield 26, 3) := dk_180 0 26 (dk_at dksX4_canBe_3 1 rfl rfl)
theorem dX4_canBe_72 : decode cX4_canBe 72 = .ok (.getfield 98, 3) := dk_180 0 98 (dk_at dksX4_canBe_3 4 rfl rfl)
theorem dX4_canBe_75 : decode cX4_canBe 75 = .ok (.bipush 6, 2) := dk_16 6 (dk_at dksX4_canBe_3 7 rfl rfl)
theorem dX4_canBe_77 : decode cX4_canBe 77 = .ok (.if_icmp .ge 7, 3) := dk_162 0 7 (dk_at dksX4_canBe_3 9 rfl rfl)
theorem dX4_canBe_80 : decode cX4_canBe 80 = .ok (.iconst 1, 1) := dk_4 (dk_at dksX4_canBe_3 12 rfl rfl)
theorem dX4_canBe_81 : decode cX4_canBe 81 = .ok (.goto 4, 3) := dk_167 0 4 (dk_at dksX4_canBe_3 13 rfl rfl)
theorem dX4_canBe_84 : decode cX4_canBe 84 = .ok (.iconst 0, 1) := dk_3 (dk_at dksX4_canBe_3 16 rfl rfl)
theorem dX4_canBe_85 : decode cX4_canBe 85 = .ok (.ireturn, 1) := dk_172 (dk_at dksX4_canBe_3 17 rfl rfl)
theorem dX4_canBe_86 : decode cX4_canBe 86 = .ok (.aload_n 0, 1) := dk_42 (dk_at dksX4_canBe_3 18 rfl rfl)
theorem dX4_canBe_87 : decode cX4_canBe 87 = .ok (.getfield 26, 3) := dk_180 0 26 (dk_at dksX4_canBe_3 19 rfl rfl)
theorem dX4_canBe_90 : decode cX4_canBe 90 = .ok (.getfield 101, 3) := dk_180 0 101 (dk_at dksX4_canBe_4 0 rfl rfl)
theorem dX4_canBe_93 : decode cX4_canBe 93 = .ok (.bipush 6, 2) := dk_16 6 (dk_at dksX4_canBe_4 3 rfl rfl)
theorem dX4_canBe_95 : decode cX4_canBe 95 = .ok (.if_icmp .ge 7, 3) := dk_162 0 7 (dk_at dksX4_canBe_4 5 rfl rfl)
theorem dX4_canBe_98 : decode cX4_canBe 98 = .ok (.iconst 1, 1) := dk_4 (dk_at dksX4_canBe_4 8 rfl rfl)
theorem dX4_canBe_99 : decode cX4_canBe 99 = .ok (.goto 4, 3) := dk_167 0 4 (dk_at dksX4_canBe_4 9 rfl rfl)
theorem dX4_canBe_102 : decode cX4_canBe 102 = .ok (.iconst 0, 1) := dk_3 (dk_at dksX4_canBe_4 12 rfl rfl)
theorem dX4_canBe_103 : decode cX4_canBe 103 = .ok (.ireturn, 1) := dk_172 (dk_at dksX4_canBe_4 13 rfl rfl)
theorem dX4_canBe_104 : decode cX4_canBe 104 = .ok (.aload_n 0, 1) := dk_42 (dk_at dksX4_canBe_4 14 rfl rfl)
theorem dX4_canBe_105 : decode cX4_canBe 105 = .ok (.getfield 26, 3) := dk_180 0 26 (dk_at dksX4_canBe_4 15 rfl rfl)
theorem dX4_canBe_108 : decode cX4_canBe 108 = .ok (.getfield 104, 3) := dk_180 0 104 (dk_at dksX4_canBe_4 18 rfl rfl)
theorem dX4_canBe_111 : decode cX4_canBe 111 = .ok (.bipush 10, 2) := dk_16 10 (dk_at dksX4_canBe_4 21 rfl rfl)
theorem dX4_canBe_113 : decode cX4_canBe 113 = .ok (.if_icmp .ge 7, 3) := dk_162 0 7 (dk_at dksX4_canBe_5 0 rfl rfl)
theorem dX4_canBe_116 : decode cX4_canBe 116 = .ok (.iconst 1, 1) := dk_4 (dk_at dksX4_canBe_5 3 rfl rfl)
theorem dX4_canBe_117 : decode cX4_canBe 117 = .ok (.goto 4, 3) := dk_167 0 4 (dk_at dksX4_canBe_5 4 rfl rfl)
theorem dX4_canBe_120 : decode cX4_canBe 120 = .ok (.iconst 0, 1) := dk_3 (dk_at dksX4_canBe_5 7 rfl rfl)
theorem dX4_canBe_121 : decode cX4_canBe 121 = .ok (.ireturn, 1) := dk_172 (dk_at dksX4_canBe_5 8 rfl rfl)
theorem dX4_canBe_122 : decode cX4_canBe 122 = .ok (.aload_n 0, 1) := dk_42 (dk_at dksX4_canBe_5 9 rfl rfl)
theorem dX4_canBe_123 : decode cX4_canBe 123 = .ok (.getfield 26, 3) := dk_180 0 26 (dk_at dksX4_canBe_5 10 rfl rfl)
theorem dX4_canBe_126 : decode cX4_canBe 126 = .ok (.getfield 107, 3) := dk_180 0 107 (dk_at dksX4_canBe_5 13 rfl rfl)
theorem dX4_canBe_129 : decode cX4_canBe 129 = .ok (.bipush 8, 2) := dk_16 8 (dk_at dksX4_canBe_5 16 rfl rfl)
theorem dX4_canBe_131 : decode cX4_canBe 131 = .ok (.if_icmp .ge 7, 3) := dk_162 0 7 (dk_at dksX4_canBe_5 18 rfl rfl)
theorem dX4_canBe_134 : decode cX4_canBe 134 = .ok (.iconst 1, 1) := dk_4 (dk_at dksX4_canBe_5 21 rfl rfl)
theorem dX4_canBe_135 : decode cX4_canBe 135 = .ok (.goto 4, 3) := dk_167 0 4 (dk_at dksX4_canBe_6 0 rfl rfl)
theorem dX4_canBe_138 : decode cX4_canBe 138 = .ok (.iconst 0, 1) := dk_3 (dk_at dksX4_canBe_6 3 rfl rfl)
theorem dX4_canBe_139 : decode cX4_canBe 139 = .ok (.ireturn, 1) := dk_172 (dk_at dksX4_canBe_6 4 rfl rfl)
theorem dX4_canBe_140 : decode cX4_canBe 140 = .ok (.iconst 1, 1) := dk_4 (dk_at dksX4_canBe_6 5 rfl rfl)
theorem dX4_canBe_141 : decode cX4_canBe 141 = .ok (.ireturn, 1) := dk_172 (dk_at dksX4_canBe_6 6 rfl rfl)
abbrev cX4_line : ByteArray := prog_16_method_19_code
def yX4_line : MethodName := ⟨RX4, "line", "(I)V"⟩
def dkwX4_line_5 : List UInt8 := [180, 0, 26, 89, 180, 0, 107, 4, 96, 181, 0, 107, 177]
abbrev dktX4_line_5 : List UInt8 := dkwX4_line_5 ++ []
def dkwX4_line_4 : List UInt8 := [79, 42, 180, 0, 26, 180, 0, 168, 42, 180, 0, 26, 180, 0, 107, 42, 4, 16, 99, 182, 0, 110, 79, 42]
abbrev dktX4_line_4 : List UInt8 := dkwX4_line_4 ++ dktX4_line_5
def dkwX4_line_3 : List UInt8 := [180, 0, 165, 42, 180, 0, 26, 180, 0, 107, 42, 3, 42, 180, 0, 26, 180, 0, 93, 4, 100, 182, 0, 110]
abbrev dktX4_line_3 : List UInt8 := dkwX4_line_3 ++ dktX4_line_4
def dkwX4_line_2 : List UInt8 := [42, 182, 0, 153, 177, 42, 182, 0, 156, 177, 42, 182, 0, 159, 177, 42, 182, 0, 162, 177, 42, 180, 0, 26]
abbrev dktX4_line_2 : List UInt8 := dkwX4_line_2 ++ dktX4_line_3
def dkwX4_line_1 : List UInt8 := [170, 0, 0, 0, 0, 0, 51, 0, 0, 0, 0, 0, 0, 0, 3, 0, 0, 0, 31, 0, 0, 0, 36, 0, 0, 0, 41, 0, 0, 0, 46]
abbrev dktX4_line_1 : List UInt8 := dkwX4_line_1 ++ dktX4_line_2
def dkwX4_line_0 : List UInt8 := [27]
abbrev dktX4_line_0 : List UInt8 := dkwX4_line_0 ++ dktX4_line_1
theorem dksX4_line_0 : cX4_line.data.toList.drop 0 = dktX4_line_0 := by decide +kernel
theorem dksX4_line_1 : cX4_line.data.toList.drop 1 = dktX4_line_1 := dk_seg dksX4_line_0 1 rfl rfl
theorem dksX4_line_2 : cX4_line.data.toList.drop 32 = dktX4_line_2 := dk_seg dksX4_line_1 31 rfl rfl
theorem dksX4_line_3 : cX4_line.data.toList.drop 56 = dktX4_line_3 := dk_seg dksX4_line_2 24 rfl rfl
theorem dksX4_line_4 : cX4_line.data.toList.drop 80 = dktX4_line_4 := dk_seg dksX4_line_3 24 rfl rfl
theorem dksX4_line_5 : cX4_line.data.toList.drop 104 = dktX4_line_5 := dk_seg dksX4_line_4 24 rfl rfl
theorem dX4_line_0 : decode cX4_line 0 = .ok (.iload_n 1, 1) := dk_27 (dk_at dksX4_line_0 0 rfl rfl)
theorem dX4_line_1 : decode cX4_line 1 = .ok (.tableswitch 51 0 3 #[31, 36, 41, 46], 31) := by decide +kernel
theorem dX4_line_32 : decode cX4_line 32 = .ok (.aload_n 0, 1) := dk_42 (dk_at dksX4_line_2 0 rfl rfl)
theorem dX4_line_33 : decode cX4_line 33 = .ok (.invokevirtual 153, 3) := dk_182 0 153 (dk_at dksX4_line_2 1 rfl rfl)
theorem dX4_line_36 : decode cX4_line 36 = .ok (.return_, 1) := dk_177 (dk_at dksX4_line_2 4 rfl rfl)
theorem dX4_line_37 : decode cX4_line 37 = .ok (.aload_n 0, 1) := dk_42 (dk_at dksX4_line_2 5 rfl rfl)
theorem dX4_line_38 : decode cX4_line 38 = .ok (.invokevirtual 156, 3) := dk_182 0 156 (dk_at dksX4_line_2 6 rfl rfl)
theorem dX4_line_41 : decode cX4_line 41 = .ok (.return_, 1) := dk_177 (dk_at dksX4_line_2 9 rfl rfl)
theorem dX4_line_42 : decode cX4_line 42 = .ok (.aload_n 0, 1) := dk_42 (dk_at dksX4_line_2 10 rfl rfl)
theorem dX4_line_43 : decode cX4_line 43 = .ok (.invokevirtual 159, 3) := dk_182 0 159 (dk_at dksX4_line_2 11 rfl rfl)
theorem dX4_line_46 : decode cX4_line 46 = .ok (.return_, 1) := dk_177 (dk_at dksX4_line_2 14 rfl rfl)
theorem dX4_line_47 : decode cX4_line 47 = .ok (.aload_n 0, 1) := dk_42 (dk_at dksX4_line_2 15 rfl rfl)
theorem dX4_line_48 : decode cX4_line 48 = .ok (.invokevirtual 162, 3) := dk_182 0 162 (dk_at dksX4_line_2 16 rfl rfl)
theorem dX4_line_51 : decode cX4_line 51 = .ok (.return_, 1) := dk_177 (dk_at dksX4_line_2 19 rfl rfl)
theorem dX4_line_52 : decode cX4_line 52 = .ok (.aload_n 0, 1) := dk_42 (dk_at dksX4_line_2 20 rfl rfl)
theorem dX4_line_53 : decode cX4_line 53 = .ok (.getfield 26, 3) := dk_180 0 26 (dk_at dksX4_line_2 21 rfl rfl)
theorem dX4_line_56 : decode cX4_line 56 = .ok (.getfield 165, 3) := dk_180 0 165 (dk_at dksX4_line_3 0 rfl rfl)
theorem dX4_line_59 : decode cX4_line 59 = .ok (.aload_n 0, 1) := dk_42 (dk_at dksX4_line_3 3 rfl rfl)
theorem dX4_line_60 : decode cX4_line 60 = .ok (.getfield 26, 3) := dk_180 0 26 (dk_at dksX4_line_3 4 rfl rfl)
theorem dX4_line_63 : decode cX4_line 63 = .ok (.getfield 107, 3) := dk_180 0 107 (dk_at dksX4_line_3 7 rfl rfl)
theorem dX4_line_66 : decode cX4_line 66 = .ok (.aload_n 0, 1) := dk_42 (dk_at dksX4_line_3 10 rfl rfl)
theorem dX4_line_67 : decode cX4_line 67 = .ok (.iconst 0, 1) := dk_3 (dk_at dksX4_line_3 11 rfl rfl)
theorem dX4_line_68 : decode cX4_line 68 = .ok (.aload_n 0, 1) := dk_42 (dk_at dksX4_line_3 12 rfl rfl)
theorem dX4_line_69 : decode cX4_line 69 = .ok (.getfield 26, 3) := dk_180 0 26 (dk_at dksX4_line_3 13 rfl rfl)
theorem dX4_line_72 : decode cX4_line 72 = .ok (.getfield 93, 3) := dk_180 0 93 (dk_at dksX4_line_3 16 rfl rfl)
theorem dX4_line_75 : decode cX4_line 75 = .ok (.iconst 1, 1) := dk_4 (dk_at dksX4_line_3 19 rfl rfl)
theorem dX4_line_76 : decode cX4_line 76 = .ok (.isub, 1) := dk_100 (dk_at dksX4_line_3 20 rfl rfl)
theorem dX4_line_77 : decode cX4_line 77 = .ok (.invokevirtual 110, 3) := dk_182 0 110 (dk_at dksX4_line_3 21 rfl rfl)
theorem dX4_line_80 : decode cX4_line 80 = .ok (.iastore, 1) := dk_79 (dk_at dksX4_line_4 0 rfl rfl)
theorem dX4_line_81 : decode cX4_line 81 = .ok (.aload_n 0, 1) := dk_42 (dk_at dksX4_line_4 1 rfl rfl)
theorem dX4_line_82 : decode cX4_line 82 = .ok (.getfield 26, 3) := dk_180 0 26 (dk_at dksX4_line_4 2 rfl rfl)
theorem dX4_line_85 : decode cX4_line 85 = .ok (.getfield 168, 3) := dk_180 0 168 (dk_at dksX4_line_4 5 rfl rfl)
theorem dX4_line_88 : decode cX4_line 88 = .ok (.aload_n 0, 1) := dk_42 (dk_at dksX4_line_4 8 rfl rfl)
theorem dX4_line_89 : decode cX4_line 89 = .ok (.getfield 26, 3) := dk_180 0 26 (dk_at dksX4_line_4 9 rfl rfl)
theorem dX4_line_92 : decode cX4_line 92 = .ok (.getfield 107, 3) := dk_180 0 107 (dk_at dksX4_line_4 12 rfl rfl)
theorem dX4_line_95 : decode cX4_line 95 = .ok (.aload_n 0, 1) := dk_42 (dk_at dksX4_line_4 15 rfl rfl)
theorem dX4_line_96 : decode cX4_line 96 = .ok (.iconst 1, 1) := dk_4 (dk_at dksX4_line_4 16 rfl rfl)
theorem dX4_line_97 : decode cX4_line 97 = .ok (.bipush 99, 2) := dk_16 99 (dk_at dksX4_line_4 17 rfl rfl)
theorem dX4_line_99 : decode cX4_line 99 = .ok (.invokevirtual 110, 3) := dk_182 0 110 (dk_at dksX4_line_4 19 rfl rfl)
theorem dX4_line_102 : decode cX4_line 102 = .ok (.iastore, 1) := dk_79 (dk_at dksX4_line_4 22 rfl rfl)
theorem dX4_line_103 : decode cX4_line 103 = .ok (.aload_n 0, 1) := dk_42 (dk_at dksX4_line_4 23 rfl rfl)
theorem dX4_line_104 : decode cX4_line 104 = .ok (.getfield 26, 3) := dk_180 0 26 (dk_at dksX4_line_5 0 rfl rfl)
theorem dX4_line_107 : decode cX4_line 107 = .ok (.dup, 1) := dk_89 (dk_at dksX4_line_5 3 rfl rfl)
theorem dX4_line_108 : decode cX4_line 108 = .ok (.getfield 107, 3) := dk_180 0 107 (dk_at dksX4_line_5 4 rfl rfl)
theorem dX4_line_111 : decode cX4_line 111 = .ok (.iconst 1, 1) := dk_4 (dk_at dksX4_line_5 7 rfl rfl)
theorem dX4_line_112 : decode cX4_line 112 = .ok (.iadd, 1) := dk_96 (dk_at dksX4_line_5 8 rfl rfl)
theorem dX4_line_113 : decode cX4_line 113 = .ok (.putfield 107, 3) := dk_181 0 107 (dk_at dksX4_line_5 9 rfl rfl)
theorem dX4_line_116 : decode cX4_line 116 = .ok (.return_, 1) := dk_177 (dk_at dksX4_line_5 12 rfl rfl)
abbrev cX4_factsHere : ByteArray := prog_16_method_15_code
def yX4_factsHere : MethodName := ⟨RX4, "factsHere", "()V"⟩
def dkwX4_factsHere_1 : List UInt8 := [120, 4, 100, 182, 0, 110, 181, 0, 114, 42, 180, 0, 26, 16, 6, 182, 0, 117, 177]
abbrev dktX4_factsHere_1 : List UInt8 := dkwX4_factsHere_1 ++ []
def dkwX4_factsHere_0 : List UInt8 := [42, 4, 16, 8, 182, 0, 110, 60, 42, 180, 0, 26, 27, 181, 0, 93, 42, 180, 0, 26, 42, 3, 4, 27]
abbrev dktX4_factsHere_0 : List UInt8 := dkwX4_factsHere_0 ++ dktX4_factsHere_1
theorem dksX4_factsHere_0 : cX4_factsHere.data.toList.drop 0 = dktX4_factsHere_0 := by decide +kernel
theorem dksX4_factsHere_1 : cX4_factsHere.data.toList.drop 24 = dktX4_factsHere_1 := dk_seg dksX4_factsHere_0 24 rfl rfl
theorem dX4_factsHere_0 : decode cX4_factsHere 0 = .ok (.aload_n 0, 1) := dk_42 (dk_at dksX4_factsHere_0 0 rfl rfl)
theorem dX4_factsHere_1 : decode cX4_factsHere 1 = .ok (.iconst 1, 1) := dk_4 (dk_at dksX4_factsHere_0 1 rfl rfl)
theorem dX4_factsHere_2 : decode cX4_factsHere 2 = .ok (.bipush 8, 2) := dk_16 8 (dk_at dksX4_factsHere_0 2 rfl rfl)
theorem dX4_factsHere_4 : decode cX4_factsHere 4 = .ok (.invokevirtual 110, 3) := dk_182 0 110 (dk_at dksX4_factsHere_0 4 rfl rfl)
theorem dX4_factsHere_7 : decode cX4_factsHere 7 = .ok (.istore_n 1, 1) := dk_60 (dk_at dksX4_factsHere_0 7 rfl rfl)
theorem dX4_factsHere_8 : decode cX4_factsHere 8 = .ok (.aload_n 0, 1) := dk_42 (dk_at dksX4_factsHere_0 8 rfl rfl)
theorem dX4_factsHere_9 : decode cX4_factsHere 9 = .ok (.getfield 26, 3) := dk_180 0 26 (dk_at dksX4_factsHere_0 9 rfl rfl)
theorem dX4_factsHere_12 : decode cX4_factsHere 12 = .ok (.iload_n 1, 1) := dk_27 (dk_at dksX4_factsHere_0 12 rfl rfl)
theorem dX4_factsHere_13 : decode cX4_factsHere 13 = .ok (.putfield 93, 3) := dk_181 0 93 (dk_at dksX4_factsHere_0 13 rfl rfl)
theorem dX4_factsHere_16 : decode cX4_factsHere 16 = .ok (.aload_n 0, 1) := dk_42 (dk_at dksX4_factsHere_0 16 rfl rfl)
theorem dX4_factsHere_17 : decode cX4_factsHere 17 = .ok (.getfield 26, 3) := dk_180 0 26 (dk_at dksX4_factsHere_0 17 rfl rfl)
theorem dX4_factsHere_20 : decode cX4_factsHere 20 = .ok (.aload_n 0, 1) := dk_42 (dk_at dksX4_factsHere_0 20 rfl rfl)
theorem dX4_factsHere_21 : decode cX4_factsHere 21 = .ok (.iconst 0, 1) := dk_3 (dk_at dksX4_factsHere_0 21 rfl rfl)
theorem dX4_factsHere_22 : decode cX4_factsHere 22 = .ok (.iconst 1, 1) := dk_4 (dk_at dksX4_factsHere_0 22 rfl rfl)
theorem dX4_factsHere_23 : decode cX4_factsHere 23 = .ok (.iload_n 1, 1) := dk_27 (dk_at dksX4_factsHere_0 23 rfl rfl)
theorem dX4_factsHere_24 : decode cX4_factsHere 24 = .ok (.ishl, 1) := dk_120 (dk_at dksX4_factsHere_1 0 rfl rfl)
theorem dX4_factsHere_25 : decode cX4_factsHere 25 = .ok (.iconst 1, 1) := dk_4 (dk_at dksX4_factsHere_1 1 rfl rfl)
theorem dX4_factsHere_26 : decode cX4_factsHere 26 = .ok (.isub, 1) := dk_100 (dk_at dksX4_factsHere_1 2 rfl rfl)
theorem dX4_factsHere_27 : decode cX4_factsHere 27 = .ok (.invokevirtual 110, 3) := dk_182 0 110 (dk_at dksX4_factsHere_1 3 rfl rfl)
theorem dX4_factsHere_30 : decode cX4_factsHere 30 = .ok (.putfield 114, 3) := dk_181 0 114 (dk_at dksX4_factsHere_1 6 rfl rfl)
theorem dX4_factsHere_33 : decode cX4_factsHere 33 = .ok (.aload_n 0, 1) := dk_42 (dk_at dksX4_factsHere_1 9 rfl rfl)
theorem dX4_factsHere_34 : decode cX4_factsHere 34 = .ok (.getfield 26, 3) := dk_180 0 26 (dk_at dksX4_factsHere_1 10 rfl rfl)
theorem dX4_factsHere_37 : decode cX4_factsHere 37 = .ok (.bipush 6, 2) := dk_16 6 (dk_at dksX4_factsHere_1 13 rfl rfl)
theorem dX4_factsHere_39 : decode cX4_factsHere 39 = .ok (.invokevirtual 117, 3) := dk_182 0 117 (dk_at dksX4_factsHere_1 15 rfl rfl)
theorem dX4_factsHere_42 : decode cX4_factsHere 42 = .ok (.return_, 1) := dk_177 (dk_at dksX4_factsHere_1 18 rfl rfl)
abbrev cX4_number : ByteArray := prog_16_method_10_code
def yX4_number : MethodName := ⟨RX4, "number", "(II)I"⟩
def dkwX4_number_4 : List UInt8 := [133, 27, 133, 28, 133, 184, 0, 80, 153, 0, 7, 4, 167, 0, 4, 3, 4, 29, 182, 0, 76, 21, 4, 172]
abbrev dktX4_number_4 : List UInt8 := dkwX4_number_4 ++ []
def dkwX4_number_3 : List UInt8 := [180, 0, 42, 4, 96, 181, 0, 42, 167, 255, 202, 42, 42, 180, 0, 42, 29, 100, 8, 163, 0, 20, 21, 4]
abbrev dktX4_number_3 : List UInt8 := dkwX4_number_3 ++ dktX4_number_4
def dkwX4_number_2 : List UInt8 := [21, 4, 104, 42, 180, 0, 3, 180, 0, 48, 42, 180, 0, 42, 51, 96, 16, 48, 100, 54, 4, 42, 89]
abbrev dktX4_number_2 : List UInt8 := dkwX4_number_2 ++ dktX4_number_3
def dkwX4_number_1 : List UInt8 := [42, 42, 180, 0, 42, 182, 0, 72, 153, 0, 49, 42, 180, 0, 42, 29, 100, 8, 162, 0, 26, 16, 10]
abbrev dktX4_number_1 : List UInt8 := dkwX4_number_1 ++ dktX4_number_2
def dkwX4_number_0 : List UInt8 := [42, 182, 0, 52, 87, 42, 180, 0, 42, 62, 42, 42, 29, 182, 0, 72, 3, 29, 182, 0, 76, 3, 54, 4]
abbrev dktX4_number_0 : List UInt8 := dkwX4_number_0 ++ dktX4_number_1
theorem dksX4_number_0 : cX4_number.data.toList.drop 0 = dktX4_number_0 := by decide +kernel
theorem dksX4_number_1 : cX4_number.data.toList.drop 24 = dktX4_number_1 := dk_seg dksX4_number_0 24 rfl rfl
theorem dksX4_number_2 : cX4_number.data.toList.drop 47 = dktX4_number_2 := dk_seg dksX4_number_1 23 rfl rfl
theorem dksX4_number_3 : cX4_number.data.toList.drop 70 = dktX4_number_3 := dk_seg dksX4_number_2 23 rfl rfl
theorem dksX4_number_4 : cX4_number.data.toList.drop 94 = dktX4_number_4 := dk_seg dksX4_number_3 24 rfl rfl
theorem dX4_number_0 : decode cX4_number 0 = .ok (.aload_n 0, 1) := dk_42 (dk_at dksX4_number_0 0 rfl rfl)
theorem dX4_number_1 : decode cX4_number 1 = .ok (.invokevirtual 52, 3) := dk_182 0 52 (dk_at dksX4_number_0 1 rfl rfl)
theorem dX4_number_4 : decode cX4_number 4 = .ok (.pop, 1) := dk_87 (dk_at dksX4_number_0 4 rfl rfl)
theorem dX4_number_5 : decode cX4_number 5 = .ok (.aload_n 0, 1) := dk_42 (dk_at dksX4_number_0 5 rfl rfl)
theorem dX4_number_6 : decode cX4_number 6 = .ok (.getfield 42, 3) := dk_180 0 42 (dk_at dksX4_number_0 6 rfl rfl)
theorem dX4_number_9 : decode cX4_number 9 = .ok (.istore_n 3, 1) := dk_62 (dk_at dksX4_number_0 9 rfl rfl)
theorem dX4_number_10 : decode cX4_number 10 = .ok (.aload_n 0, 1) := dk_42 (dk_at dksX4_number_0 10 rfl rfl)
theorem dX4_number_11 : decode cX4_number 11 = .ok (.aload_n 0, 1) := dk_42 (dk_at dksX4_number_0 11 rfl rfl)
theorem dX4_number_12 : decode cX4_number 12 = .ok (.iload_n 3, 1) := dk_29 (dk_at dksX4_number_0 12 rfl rfl)
theorem dX4_number_13 : decode cX4_number 13 = .ok (.invokevirtual 72, 3) := dk_182 0 72 (dk_at dksX4_number_0 13 rfl rfl)
theorem dX4_number_16 : decode cX4_number 16 = .ok (.iconst 0, 1) := dk_3 (dk_at dksX4_number_0 16 rfl rfl)
theorem dX4_number_17 : decode cX4_number 17 = .ok (.iload_n 3, 1) := dk_29 (dk_at dksX4_number_0 17 rfl rfl)
theorem dX4_number_18 : decode cX4_number 18 = .ok (.invokevirtual 76, 3) := dk_182 0 76 (dk_at dksX4_number_0 18 rfl rfl)
theorem dX4_number_21 : decode cX4_number 21 = .ok (.iconst 0, 1) := dk_3 (dk_at dksX4_number_0 21 rfl rfl)
theorem dX4_number_22 : decode cX4_number 22 = .ok (.istore 4, 2) := dk_54 4 (dk_at dksX4_number_0 22 rfl rfl)
theorem dX4_number_24 : decode cX4_number 24 = .ok (.aload_n 0, 1) := dk_42 (dk_at dksX4_number_1 0 rfl rfl)
theorem dX4_number_25 : decode cX4_number 25 = .ok (.aload_n 0, 1) := dk_42 (dk_at dksX4_number_1 1 rfl rfl)
theorem dX4_number_26 : decode cX4_number 26 = .ok (.getfield 42, 3) := dk_180 0 42 (dk_at dksX4_number_1 2 rfl rfl)
theorem dX4_number_29 : decode cX4_number 29 = .ok (.invokevirtual 72, 3) := dk_182 0 72 (dk_at dksX4_number_1 5 rfl rfl)
theorem dX4_number_32 : decode cX4_number 32 = .ok (.ifCond .eq 49, 3) := dk_153 0 49 (dk_at dksX4_number_1 8 rfl rfl)
theorem dX4_number_35 : decode cX4_number 35 = .ok (.aload_n 0, 1) := dk_42 (dk_at dksX4_number_1 11 rfl rfl)
theorem dX4_number_36 : decode cX4_number 36 = .ok (.getfield 42, 3) := dk_180 0 42 (dk_at dksX4_number_1 12 rfl rfl)
theorem dX4_number_39 : decode cX4_number 39 = .ok (.iload_n 3, 1) := dk_29 (dk_at dksX4_number_1 15 rfl rfl)
theorem dX4_number_40 : decode cX4_number 40 = .ok (.isub, 1) := dk_100 (dk_at dksX4_number_1 16 rfl rfl)
theorem dX4_number_41 : decode cX4_number 41 = .ok (.iconst 5, 1) := dk_8 (dk_at dksX4_number_1 17 rfl rfl)
theorem dX4_number_42 : decode cX4_number 42 = .ok (.if_icmp .ge 26, 3) := dk_162 0 26 (dk_at dksX4_number_1 18 rfl rfl)
theorem dX4_number_45 : decode cX4_number 45 = .ok (.bipush 10, 2) := dk_16 10 (dk_at dksX4_number_1 21 rfl rfl)
theorem dX4_number_47 : decode cX4_number 47 = .ok (.iload 4, 2) := dk_21 4 (dk_at dksX4_number_2 0 rfl rfl)
theorem dX4_number_49 : decode cX4_number 49 = .ok (.imul, 1) := dk_104 (dk_at dksX4_number_2 2 rfl rfl)
theorem dX4_number_50 : decode cX4_number 50 = .ok (.aload_n 0, 1) := dk_42 (dk_at dksX4_number_2 3 rfl rfl)
theorem dX4_number_51 : decode cX4_number 51 = .ok (.getfield 3, 3) := dk_180 0 3 (dk_at dksX4_number_2 4 rfl rfl)
theorem dX4_number_54 : decode cX4_number 54 = .ok (.getfield 48, 3) := dk_180 0 48 (dk_at dksX4_number_2 7 rfl rfl)
theorem dX4_number_57 : decode cX4_number 57 = .ok (.aload_n 0, 1) := dk_42 (dk_at dksX4_number_2 10 rfl rfl)
theorem dX4_number_58 : decode cX4_number 58 = .ok (.getfield 42, 3) := dk_180 0 42 (dk_at dksX4_number_2 11 rfl rfl)
theorem dX4_number_61 : decode cX4_number 61 = .ok (.baload, 1) := dk_51 (dk_at dksX4_number_2 14 rfl rfl)
theorem dX4_number_62 : decode cX4_number 62 = .ok (.iadd, 1) := dk_96 (dk_at dksX4_number_2 15 rfl rfl)
theorem dX4_number_63 : decode cX4_number 63 = .ok (.bipush 48, 2) := dk_16 48 (dk_at dksX4_number_2 16 rfl rfl)
theorem dX4_number_65 : decode cX4_number 65 = .ok (.isub, 1) := dk_100 (dk_at dksX4_number_2 18 rfl rfl)
theorem dX4_number_66 : decode cX4_number 66 = .ok (.istore 4, 2) := dk_54 4 (dk_at dksX4_number_2 19 rfl rfl)
theorem dX4_number_68 : decode cX4_number 68 = .ok (.aload_n 0, 1) := dk_42 (dk_at dksX4_number_2 21 rfl rfl)
theorem dX4_number_69 : decode cX4_number 69 = .ok (.dup, 1) := dk_89 (dk_at dksX4_number_2 22 rfl rfl)
theorem dX4_number_70 : decode cX4_number 70 = .ok (.getfield 42, 3) := dk_180 0 42 (dk_at dksX4_number_3 0 rfl rfl)
theorem dX4_number_73 : decode cX4_number 73 = .ok (.iconst 1, 1) := dk_4 (dk_at dksX4_number_3 3 rfl rfl)
theorem dX4_number_74 : decode cX4_number 74 = .ok (.iadd, 1) := dk_96 (dk_at dksX4_number_3 4 rfl rfl)
theorem dX4_number_75 : decode cX4_number 75 = .ok (.putfield 42, 3) := dk_181 0 42 (dk_at dksX4_number_3 5 rfl rfl)
theorem dX4_number_78 : decode cX4_number 78 = .ok (.goto (-54), 3) := dk_167 255 202 (dk_at dksX4_number_3 8 rfl rfl)
theorem dX4_number_81 : decode cX4_number 81 = .ok (.aload_n 0, 1) := dk_42 (dk_at dksX4_number_3 11 rfl rfl)
theorem dX4_number_82 : decode cX4_number 82 = .ok (.aload_n 0, 1) := dk_42 (dk_at dksX4_number_3 12 rfl rfl)
theorem dX4_number_83 : decode cX4_number 83 = .ok (.getfield 42, 3) := dk_180 0 42 (dk_at dksX4_number_3 13 rfl rfl)
theorem dX4_number_86 : decode cX4_number 86 = .ok (.iload_n 3, 1) := dk_29 (dk_at dksX4_number_3 16 rfl rfl)
theorem dX4_number_87 : decode cX4_number 87 = .ok (.isub, 1) := dk_100 (dk_at dksX4_number_3 17 rfl rfl)
theorem dX4_number_88 : decode cX4_number 88 = .ok (.iconst 5, 1) := dk_8 (dk_at dksX4_number_3 18 rfl rfl)
theorem dX4_number_89 : decode cX4_number 89 = .ok (.if_icmp .gt 20, 3) := dk_163 0 20 (dk_at dksX4_number_3 19 rfl rfl)
theorem dX4_number_92 : decode cX4_number 92 = .ok (.iload 4, 2) := dk_21 4 (dk_at dksX4_number_3 22 rfl rfl)
theorem dX4_number_94 : decode cX4_number 94 = .ok (.i2l, 1) := dk_133 (dk_at dksX4_number_4 0 rfl rfl)
theorem dX4_number_95 : decode cX4_number 95 = .ok (.iload_n 1, 1) := dk_27 (dk_at dksX4_number_4 1 rfl rfl)
theorem dX4_number_96 : decode cX4_number 96 = .ok (.i2l, 1) := dk_133 (dk_at dksX4_number_4 2 rfl rfl)
theorem dX4_number_97 : decode cX4_number 97 = .ok (.iload_n 2, 1) := dk_28 (dk_at dksX4_number_4 3 rfl rfl)
theorem dX4_number_98 : decode cX4_number 98 = .ok (.i2l, 1) := dk_133 (dk_at dksX4_number_4 4 rfl rfl)
theorem dX4_number_99 : decode cX4_number 99 = .ok (.invokestatic 80, 3) := dk_184 0 80 (dk_at dksX4_number_4 5 rfl rfl)
theorem dX4_number_102 : decode cX4_number 102 = .ok (.ifCond .eq 7, 3) := dk_153 0 7 (dk_at dksX4_number_4 8 rfl rfl)
theorem dX4_number_105 : decode cX4_number 105 = .ok (.iconst 1, 1) := dk_4 (dk_at dksX4_number_4 11 rfl rfl)
theorem dX4_number_106 : decode cX4_number 106 = .ok (.goto 4, 3) := dk_167 0 4 (dk_at dksX4_number_4 12 rfl rfl)
theorem dX4_number_109 : decode cX4_number 109 = .ok (.iconst 0, 1) := dk_3 (dk_at dksX4_number_4 15 rfl rfl)
theorem dX4_number_110 : decode cX4_number 110 = .ok (.iconst 1, 1) := dk_4 (dk_at dksX4_number_4 16 rfl rfl)
theorem dX4_number_111 : decode cX4_number 111 = .ok (.iload_n 3, 1) := dk_29 (dk_at dksX4_number_4 17 rfl rfl)
theorem dX4_number_112 : decode cX4_number 112 = .ok (.invokevirtual 76, 3) := dk_182 0 76 (dk_at dksX4_number_4 18 rfl rfl)
theorem dX4_number_115 : decode cX4_number 115 = .ok (.iload 4, 2) := dk_21 4 (dk_at dksX4_number_4 21 rfl rfl)
theorem dX4_number_117 : decode cX4_number 117 = .ok (.ireturn, 1) := dk_172 (dk_at dksX4_number_4 23 rfl rfl)
abbrev cX4_isDigit : ByteArray := prog_16_method_9_code
def yX4_isDigit : MethodName := ⟨RX4, "isDigit", "(I)Z"⟩
def dkwX4_isDigit_1 : List UInt8 := [161, 0, 21, 42, 180, 0, 3, 180, 0, 48, 27, 51, 16, 57, 163, 0, 7, 4, 167, 0, 4, 3, 172]
abbrev dktX4_isDigit_1 : List UInt8 := dkwX4_isDigit_1 ++ []
def dkwX4_isDigit_0 : List UInt8 := [27, 42, 180, 0, 3, 180, 0, 45, 162, 0, 35, 42, 180, 0, 3, 180, 0, 48, 27, 51, 16, 48]
abbrev dktX4_isDigit_0 : List UInt8 := dkwX4_isDigit_0 ++ dktX4_isDigit_1
theorem dksX4_isDigit_0 : cX4_isDigit.data.toList.drop 0 = dktX4_isDigit_0 := by decide +kernel
theorem dksX4_isDigit_1 : cX4_isDigit.data.toList.drop 22 = dktX4_isDigit_1 := dk_seg dksX4_isDigit_0 22 rfl rfl
theorem dX4_isDigit_0 : decode cX4_isDigit 0 = .ok (.iload_n 1, 1) := dk_27 (dk_at dksX4_isDigit_0 0 rfl rfl)
theorem dX4_isDigit_1 : decode cX4_isDigit 1 = .ok (.aload_n 0, 1) := dk_42 (dk_at dksX4_isDigit_0 1 rfl rfl)
theorem dX4_isDigit_2 : decode cX4_isDigit 2 = .ok (.getfield 3, 3) := dk_180 0 3 (dk_at dksX4_isDigit_0 2 rfl rfl)
theorem dX4_isDigit_5 : decode cX4_isDigit 5 = .ok (.getfield 45, 3) := dk_180 0 45 (dk_at dksX4_isDigit_0 5 rfl rfl)
theorem dX4_isDigit_8 : decode cX4_isDigit 8 = .ok (.if_icmp .ge 35, 3) := dk_162 0 35 (dk_at dksX4_isDigit_0 8 rfl rfl)
theorem dX4_isDigit_11 : decode cX4_isDigit 11 = .ok (.aload_n 0, 1) := dk_42 (dk_at dksX4_isDigit_0 11 rfl rfl)
theorem dX4_isDigit_12 : decode cX4_isDigit 12 = .ok (.getfield 3, 3) := dk_180 0 3 (dk_at dksX4_isDigit_0 12 rfl rfl)
theorem dX4_isDigit_15 : decode cX4_isDigit 15 = .ok (.getfield 48, 3) := dk_180 0 48 (dk_at dksX4_isDigit_0 15 rfl rfl)
theorem dX4_isDigit_18 : decode cX4_isDigit 18 = .ok (.iload_n 1, 1) := dk_27 (dk_at dksX4_isDigit_0 18 rfl rfl)
theorem dX4_isDigit_19 : decode cX4_isDigit 19 = .ok (.baload, 1) := dk_51 (dk_at dksX4_isDigit_0 19 rfl rfl)
theorem dX4_isDigit_20 : decode cX4_isDigit 20 = .ok (.bipush 48, 2) := dk_16 48 (dk_at dksX4_isDigit_0 20 rfl rfl)
theorem dX4_isDigit_22 : decode cX4_isDigit 22 = .ok (.if_icmp .lt 21, 3) := dk_161 0 21 (dk_at dksX4_isDigit_1 0 rfl rfl)
theorem dX4_isDigit_25 : decode cX4_isDigit 25 = .ok (.aload_n 0, 1) := dk_42 (dk_at dksX4_isDigit_1 3 rfl rfl)
theorem dX4_isDigit_26 : decode cX4_isDigit 26 = .ok (.getfield 3, 3) := dk_180 0 3 (dk_at dksX4_isDigit_1 4 rfl rfl)
theorem dX4_isDigit_29 : decode cX4_isDigit 29 = .ok (.getfield 48, 3) := dk_180 0 48 (dk_at dksX4_isDigit_1 7 rfl rfl)
theorem dX4_isDigit_32 : decode cX4_isDigit 32 = .ok (.iload_n 1, 1) := dk_27 (dk_at dksX4_isDigit_1 10 rfl rfl)
theorem dX4_isDigit_33 : decode cX4_isDigit 33 = .ok (.baload, 1) := dk_51 (dk_at dksX4_isDigit_1 11 rfl rfl)
theorem dX4_isDigit_34 : decode cX4_isDigit 34 = .ok (.bipush 57, 2) := dk_16 57 (dk_at dksX4_isDigit_1 12 rfl rfl)
theorem dX4_isDigit_36 : decode cX4_isDigit 36 = .ok (.if_icmp .gt 7, 3) := dk_163 0 7 (dk_at dksX4_isDigit_1 14 rfl rfl)
theorem dX4_isDigit_39 : decode cX4_isDigit 39 = .ok (.iconst 1, 1) := dk_4 (dk_at dksX4_isDigit_1 17 rfl rfl)
theorem dX4_isDigit_40 : decode cX4_isDigit 40 = .ok (.goto 4, 3) := dk_167 0 4 (dk_at dksX4_isDigit_1 18 rfl rfl)
theorem dX4_isDigit_43 : decode cX4_isDigit 43 = .ok (.iconst 0, 1) := dk_3 (dk_at dksX4_isDigit_1 21 rfl rfl)
theorem dX4_isDigit_44 : decode cX4_isDigit 44 = .ok (.ireturn, 1) := dk_172 (dk_at dksX4_isDigit_1 22 rfl rfl)
abbrev cX4_personHere : ByteArray := prog_16_method_16_code
def yX4_personHere : MethodName := ⟨RX4, "personHere", "()V"⟩
def dkwX4_personHere_5 : List UInt8 := [180, 0, 26, 89, 180, 0, 98, 4, 96, 181, 0, 98, 177]
abbrev dktX4_personHere_5 : List UInt8 := dkwX4_personHere_5 ++ []
def dkwX4_personHere_4 : List UInt8 := [184, 0, 134, 153, 0, 12, 42, 180, 0, 26, 27, 29, 182, 0, 138, 132, 3, 1, 167, 255, 225, 42]
abbrev dktX4_personHere_4 : List UInt8 := dkwX4_personHere_4 ++ dktX4_personHere_5
def dkwX4_personHere_3 : List UInt8 := [79, 42, 180, 0, 26, 27, 182, 0, 117, 3, 62, 29, 42, 180, 0, 26, 180, 0, 93, 162, 0, 26, 28, 29]
abbrev dktX4_personHere_3 : List UInt8 := dkwX4_personHere_3 ++ dktX4_personHere_4
def dkwX4_personHere_2 : List UInt8 := [182, 0, 128, 4, 100, 182, 0, 110, 61, 42, 180, 0, 26, 180, 0, 131, 27, 42, 3, 16, 99, 182, 0, 110]
abbrev dktX4_personHere_2 : List UInt8 := dkwX4_personHere_2 ++ dktX4_personHere_3
def dkwX4_personHere_1 : List UInt8 := [180, 0, 26, 180, 0, 125, 27, 42, 4, 17, 0, 128, 182, 0, 110, 79, 42, 3, 42, 180, 0, 26]
abbrev dktX4_personHere_1 : List UInt8 := dkwX4_personHere_1 ++ dktX4_personHere_2
def dkwX4_personHere_0 : List UInt8 := [42, 180, 0, 26, 180, 0, 98, 60, 42, 180, 0, 26, 180, 0, 121, 27, 42, 3, 4, 182, 0, 110, 79, 42]
abbrev dktX4_personHere_0 : List UInt8 := dkwX4_personHere_0 ++ dktX4_personHere_1
theorem dksX4_personHere_0 : cX4_personHere.data.toList.drop 0 = dktX4_personHere_0 := by decide +kernel
theorem dksX4_personHere_1 : cX4_personHere.data.toList.drop 24 = dktX4_personHere_1 := dk_seg dksX4_personHere_0 24 rfl rfl
theorem dksX4_personHere_2 : cX4_personHere.data.toList.drop 46 = dktX4_personHere_2 := dk_seg dksX4_personHere_1 22 rfl rfl
theorem dksX4_personHere_3 : cX4_personHere.data.toList.drop 70 = dktX4_personHere_3 := dk_seg dksX4_personHere_2 24 rfl rfl
theorem dksX4_personHere_4 : cX4_personHere.data.toList.drop 94 = dktX4_personHere_4 := dk_seg dksX4_personHere_3 24 rfl rfl
theorem dksX4_personHere_5 : cX4_personHere.data.toList.drop 116 = dktX4_personHere_5 := dk_seg dksX4_personHere_4 22 rfl rfl
theorem dX4_personHere_0 : decode cX4_personHere 0 = .ok (.aload_n 0, 1) := dk_42 (dk_at dksX4_personHere_0 0 rfl rfl)
theorem dX4_personHere_1 : decode cX4_personHere 1 = .ok (.getfield 26, 3) := dk_180 0 26 (dk_at dksX4_personHere_0 1 rfl rfl)
theorem dX4_personHere_4 : decode cX4_personHere 4 = .ok (.getfield 98, 3) := dk_180 0 98 (dk_at dksX4_personHere_0 4 rfl rfl)
theorem dX4_personHere_7 : decode cX4_personHere 7 = .ok (.istore_n 1, 1) := dk_60 (dk_at dksX4_personHere_0 7 rfl rfl)
theorem dX4_personHere_8 : decode cX4_personHere 8 = .ok (.aload_n 0, 1) := dk_42 (dk_at dksX4_personHere_0 8 rfl rfl)
theorem dX4_personHere_9 : decode cX4_personHere 9 = .ok (.getfield 26, 3) := dk_180 0 26 (dk_at dksX4_personHere_0 9 rfl rfl)
theorem dX4_personHere_12 : decode cX4_personHere 12 = .ok (.getfield 121, 3) := dk_180 0 121 (dk_at dksX4_personHere_0 12 rfl rfl)
theorem dX4_personHere_15 : decode cX4_personHere 15 = .ok (.iload_n 1, 1) := dk_27 (dk_at dksX4_personHere_0 15 rfl rfl)
theorem dX4_personHere_16 : decode cX4_personHere 16 = .ok (.aload_n 0, 1) := dk_42 (dk_at dksX4_personHere_0 16 rfl rfl)
theorem dX4_personHere_17 : decode cX4_personHere 17 = .ok (.iconst 0, 1) := dk_3 (dk_at dksX4_personHere_0 17 rfl rfl)
theorem dX4_personHere_18 : decode cX4_personHere 18 = .ok (.iconst 1, 1) := dk_4 (dk_at dksX4_personHere_0 18 rfl rfl)
theorem dX4_personHere_19 : decode cX4_personHere 19 = .ok (.invokevirtual 110, 3) := dk_182 0 110 (dk_at dksX4_personHere_0 19 rfl rfl)
theorem dX4_personHere_22 : decode cX4_personHere 22 = .ok (.iastore, 1) := dk_79 (dk_at dksX4_personHere_0 22 rfl rfl)
theorem dX4_personHere_23 : decode cX4_personHere 23 = .ok (.aload_n 0, 1) := dk_42 (dk_at dksX4_personHere_0 23 rfl rfl)
theorem dX4_personHere_24 : decode cX4_personHere 24 = .ok (.getfield 26, 3) := dk_180 0 26 (dk_at dksX4_personHere_1 0 rfl rfl)
theorem dX4_personHere_27 : decode cX4_personHere 27 = .ok (.getfield 125, 3) := dk_180 0 125 (dk_at dksX4_personHere_1 3 rfl rfl)
theorem dX4_personHere_30 : decode cX4_personHere 30 = .ok (.iload_n 1, 1) := dk_27 (dk_at dksX4_personHere_1 6 rfl rfl)
theorem dX4_personHere_31 : decode cX4_personHere 31 = .ok (.aload_n 0, 1) := dk_42 (dk_at dksX4_personHere_1 7 rfl rfl)
theorem dX4_personHere_32 : decode cX4_personHere 32 = .ok (.iconst 1, 1) := dk_4 (dk_at dksX4_personHere_1 8 rfl rfl)
theorem dX4_personHere_33 : decode cX4_personHere 33 = .ok (.sipush 128, 3) := dk_17 0 128 (dk_at dksX4_personHere_1 9 rfl rfl)
theorem dX4_personHere_36 : decode cX4_personHere 36 = .ok (.invokevirtual 110, 3) := dk_182 0 110 (dk_at dksX4_personHere_1 12 rfl rfl)
theorem dX4_personHere_39 : decode cX4_personHere 39 = .ok (.iastore, 1) := dk_79 (dk_at dksX4_personHere_1 15 rfl rfl)
theorem dX4_personHere_40 : decode cX4_personHere 40 = .ok (.aload_n 0, 1) := dk_42 (dk_at dksX4_personHere_1 16 rfl rfl)
theorem dX4_personHere_41 : decode cX4_personHere 41 = .ok (.iconst 0, 1) := dk_3 (dk_at dksX4_personHere_1 17 rfl rfl)
theorem dX4_personHere_42 : decode cX4_personHere 42 = .ok (.aload_n 0, 1) := dk_42 (dk_at dksX4_personHere_1 18 rfl rfl)
theorem dX4_personHere_43 : decode cX4_personHere 43 = .ok (.getfield 26, 3) := dk_180 0 26 (dk_at dksX4_personHere_1 19 rfl rfl)
theorem dX4_personHere_46 : decode cX4_personHere 46 = .ok (.invokevirtual 128, 3) := dk_182 0 128 (dk_at dksX4_personHere_2 0 rfl rfl)
theorem dX4_personHere_49 : decode cX4_personHere 49 = .ok (.iconst 1, 1) := dk_4 (dk_at dksX4_personHere_2 3 rfl rfl)
theorem dX4_personHere_50 : decode cX4_personHere 50 = .ok (.isub, 1) := dk_100 (dk_at dksX4_personHere_2 4 rfl rfl)
theorem dX4_personHere_51 : decode cX4_personHere 51 = .ok (.invokevirtual 110, 3) := dk_182 0 110 (dk_at dksX4_personHere_2 5 rfl rfl)
theorem dX4_personHere_54 : decode cX4_personHere 54 = .ok (.istore_n 2, 1) := dk_61 (dk_at dksX4_personHere_2 8 rfl rfl)
theorem dX4_personHere_55 : decode cX4_personHere 55 = .ok (.aload_n 0, 1) := dk_42 (dk_at dksX4_personHere_2 9 rfl rfl)
theorem dX4_personHere_56 : decode cX4_personHere 56 = .ok (.getfield 26, 3) := dk_180 0 26 (dk_at dksX4_personHere_2 10 rfl rfl)
theorem dX4_personHere_59 : decode cX4_personHere 59 = .ok (.getfield 131, 3) := dk_180 0 131 (dk_at dksX4_personHere_2 13 rfl rfl)
theorem dX4_personHere_62 : decode cX4_personHere 62 = .ok (.iload_n 1, 1) := dk_27 (dk_at dksX4_personHere_2 16 rfl rfl)
theorem dX4_personHere_63 : decode cX4_personHere 63 = .ok (.aload_n 0, 1) := dk_42 (dk_at dksX4_personHere_2 17 rfl rfl)
theorem dX4_personHere_64 : decode cX4_personHere 64 = .ok (.iconst 0, 1) := dk_3 (dk_at dksX4_personHere_2 18 rfl rfl)
theorem dX4_personHere_65 : decode cX4_personHere 65 = .ok (.bipush 99, 2) := dk_16 99 (dk_at dksX4_personHere_2 19 rfl rfl)
theorem dX4_personHere_67 : decode cX4_personHere 67 = .ok (.invokevirtual 110, 3) := dk_182 0 110 (dk_at dksX4_personHere_2 21 rfl rfl)
theorem dX4_personHere_70 : decode cX4_personHere 70 = .ok (.iastore, 1) := dk_79 (dk_at dksX4_personHere_3 0 rfl rfl)
theorem dX4_personHere_71 : decode cX4_personHere 71 = .ok (.aload_n 0, 1) := dk_42 (dk_at dksX4_personHere_3 1 rfl rfl)
theorem dX4_personHere_72 : decode cX4_personHere 72 = .ok (.getfield 26, 3) := dk_180 0 26 (dk_at dksX4_personHere_3 2 rfl rfl)
theorem dX4_personHere_75 : decode cX4_personHere 75 = .ok (.iload_n 1, 1) := dk_27 (dk_at dksX4_personHere_3 5 rfl rfl)
theorem dX4_personHere_76 : decode cX4_personHere 76 = .ok (.invokevirtual 117, 3) := dk_182 0 117 (dk_at dksX4_personHere_3 6 rfl rfl)
theorem dX4_personHere_79 : decode cX4_personHere 79 = .ok (.iconst 0, 1) := dk_3 (dk_at dksX4_personHere_3 9 rfl rfl)
theorem dX4_personHere_80 : decode cX4_personHere 80 = .ok (.istore_n 3, 1) := dk_62 (dk_at dksX4_personHere_3 10 rfl rfl)
theorem dX4_personHere_81 : decode cX4_personHere 81 = .ok (.iload_n 3, 1) := dk_29 (dk_at dksX4_personHere_3 11 rfl rfl)
theorem dX4_personHere_82 : decode cX4_personHere 82 = .ok (.aload_n 0, 1) := dk_42 (dk_at dksX4_personHere_3 12 rfl rfl)
theorem dX4_personHere_83 : decode cX4_personHere 83 = .ok (.getfield 26, 3) := dk_180 0 26 (dk_at dksX4_personHere_3 13 rfl rfl)
theorem dX4_personHere_86 : decode cX4_personHere 86 = .ok (.getfield 93, 3) := dk_180 0 93 (dk_at dksX4_personHere_3 16 rfl rfl)
theorem dX4_personHere_89 : decode cX4_personHere 89 = .ok (.if_icmp .ge 26, 3) := dk_162 0 26 (dk_at dksX4_personHere_3 19 rfl rfl)
theorem dX4_personHere_92 : decode cX4_personHere 92 = .ok (.iload_n 2, 1) := dk_28 (dk_at dksX4_personHere_3 22 rfl rfl)
theorem dX4_personHere_93 : decode cX4_personHere 93 = .ok (.iload_n 3, 1) := dk_29 (dk_at dksX4_personHere_3 23 rfl rfl)
theorem dX4_personHere_94 : decode cX4_personHere 94 = .ok (.invokestatic 134, 3) := dk_184 0 134 (dk_at dksX4_personHere_4 0 rfl rfl)
theorem dX4_personHere_97 : decode cX4_personHere 97 = .ok (.ifCond .eq 12, 3) := dk_153 0 12 (dk_at dksX4_personHere_4 3 rfl rfl)
theorem dX4_personHere_100 : decode cX4_personHere 100 = .ok (.aload_n 0, 1) := dk_42 (dk_at dksX4_personHere_4 6 rfl rfl)
theorem dX4_personHere_101 : decode cX4_personHere 101 = .ok (.getfield 26, 3) := dk_180 0 26 (dk_at dksX4_personHere_4 7 rfl rfl)
theorem dX4_personHere_104 : decode cX4_personHere 104 = .ok (.iload_n 1, 1) := dk_27 (dk_at dksX4_personHere_4 10 rfl rfl)
theorem dX4_personHere_105 : decode cX4_personHere 105 = .ok (.iload_n 3, 1) := dk_29 (dk_at dksX4_personHere_4 11 rfl rfl)
theorem dX4_personHere_106 : decode cX4_personHere 106 = .ok (.invokevirtual 138, 3) := dk_182 0 138 (dk_at dksX4_personHere_4 12 rfl rfl)
theorem dX4_personHere_109 : decode cX4_personHere 109 = .ok (.iinc 3 1, 3) := dk_132 3 1 (dk_at dksX4_personHere_4 15 rfl rfl)
theorem dX4_personHere_112 : decode cX4_personHere 112 = .ok (.goto (-31), 3) := dk_167 255 225 (dk_at dksX4_personHere_4 18 rfl rfl)
theorem dX4_personHere_115 : decode cX4_personHere 115 = .ok (.aload_n 0, 1) := dk_42 (dk_at dksX4_personHere_4 21 rfl rfl)
theorem dX4_personHere_116 : decode cX4_personHere 116 = .ok (.getfield 26, 3) := dk_180 0 26 (dk_at dksX4_personHere_5 0 rfl rfl)
theorem dX4_personHere_119 : decode cX4_personHere 119 = .ok (.dup, 1) := dk_89 (dk_at dksX4_personHere_5 3 rfl rfl)
theorem dX4_personHere_120 : decode cX4_personHere 120 = .ok (.getfield 98, 3) := dk_180 0 98 (dk_at dksX4_personHere_5 4 rfl rfl)
theorem dX4_personHere_123 : decode cX4_personHere 123 = .ok (.iconst 1, 1) := dk_4 (dk_at dksX4_personHere_5 7 rfl rfl)
theorem dX4_personHere_124 : decode cX4_personHere 124 = .ok (.iadd, 1) := dk_96 (dk_at dksX4_personHere_5 8 rfl rfl)
theorem dX4_personHere_125 : decode cX4_personHere 125 = .ok (.putfield 98, 3) := dk_181 0 98 (dk_at dksX4_personHere_5 9 rfl rfl)
theorem dX4_personHere_128 : decode cX4_personHere 128 = .ok (.return_, 1) := dk_177 (dk_at dksX4_personHere_5 12 rfl rfl)
abbrev cX4_placeHere : ByteArray := prog_16_method_17_code
def yX4_placeHere : MethodName := ⟨RX4, "placeHere", "()V"⟩
def dkwX4_placeHere_4 : List UInt8 := [132, 2, 1, 167, 255, 196, 42, 180, 0, 26, 89, 180, 0, 101, 4, 96, 181, 0, 101, 177]
abbrev dktX4_placeHere_4 : List UInt8 := dkwX4_placeHere_4 ++ []
def dkwX4_placeHere_3 : List UInt8 := [180, 0, 145, 16, 6, 28, 104, 27, 96, 28, 27, 160, 0, 7, 3, 167, 0, 6, 17, 39, 15, 79]
abbrev dktX4_placeHere_3 : List UInt8 := dkwX4_placeHere_3 ++ dktX4_placeHere_4
def dkwX4_placeHere_2 : List UInt8 := [16, 6, 27, 104, 28, 96, 28, 27, 160, 0, 7, 3, 167, 0, 6, 17, 39, 15, 79, 42, 180, 0, 26]
abbrev dktX4_placeHere_2 : List UInt8 := dkwX4_placeHere_2 ++ dktX4_placeHere_3
def dkwX4_placeHere_1 : List UInt8 := [180, 0, 93, 4, 100, 182, 0, 110, 79, 3, 61, 28, 27, 163, 0, 61, 42, 180, 0, 26, 180, 0, 145]
abbrev dktX4_placeHere_1 : List UInt8 := dkwX4_placeHere_1 ++ dktX4_placeHere_2
def dkwX4_placeHere_0 : List UInt8 := [42, 180, 0, 26, 180, 0, 101, 60, 42, 180, 0, 26, 180, 0, 142, 27, 42, 3, 42, 180, 0, 26]
abbrev dktX4_placeHere_0 : List UInt8 := dkwX4_placeHere_0 ++ dktX4_placeHere_1
theorem dksX4_placeHere_0 : cX4_placeHere.data.toList.drop 0 = dktX4_placeHere_0 := by decide +kernel
theorem dksX4_placeHere_1 : cX4_placeHere.data.toList.drop 22 = dktX4_placeHere_1 := dk_seg dksX4_placeHere_0 22 rfl rfl
theorem dksX4_placeHere_2 : cX4_placeHere.data.toList.drop 45 = dktX4_placeHere_2 := dk_seg dksX4_placeHere_1 23 rfl rfl
theorem dksX4_placeHere_3 : cX4_placeHere.data.toList.drop 68 = dktX4_placeHere_3 := dk_seg dksX4_placeHere_2 23 rfl rfl
theorem dksX4_placeHere_4 : cX4_placeHere.data.toList.drop 90 = dktX4_placeHere_4 := dk_seg dksX4_placeHere_3 22 rfl rfl
theorem dX4_placeHere_0 : decode cX4_placeHere 0 = .ok (.aload_n 0, 1) := dk_42 (dk_at dksX4_placeHere_0 0 rfl rfl)
theorem dX4_placeHere_1 : decode cX4_placeHere 1 = .ok (.getfield 26, 3) := dk_180 0 26 (dk_at dksX4_placeHere_0 1 rfl rfl)
theorem dX4_placeHere_4 : decode cX4_placeHere 4 = .ok (.getfield 101, 3) := dk_180 0 101 (dk_at dksX4_placeHere_0 4 rfl rfl)
theorem dX4_placeHere_7 : decode cX4_placeHere 7 = .ok (.istore_n 1, 1) := dk_60 (dk_at dksX4_placeHere_0 7 rfl rfl)
theorem dX4_placeHere_8 : decode cX4_placeHere 8 = .ok (.aload_n 0, 1) := dk_42 (dk_at dksX4_placeHere_0 8 rfl rfl)
theorem dX4_placeHere_9 : decode cX4_placeHere 9 = .ok (.getfield 26, 3) := dk_180 0 26 (dk_at dksX4_placeHere_0 9 rfl rfl)
theorem dX4_placeHere_12 : decode cX4_placeHere 12 = .ok (.getfield 142, 3) := dk_180 0 142 (dk_at dksX4_placeHere_0 12 rfl rfl)
theorem dX4_placeHere_15 : decode cX4_placeHere 15 = .ok (.iload_n 1, 1) := dk_27 (dk_at dksX4_placeHere_0 15 rfl rfl)
theorem dX4_placeHere_16 : decode cX4_placeHere 16 = .ok (.aload_n 0, 1) := dk_42 (dk_at dksX4_placeHere_0 16 rfl rfl)
theorem dX4_placeHere_17 : decode cX4_placeHere 17 = .ok (.iconst 0, 1) := dk_3 (dk_at dksX4_placeHere_0 17 rfl rfl)
theorem dX4_placeHere_18 : decode cX4_placeHere 18 = .ok (.aload_n 0, 1) := dk_42 (dk_at dksX4_placeHere_0 18 rfl rfl)
theorem dX4_placeHere_19 : decode cX4_placeHere 19 = .ok (.getfield 26, 3) := dk_180 0 26 (dk_at dksX4_placeHere_0 19 rfl rfl)
theorem dX4_placeHere_22 : decode cX4_placeHere 22 = .ok (.getfield 93, 3) := dk_180 0 93 (dk_at dksX4_placeHere_1 0 rfl rfl)
theorem dX4_placeHere_25 : decode cX4_placeHere 25 = .ok (.iconst 1, 1) := dk_4 (dk_at dksX4_placeHere_1 3 rfl rfl)
theorem dX4_placeHere_26 : decode cX4_placeHere 26 = .ok (.isub, 1) := dk_100 (dk_at dksX4_placeHere_1 4 rfl rfl)
theorem dX4_placeHere_27 : decode cX4_placeHere 27 = .ok (.invokevirtual 110, 3) := dk_182 0 110 (dk_at dksX4_placeHere_1 5 rfl rfl)
theorem dX4_placeHere_30 : decode cX4_placeHere 30 = .ok (.iastore, 1) := dk_79 (dk_at dksX4_placeHere_1 8 rfl rfl)
theorem dX4_placeHere_31 : decode cX4_placeHere 31 = .ok (.iconst 0, 1) := dk_3 (dk_at dksX4_placeHere_1 9 rfl rfl)
theorem dX4_placeHere_32 : decode cX4_placeHere 32 = .ok (.istore_n 2, 1) := dk_61 (dk_at dksX4_placeHere_1 10 rfl rfl)
theorem dX4_placeHere_33 : decode cX4_placeHere 33 = .ok (.iload_n 2, 1) := dk_28 (dk_at dksX4_placeHere_1 11 rfl rfl)
theorem dX4_placeHere_34 : decode cX4_placeHere 34 = .ok (.iload_n 1, 1) := dk_27 (dk_at dksX4_placeHere_1 12 rfl rfl)
theorem dX4_placeHere_35 : decode cX4_placeHere 35 = .ok (.if_icmp .gt 61, 3) := dk_163 0 61 (dk_at dksX4_placeHere_1 13 rfl rfl)
theorem dX4_placeHere_38 : decode cX4_placeHere 38 = .ok (.aload_n 0, 1) := dk_42 (dk_at dksX4_placeHere_1 16 rfl rfl)
theorem dX4_placeHere_39 : decode cX4_placeHere 39 = .ok (.getfield 26, 3) := dk_180 0 26 (dk_at dksX4_placeHere_1 17 rfl rfl)
theorem dX4_placeHere_42 : decode cX4_placeHere 42 = .ok (.getfield 145, 3) := dk_180 0 145 (dk_at dksX4_placeHere_1 20 rfl rfl)
theorem dX4_placeHere_45 : decode cX4_placeHere 45 = .ok (.bipush 6, 2) := dk_16 6 (dk_at dksX4_placeHere_2 0 rfl rfl)
theorem dX4_placeHere_47 : decode cX4_placeHere 47 = .ok (.iload_n 1, 1) := dk_27 (dk_at dksX4_placeHere_2 2 rfl rfl)
theorem dX4_placeHere_48 : decode cX4_placeHere 48 = .ok (.imul, 1) := dk_104 (dk_at dksX4_placeHere_2 3 rfl rfl)
theorem dX4_placeHere_49 : decode cX4_placeHere 49 = .ok (.iload_n 2, 1) := dk_28 (dk_at dksX4_placeHere_2 4 rfl rfl)
theorem dX4_placeHere_50 : decode cX4_placeHere 50 = .ok (.iadd, 1) := dk_96 (dk_at dksX4_placeHere_2 5 rfl rfl)
theorem dX4_placeHere_51 : decode cX4_placeHere 51 = .ok (.iload_n 2, 1) := dk_28 (dk_at dksX4_placeHere_2 6 rfl rfl)
theorem dX4_placeHere_52 : decode cX4_placeHere 52 = .ok (.iload_n 1, 1) := dk_27 (dk_at dksX4_placeHere_2 7 rfl rfl)
theorem dX4_placeHere_53 : decode cX4_placeHere 53 = .ok (.if_icmp .ne 7, 3) := dk_160 0 7 (dk_at dksX4_placeHere_2 8 rfl rfl)
theorem dX4_placeHere_56 : decode cX4_placeHere 56 = .ok (.iconst 0, 1) := dk_3 (dk_at dksX4_placeHere_2 11 rfl rfl)
theorem dX4_placeHere_57 : decode cX4_placeHere 57 = .ok (.goto 6, 3) := dk_167 0 6 (dk_at dksX4_placeHere_2 12 rfl rfl)
theorem dX4_placeHere_60 : decode cX4_placeHere 60 = .ok (.sipush 9999, 3) := dk_17 39 15 (dk_at dksX4_placeHere_2 15 rfl rfl)
theorem dX4_placeHere_63 : decode cX4_placeHere 63 = .ok (.iastore, 1) := dk_79 (dk_at dksX4_placeHere_2 18 rfl rfl)
theorem dX4_placeHere_64 : decode cX4_placeHere 64 = .ok (.aload_n 0, 1) := dk_42 (dk_at dksX4_placeHere_2 19 rfl rfl)
theorem dX4_placeHere_65 : decode cX4_placeHere 65 = .ok (.getfield 26, 3) := dk_180 0 26 (dk_at dksX4_placeHere_2 20 rfl rfl)
theorem dX4_placeHere_68 : decode cX4_placeHere 68 = .ok (.getfield 145, 3) := dk_180 0 145 (dk_at dksX4_placeHere_3 0 rfl rfl)
theorem dX4_placeHere_71 : decode cX4_placeHere 71 = .ok (.bipush 6, 2) := dk_16 6 (dk_at dksX4_placeHere_3 3 rfl rfl)
theorem dX4_placeHere_73 : decode cX4_placeHere 73 = .ok (.iload_n 2, 1) := dk_28 (dk_at dksX4_placeHere_3 5 rfl rfl)
theorem dX4_placeHere_74 : decode cX4_placeHere 74 = .ok (.imul, 1) := dk_104 (dk_at dksX4_placeHere_3 6 rfl rfl)
theorem dX4_placeHere_75 : decode cX4_placeHere 75 = .ok (.iload_n 1, 1) := dk_27 (dk_at dksX4_placeHere_3 7 rfl rfl)
theorem dX4_placeHere_76 : decode cX4_placeHere 76 = .ok (.iadd, 1) := dk_96 (dk_at dksX4_placeHere_3 8 rfl rfl)
theorem dX4_placeHere_77 : decode cX4_placeHere 77 = .ok (.iload_n 2, 1) := dk_28 (dk_at dksX4_placeHere_3 9 rfl rfl)
theorem dX4_placeHere_78 : decode cX4_placeHere 78 = .ok (.iload_n 1, 1) := dk_27 (dk_at dksX4_placeHere_3 10 rfl rfl)
theorem dX4_placeHere_79 : decode cX4_placeHere 79 = .ok (.if_icmp .ne 7, 3) := dk_160 0 7 (dk_at dksX4_placeHere_3 11 rfl rfl)
theorem dX4_placeHere_82 : decode cX4_placeHere 82 = .ok (.iconst 0, 1) := dk_3 (dk_at dksX4_placeHere_3 14 rfl rfl)
theorem dX4_placeHere_83 : decode cX4_placeHere 83 = .ok (.goto 6, 3) := dk_167 0 6 (dk_at dksX4_placeHere_3 15 rfl rfl)
theorem dX4_placeHere_86 : decode cX4_placeHere 86 = .ok (.sipush 9999, 3) := dk_17 39 15 (dk_at dksX4_placeHere_3 18 rfl rfl)
theorem dX4_placeHere_89 : decode cX4_placeHere 89 = .ok (.iastore, 1) := dk_79 (dk_at dksX4_placeHere_3 21 rfl rfl)
theorem dX4_placeHere_90 : decode cX4_placeHere 90 = .ok (.iinc 2 1, 3) := dk_132 2 1 (dk_at dksX4_placeHere_4 0 rfl rfl)
theorem dX4_placeHere_93 : decode cX4_placeHere 93 = .ok (.goto (-60), 3) := dk_167 255 196 (dk_at dksX4_placeHere_4 3 rfl rfl)
theorem dX4_placeHere_96 : decode cX4_placeHere 96 = .ok (.aload_n 0, 1) := dk_42 (dk_at dksX4_placeHere_4 6 rfl rfl)
theorem dX4_placeHere_97 : decode cX4_placeHere 97 = .ok (.getfield 26, 3) := dk_180 0 26 (dk_at dksX4_placeHere_4 7 rfl rfl)
theorem dX4_placeHere_100 : decode cX4_placeHere 100 = .ok (.dup, 1) := dk_89 (dk_at dksX4_placeHere_4 10 rfl rfl)
theorem dX4_placeHere_101 : decode cX4_placeHere 101 = .ok (.getfield 101, 3) := dk_180 0 101 (dk_at dksX4_placeHere_4 11 rfl rfl)
theorem dX4_placeHere_104 : decode cX4_placeHere 104 = .ok (.iconst 1, 1) := dk_4 (dk_at dksX4_placeHere_4 14 rfl rfl)
theorem dX4_placeHere_105 : decode cX4_placeHere 105 = .ok (.iadd, 1) := dk_96 (dk_at dksX4_placeHere_4 15 rfl rfl)
theorem dX4_placeHere_106 : decode cX4_placeHere 106 = .ok (.putfield 101, 3) := dk_181 0 101 (dk_at dksX4_placeHere_4 16 rfl rfl)
theorem dX4_placeHere_109 : decode cX4_placeHere 109 = .ok (.return_, 1) := dk_177 (dk_at dksX4_placeHere_4 19 rfl rfl)
abbrev cX4_pathHere : ByteArray := prog_16_method_18_code
def yX4_pathHere : MethodName := ⟨RX4, "pathHere", "()V"⟩
def dkwX4_pathHere_6 : List UInt8 := [177]
abbrev dktX4_pathHere_6 : List UInt8 := dkwX4_pathHere_6 ++ []
def dkwX4_pathHere_5 : List UInt8 := [180, 0, 145, 16, 6, 27, 104, 29, 96, 46, 79, 42, 180, 0, 26, 89, 180, 0, 104, 4, 96, 181, 0, 104]
abbrev dktX4_pathHere_5 : List UInt8 := dkwX4_pathHere_5 ++ dktX4_pathHere_6
def dkwX4_pathHere_4 : List UInt8 := [46, 184, 0, 148, 79, 42, 180, 0, 26, 180, 0, 145, 16, 6, 29, 104, 27, 96, 42, 180, 0, 26]
abbrev dktX4_pathHere_4 : List UInt8 := dkwX4_pathHere_4 ++ dktX4_pathHere_5
def dkwX4_pathHere_3 : List UInt8 := [180, 0, 145, 16, 6, 27, 104, 29, 96, 21, 4, 42, 180, 0, 26, 180, 0, 145, 16, 6, 27, 104, 29, 96]
abbrev dktX4_pathHere_3 : List UInt8 := dkwX4_pathHere_3 ++ dktX4_pathHere_4
def dkwX4_pathHere_2 : List UInt8 := [167, 0, 4, 3, 4, 28, 182, 0, 76, 42, 4, 16, 9, 182, 0, 110, 54, 4, 42, 180, 0, 26]
abbrev dktX4_pathHere_2 : List UInt8 := dkwX4_pathHere_2 ++ dktX4_pathHere_3
def dkwX4_pathHere_1 : List UInt8 := [61, 42, 3, 42, 180, 0, 26, 180, 0, 101, 4, 100, 182, 0, 110, 62, 42, 27, 29, 159, 0, 7, 4]
abbrev dktX4_pathHere_1 : List UInt8 := dkwX4_pathHere_1 ++ dktX4_pathHere_2
def dkwX4_pathHere_0 : List UInt8 := [42, 3, 42, 180, 0, 26, 180, 0, 101, 4, 100, 182, 0, 110, 60, 42, 182, 0, 52, 87, 42, 180, 0, 42]
abbrev dktX4_pathHere_0 : List UInt8 := dkwX4_pathHere_0 ++ dktX4_pathHere_1
theorem dksX4_pathHere_0 : cX4_pathHere.data.toList.drop 0 = dktX4_pathHere_0 := by decide +kernel
theorem dksX4_pathHere_1 : cX4_pathHere.data.toList.drop 24 = dktX4_pathHere_1 := dk_seg dksX4_pathHere_0 24 rfl rfl
theorem dksX4_pathHere_2 : cX4_pathHere.data.toList.drop 47 = dktX4_pathHere_2 := dk_seg dksX4_pathHere_1 23 rfl rfl
theorem dksX4_pathHere_3 : cX4_pathHere.data.toList.drop 69 = dktX4_pathHere_3 := dk_seg dksX4_pathHere_2 22 rfl rfl
theorem dksX4_pathHere_4 : cX4_pathHere.data.toList.drop 93 = dktX4_pathHere_4 := dk_seg dksX4_pathHere_3 24 rfl rfl
theorem dksX4_pathHere_5 : cX4_pathHere.data.toList.drop 115 = dktX4_pathHere_5 := dk_seg dksX4_pathHere_4 22 rfl rfl
theorem dksX4_pathHere_6 : cX4_pathHere.data.toList.drop 139 = dktX4_pathHere_6 := dk_seg dksX4_pathHere_5 24 rfl rfl
theorem dX4_pathHere_0 : decode cX4_pathHere 0 = .ok (.aload_n 0, 1) := dk_42 (dk_at dksX4_pathHere_0 0 rfl rfl)
theorem dX4_pathHere_1 : decode cX4_pathHere 1 = .ok (.iconst 0, 1) := dk_3 (dk_at dksX4_pathHere_0 1 rfl rfl)
theorem dX4_pathHere_2 : decode cX4_pathHere 2 = .ok (.aload_n 0, 1) := dk_42 (dk_at dksX4_pathHere_0 2 rfl rfl)
theorem dX4_pathHere_3 : decode cX4_pathHere 3 = .ok (.getfield 26, 3) := dk_180 0 26 (dk_at dksX4_pathHere_0 3 rfl rfl)
theorem dX4_pathHere_6 : decode cX4_pathHere 6 = .ok (.getfield 101, 3) := dk_180 0 101 (dk_at dksX4_pathHere_0 6 rfl rfl)
theorem dX4_pathHere_9 : decode cX4_pathHere 9 = .ok (.iconst 1, 1) := dk_4 (dk_at dksX4_pathHere_0 9 rfl rfl)
theorem dX4_pathHere_10 : decode cX4_pathHere 10 = .ok (.isub, 1) := dk_100 (dk_at dksX4_pathHere_0 10 rfl rfl)
theorem dX4_pathHere_11 : decode cX4_pathHere 11 = .ok (.invokevirtual 110, 3) := dk_182 0 110 (dk_at dksX4_pathHere_0 11 rfl rfl)
theorem dX4_pathHere_14 : decode cX4_pathHere 14 = .ok (.istore_n 1, 1) := dk_60 (dk_at dksX4_pathHere_0 14 rfl rfl)
theorem dX4_pathHere_15 : decode cX4_pathHere 15 = .ok (.aload_n 0, 1) := dk_42 (dk_at dksX4_pathHere_0 15 rfl rfl)
theorem dX4_pathHere_16 : decode cX4_pathHere 16 = .ok (.invokevirtual 52, 3) := dk_182 0 52 (dk_at dksX4_pathHere_0 16 rfl rfl)
theorem dX4_pathHere_19 : decode cX4_pathHere 19 = .ok (.pop, 1) := dk_87 (dk_at dksX4_pathHere_0 19 rfl rfl)
theorem dX4_pathHere_20 : decode cX4_pathHere 20 = .ok (.aload_n 0, 1) := dk_42 (dk_at dksX4_pathHere_0 20 rfl rfl)
theorem dX4_pathHere_21 : decode cX4_pathHere 21 = .ok (.getfield 42, 3) := dk_180 0 42 (dk_at dksX4_pathHere_0 21 rfl rfl)
theorem dX4_pathHere_24 : decode cX4_pathHere 24 = .ok (.istore_n 2, 1) := dk_61 (dk_at dksX4_pathHere_1 0 rfl rfl)
theorem dX4_pathHere_25 : decode cX4_pathHere 25 = .ok (.aload_n 0, 1) := dk_42 (dk_at dksX4_pathHere_1 1 rfl rfl)
theorem dX4_pathHere_26 : decode cX4_pathHere 26 = .ok (.iconst 0, 1) := dk_3 (dk_at dksX4_pathHere_1 2 rfl rfl)
theorem dX4_pathHere_27 : decode cX4_pathHere 27 = .ok (.aload_n 0, 1) := dk_42 (dk_at dksX4_pathHere_1 3 rfl rfl)
theorem dX4_pathHere_28 : decode cX4_pathHere 28 = .ok (.getfield 26, 3) := dk_180 0 26 (dk_at dksX4_pathHere_1 4 rfl rfl)
theorem dX4_pathHere_31 : decode cX4_pathHere 31 = .ok (.getfield 101, 3) := dk_180 0 101 (dk_at dksX4_pathHere_1 7 rfl rfl)
theorem dX4_pathHere_34 : decode cX4_pathHere 34 = .ok (.iconst 1, 1) := dk_4 (dk_at dksX4_pathHere_1 10 rfl rfl)
theorem dX4_pathHere_35 : decode cX4_pathHere 35 = .ok (.isub, 1) := dk_100 (dk_at dksX4_pathHere_1 11 rfl rfl)
theorem dX4_pathHere_36 : decode cX4_pathHere 36 = .ok (.invokevirtual 110, 3) := dk_182 0 110 (dk_at dksX4_pathHere_1 12 rfl rfl)
theorem dX4_pathHere_39 : decode cX4_pathHere 39 = .ok (.istore_n 3, 1) := dk_62 (dk_at dksX4_pathHere_1 15 rfl rfl)
theorem dX4_pathHere_40 : decode cX4_pathHere 40 = .ok (.aload_n 0, 1) := dk_42 (dk_at dksX4_pathHere_1 16 rfl rfl)
theorem dX4_pathHere_41 : decode cX4_pathHere 41 = .ok (.iload_n 1, 1) := dk_27 (dk_at dksX4_pathHere_1 17 rfl rfl)
theorem dX4_pathHere_42 : decode cX4_pathHere 42 = .ok (.iload_n 3, 1) := dk_29 (dk_at dksX4_pathHere_1 18 rfl rfl)
theorem dX4_pathHere_43 : decode cX4_pathHere 43 = .ok (.if_icmp .eq 7, 3) := dk_159 0 7 (dk_at dksX4_pathHere_1 19 rfl rfl)
theorem dX4_pathHere_46 : decode cX4_pathHere 46 = .ok (.iconst 1, 1) := dk_4 (dk_at dksX4_pathHere_1 22 rfl rfl)
theorem dX4_pathHere_47 : decode cX4_pathHere 47 = .ok (.goto 4, 3) := dk_167 0 4 (dk_at dksX4_pathHere_2 0 rfl rfl)
theorem dX4_pathHere_50 : decode cX4_pathHere 50 = .ok (.iconst 0, 1) := dk_3 (dk_at dksX4_pathHere_2 3 rfl rfl)
theorem dX4_pathHere_51 : decode cX4_pathHere 51 = .ok (.iconst 1, 1) := dk_4 (dk_at dksX4_pathHere_2 4 rfl rfl)
theorem dX4_pathHere_52 : decode cX4_pathHere 52 = .ok (.iload_n 2, 1) := dk_28 (dk_at dksX4_pathHere_2 5 rfl rfl)
theorem dX4_pathHere_53 : decode cX4_pathHere 53 = .ok (.invokevirtual 76, 3) := dk_182 0 76 (dk_at dksX4_pathHere_2 6 rfl rfl)
theorem dX4_pathHere_56 : decode cX4_pathHere 56 = .ok (.aload_n 0, 1) := dk_42 (dk_at dksX4_pathHere_2 9 rfl rfl)
theorem dX4_pathHere_57 : decode cX4_pathHere 57 = .ok (.iconst 1, 1) := dk_4 (dk_at dksX4_pathHere_2 10 rfl rfl)
theorem dX4_pathHere_58 : decode cX4_pathHere 58 = .ok (.bipush 9, 2) := dk_16 9 (dk_at dksX4_pathHere_2 11 rfl rfl)
theorem dX4_pathHere_60 : decode cX4_pathHere 60 = .ok (.invokevirtual 110, 3) := dk_182 0 110 (dk_at dksX4_pathHere_2 13 rfl rfl)
theorem dX4_pathHere_63 : decode cX4_pathHere 63 = .ok (.istore 4, 2) := dk_54 4 (dk_at dksX4_pathHere_2 16 rfl rfl)
theorem dX4_pathHere_65 : decode cX4_pathHere 65 = .ok (.aload_n 0, 1) := dk_42 (dk_at dksX4_pathHere_2 18 rfl rfl)
theorem dX4_pathHere_66 : decode cX4_pathHere 66 = .ok (.getfield 26, 3) := dk_180 0 26 (dk_at dksX4_pathHere_2 19 rfl rfl)
theorem dX4_pathHere_69 : decode cX4_pathHere 69 = .ok (.getfield 145, 3) := dk_180 0 145 (dk_at dksX4_pathHere_3 0 rfl rfl)
theorem dX4_pathHere_72 : decode cX4_pathHere 72 = .ok (.bipush 6, 2) := dk_16 6 (dk_at dksX4_pathHere_3 3 rfl rfl)
theorem dX4_pathHere_74 : decode cX4_pathHere 74 = .ok (.iload_n 1, 1) := dk_27 (dk_at dksX4_pathHere_3 5 rfl rfl)
theorem dX4_pathHere_75 : decode cX4_pathHere 75 = .ok (.imul, 1) := dk_104 (dk_at dksX4_pathHere_3 6 rfl rfl)
theorem dX4_pathHere_76 : decode cX4_pathHere 76 = .ok (.iload_n 3, 1) := dk_29 (dk_at dksX4_pathHere_3 7 rfl rfl)
theorem dX4_pathHere_77 : decode cX4_pathHere 77 = .ok (.iadd, 1) := dk_96 (dk_at dksX4_pathHere_3 8 rfl rfl)
theorem dX4_pathHere_78 : decode cX4_pathHere 78 = .ok (.iload 4, 2) := dk_21 4 (dk_at dksX4_pathHere_3 9 rfl rfl)
theorem dX4_pathHere_80 : decode cX4_pathHere 80 = .ok (.aload_n 0, 1) := dk_42 (dk_at dksX4_pathHere_3 11 rfl rfl)
theorem dX4_pathHere_81 : decode cX4_pathHere 81 = .ok (.getfield 26, 3) := dk_180 0 26 (dk_at dksX4_pathHere_3 12 rfl rfl)
theorem dX4_pathHere_84 : decode cX4_pathHere 84 = .ok (.getfield 145, 3) := dk_180 0 145 (dk_at dksX4_pathHere_3 15 rfl rfl)
theorem dX4_pathHere_87 : decode cX4_pathHere 87 = .ok (.bipush 6, 2) := dk_16 6 (dk_at dksX4_pathHere_3 18 rfl rfl)
theorem dX4_pathHere_89 : decode cX4_pathHere 89 = .ok (.iload_n 1, 1) := dk_27 (dk_at dksX4_pathHere_3 20 rfl rfl)
theorem dX4_pathHere_90 : decode cX4_pathHere 90 = .ok (.imul, 1) := dk_104 (dk_at dksX4_pathHere_3 21 rfl rfl)
theorem dX4_pathHere_91 : decode cX4_pathHere 91 = .ok (.iload_n 3, 1) := dk_29 (dk_at dksX4_pathHere_3 22 rfl rfl)
theorem dX4_pathHere_92 : decode cX4_pathHere 92 = .ok (.iadd, 1) := dk_96 (dk_at dksX4_pathHere_3 23 rfl rfl)
theorem dX4_pathHere_93 : decode cX4_pathHere 93 = .ok (.iaload, 1) := dk_46 (dk_at dksX4_pathHere_4 0 rfl rfl)
theorem dX4_pathHere_94 : decode cX4_pathHere 94 = .ok (.invokestatic 148, 3) := dk_184 0 148 (dk_at dksX4_pathHere_4 1 rfl rfl)
theorem dX4_pathHere_97 : decode cX4_pathHere 97 = .ok (.iastore, 1) := dk_79 (dk_at dksX4_pathHere_4 4 rfl rfl)
theorem dX4_pathHere_98 : decode cX4_pathHere 98 = .ok (.aload_n 0, 1) := dk_42 (dk_at dksX4_pathHere_4 5 rfl rfl)
theorem dX4_pathHere_99 : decode cX4_pathHere 99 = .ok (.getfield 26, 3) := dk_180 0 26 (dk_at dksX4_pathHere_4 6 rfl rfl)
theorem dX4_pathHere_102 : decode cX4_pathHere 102 = .ok (.getfield 145, 3) := dk_180 0 145 (dk_at dksX4_pathHere_4 9 rfl rfl)
theorem dX4_pathHere_105 : decode cX4_pathHere 105 = .ok (.bipush 6, 2) := dk_16 6 (dk_at dksX4_pathHere_4 12 rfl rfl)
theorem dX4_pathHere_107 : decode cX4_pathHere 107 = .ok (.iload_n 3, 1) := dk_29 (dk_at dksX4_pathHere_4 14 rfl rfl)
theorem dX4_pathHere_108 : decode cX4_pathHere 108 = .ok (.imul, 1) := dk_104 (dk_at dksX4_pathHere_4 15 rfl rfl)
theorem dX4_pathHere_109 : decode cX4_pathHere 109 = .ok (.iload_n 1, 1) := dk_27 (dk_at dksX4_pathHere_4 16 rfl rfl)
theorem dX4_pathHere_110 : decode cX4_pathHere 110 = .ok (.iadd, 1) := dk_96 (dk_at dksX4_pathHere_4 17 rfl rfl)
theorem dX4_pathHere_111 : decode cX4_pathHere 111 = .ok (.aload_n 0, 1) := dk_42 (dk_at dksX4_pathHere_4 18 rfl rfl)
theorem dX4_pathHere_112 : decode cX4_pathHere 112 = .ok (.getfield 26, 3) := dk_180 0 26 (dk_at dksX4_pathHere_4 19 rfl rfl)
theorem dX4_pathHere_115 : decode cX4_pathHere 115 = .ok (.getfield 145, 3) := dk_180 0 145 (dk_at dksX4_pathHere_5 0 rfl rfl)
theorem dX4_pathHere_118 : decode cX4_pathHere 118 = .ok (.bipush 6, 2) := dk_16 6 (dk_at dksX4_pathHere_5 3 rfl rfl)
theorem dX4_pathHere_120 : decode cX4_pathHere 120 = .ok (.iload_n 1, 1) := dk_27 (dk_at dksX4_pathHere_5 5 rfl rfl)
theorem dX4_pathHere_121 : decode cX4_pathHere 121 = .ok (.imul, 1) := dk_104 (dk_at dksX4_pathHere_5 6 rfl rfl)
theorem dX4_pathHere_122 : decode cX4_pathHere 122 = .ok (.iload_n 3, 1) := dk_29 (dk_at dksX4_pathHere_5 7 rfl rfl)
theorem dX4_pathHere_123 : decode cX4_pathHere 123 = .ok (.iadd, 1) := dk_96 (dk_at dksX4_pathHere_5 8 rfl rfl)
theorem dX4_pathHere_124 : decode cX4_pathHere 124 = .ok (.iaload, 1) := dk_46 (dk_at dksX4_pathHere_5 9 rfl rfl)
theorem dX4_pathHere_125 : decode cX4_pathHere 125 = .ok (.iastore, 1) := dk_79 (dk_at dksX4_pathHere_5 10 rfl rfl)
theorem dX4_pathHere_126 : decode cX4_pathHere 126 = .ok (.aload_n 0, 1) := dk_42 (dk_at dksX4_pathHere_5 11 rfl rfl)
theorem dX4_pathHere_127 : decode cX4_pathHere 127 = .ok (.getfield 26, 3) := dk_180 0 26 (dk_at dksX4_pathHere_5 12 rfl rfl)
theorem dX4_pathHere_130 : decode cX4_pathHere 130 = .ok (.dup, 1) := dk_89 (dk_at dksX4_pathHere_5 15 rfl rfl)
theorem dX4_pathHere_131 : decode cX4_pathHere 131 = .ok (.getfield 104, 3) := dk_180 0 104 (dk_at dksX4_pathHere_5 16 rfl rfl)
theorem dX4_pathHere_134 : decode cX4_pathHere 134 = .ok (.iconst 1, 1) := dk_4 (dk_at dksX4_pathHere_5 19 rfl rfl)
theorem dX4_pathHere_135 : decode cX4_pathHere 135 = .ok (.iadd, 1) := dk_96 (dk_at dksX4_pathHere_5 20 rfl rfl)
theorem dX4_pathHere_136 : decode cX4_pathHere 136 = .ok (.putfield 104, 3) := dk_181 0 104 (dk_at dksX4_pathHere_5 21 rfl rfl)
theorem dX4_pathHere_139 : decode cX4_pathHere 139 = .ok (.return_, 1) := dk_177 (dk_at dksX4_pathHere_6 0 rfl rfl)
abbrev cX4_takesSign : ByteArray := prog_16_method_4_code
def yX4_takesSign : MethodName := ⟨RX4, "takesSign", "(I)Z"⟩
def dkwX4_takesSign_0 : List UInt8 := [42, 182, 0, 52, 27, 159, 0, 5, 3, 172, 42, 89, 180, 0, 42, 4, 96, 181, 0, 42, 4, 172]
abbrev dktX4_takesSign_0 : List UInt8 := dkwX4_takesSign_0 ++ []
theorem dksX4_takesSign_0 : cX4_takesSign.data.toList.drop 0 = dktX4_takesSign_0 := by decide +kernel
theorem dX4_takesSign_0 : decode cX4_takesSign 0 = .ok (.aload_n 0, 1) := dk_42 (dk_at dksX4_takesSign_0 0 rfl rfl)
theorem dX4_takesSign_1 : decode cX4_takesSign 1 = .ok (.invokevirtual 52, 3) := dk_182 0 52 (dk_at dksX4_takesSign_0 1 rfl rfl)
theorem dX4_takesSign_4 : decode cX4_takesSign 4 = .ok (.iload_n 1, 1) := dk_27 (dk_at dksX4_takesSign_0 4 rfl rfl)
theorem dX4_takesSign_5 : decode cX4_takesSign 5 = .ok (.if_icmp .eq 5, 3) := dk_159 0 5 (dk_at dksX4_takesSign_0 5 rfl rfl)
theorem dX4_takesSign_8 : decode cX4_takesSign 8 = .ok (.iconst 0, 1) := dk_3 (dk_at dksX4_takesSign_0 8 rfl rfl)
theorem dX4_takesSign_9 : decode cX4_takesSign 9 = .ok (.ireturn, 1) := dk_172 (dk_at dksX4_takesSign_0 9 rfl rfl)
theorem dX4_takesSign_10 : decode cX4_takesSign 10 = .ok (.aload_n 0, 1) := dk_42 (dk_at dksX4_takesSign_0 10 rfl rfl)
theorem dX4_takesSign_11 : decode cX4_takesSign 11 = .ok (.dup, 1) := dk_89 (dk_at dksX4_takesSign_0 11 rfl rfl)
theorem dX4_takesSign_12 : decode cX4_takesSign 12 = .ok (.getfield 42, 3) := dk_180 0 42 (dk_at dksX4_takesSign_0 12 rfl rfl)
theorem dX4_takesSign_15 : decode cX4_takesSign 15 = .ok (.iconst 1, 1) := dk_4 (dk_at dksX4_takesSign_0 15 rfl rfl)
theorem dX4_takesSign_16 : decode cX4_takesSign 16 = .ok (.iadd, 1) := dk_96 (dk_at dksX4_takesSign_0 16 rfl rfl)
theorem dX4_takesSign_17 : decode cX4_takesSign 17 = .ok (.putfield 42, 3) := dk_181 0 42 (dk_at dksX4_takesSign_0 17 rfl rfl)
theorem dX4_takesSign_20 : decode cX4_takesSign 20 = .ok (.iconst 1, 1) := dk_4 (dk_at dksX4_takesSign_0 20 rfl rfl)
theorem dX4_takesSign_21 : decode cX4_takesSign 21 = .ok (.ireturn, 1) := dk_172 (dk_at dksX4_takesSign_0 21 rfl rfl)
abbrev cX4_ends : ByteArray := prog_16_method_13_code
def yX4_ends : MethodName := ⟨RX4, "ends", "()V"⟩
def dkwX4_ends_0 : List UInt8 := [42, 42, 182, 0, 52, 2, 160, 0, 7, 4, 167, 0, 4, 3, 3, 42, 180, 0, 42, 182, 0, 76, 177]
abbrev dktX4_ends_0 : List UInt8 := dkwX4_ends_0 ++ []
theorem dksX4_ends_0 : cX4_ends.data.toList.drop 0 = dktX4_ends_0 := by decide +kernel
theorem dX4_ends_0 : decode cX4_ends 0 = .ok (.aload_n 0, 1) := dk_42 (dk_at dksX4_ends_0 0 rfl rfl)
theorem dX4_ends_1 : decode cX4_ends 1 = .ok (.aload_n 0, 1) := dk_42 (dk_at dksX4_ends_0 1 rfl rfl)
theorem dX4_ends_2 : decode cX4_ends 2 = .ok (.invokevirtual 52, 3) := dk_182 0 52 (dk_at dksX4_ends_0 2 rfl rfl)
theorem dX4_ends_5 : decode cX4_ends 5 = .ok (.iconst (-1), 1) := dk_2 (dk_at dksX4_ends_0 5 rfl rfl)
theorem dX4_ends_6 : decode cX4_ends 6 = .ok (.if_icmp .ne 7, 3) := dk_160 0 7 (dk_at dksX4_ends_0 6 rfl rfl)
theorem dX4_ends_9 : decode cX4_ends 9 = .ok (.iconst 1, 1) := dk_4 (dk_at dksX4_ends_0 9 rfl rfl)
theorem dX4_ends_10 : decode cX4_ends 10 = .ok (.goto 4, 3) := dk_167 0 4 (dk_at dksX4_ends_0 10 rfl rfl)
theorem dX4_ends_13 : decode cX4_ends 13 = .ok (.iconst 0, 1) := dk_3 (dk_at dksX4_ends_0 13 rfl rfl)
theorem dX4_ends_14 : decode cX4_ends 14 = .ok (.iconst 0, 1) := dk_3 (dk_at dksX4_ends_0 14 rfl rfl)
theorem dX4_ends_15 : decode cX4_ends 15 = .ok (.aload_n 0, 1) := dk_42 (dk_at dksX4_ends_0 15 rfl rfl)
theorem dX4_ends_16 : decode cX4_ends 16 = .ok (.getfield 42, 3) := dk_180 0 42 (dk_at dksX4_ends_0 16 rfl rfl)
theorem dX4_ends_19 : decode cX4_ends 19 = .ok (.invokevirtual 76, 3) := dk_182 0 76 (dk_at dksX4_ends_0 19 rfl rfl)
theorem dX4_ends_22 : decode cX4_ends 22 = .ok (.return_, 1) := dk_177 (dk_at dksX4_ends_0 22 rfl rfl)
abbrev cX4_shortens : ByteArray := prog_16_method_20_code
def yX4_shortens : MethodName := ⟨RX4, "shortens", "()V"⟩
def dkwX4_shortens_4 : List UInt8 := [96, 184, 0, 148, 79, 132, 3, 1, 167, 255, 182, 132, 2, 1, 167, 255, 163, 132, 1, 1, 167, 255, 144, 177]
abbrev dktX4_shortens_4 : List UInt8 := dkwX4_shortens_4 ++ []
def dkwX4_shortens_3 : List UInt8 := [180, 0, 145, 16, 6, 28, 104, 27, 96, 46, 42, 180, 0, 26, 180, 0, 145, 16, 6, 27, 104, 29, 96, 46]
abbrev dktX4_shortens_3 : List UInt8 := dkwX4_shortens_3 ++ dktX4_shortens_4
def dkwX4_shortens_2 : List UInt8 := [16, 6, 28, 104, 29, 96, 42, 180, 0, 26, 180, 0, 145, 16, 6, 28, 104, 29, 96, 46, 42, 180, 0, 26]
abbrev dktX4_shortens_2 : List UInt8 := dkwX4_shortens_2 ++ dktX4_shortens_3
def dkwX4_shortens_1 : List UInt8 := [162, 0, 88, 3, 62, 29, 42, 180, 0, 26, 180, 0, 101, 162, 0, 69, 42, 180, 0, 26, 180, 0, 145]
abbrev dktX4_shortens_1 : List UInt8 := dkwX4_shortens_1 ++ dktX4_shortens_2
def dkwX4_shortens_0 : List UInt8 := [3, 60, 27, 42, 180, 0, 26, 180, 0, 101, 162, 0, 107, 3, 61, 28, 42, 180, 0, 26, 180, 0, 101]
abbrev dktX4_shortens_0 : List UInt8 := dkwX4_shortens_0 ++ dktX4_shortens_1
theorem dksX4_shortens_0 : cX4_shortens.data.toList.drop 0 = dktX4_shortens_0 := by decide +kernel
theorem dksX4_shortens_1 : cX4_shortens.data.toList.drop 23 = dktX4_shortens_1 := dk_seg dksX4_shortens_0 23 rfl rfl
theorem dksX4_shortens_2 : cX4_shortens.data.toList.drop 46 = dktX4_shortens_2 := dk_seg dksX4_shortens_1 23 rfl rfl
theorem dksX4_shortens_3 : cX4_shortens.data.toList.drop 70 = dktX4_shortens_3 := dk_seg dksX4_shortens_2 24 rfl rfl
theorem dksX4_shortens_4 : cX4_shortens.data.toList.drop 94 = dktX4_shortens_4 := dk_seg dksX4_shortens_3 24 rfl rfl
theorem dX4_shortens_0 : decode cX4_shortens 0 = .ok (.iconst 0, 1) := dk_3 (dk_at dksX4_shortens_0 0 rfl rfl)
theorem dX4_shortens_1 : decode cX4_shortens 1 = .ok (.istore_n 1, 1) := dk_60 (dk_at dksX4_shortens_0 1 rfl rfl)
theorem dX4_shortens_2 : decode cX4_shortens 2 = .ok (.iload_n 1, 1) := dk_27 (dk_at dksX4_shortens_0 2 rfl rfl)
theorem dX4_shortens_3 : decode cX4_shortens 3 = .ok (.aload_n 0, 1) := dk_42 (dk_at dksX4_shortens_0 3 rfl rfl)
theorem dX4_shortens_4 : decode cX4_shortens 4 = .ok (.getfield 26, 3) := dk_180 0 26 (dk_at dksX4_shortens_0 4 rfl rfl)
theorem dX4_shortens_7 : decode cX4_shortens 7 = .ok (.getfield 101, 3) := dk_180 0 101 (dk_at dksX4_shortens_0 7 rfl rfl)
theorem dX4_shortens_10 : decode cX4_shortens 10 = .ok (.if_icmp .ge 107, 3) := dk_162 0 107 (dk_at dksX4_shortens_0 10 rfl rfl)
theorem dX4_shortens_13 : decode cX4_shortens 13 = .ok (.iconst 0, 1) := dk_3 (dk_at dksX4_shortens_0 13 rfl rfl)
theorem dX4_shortens_14 : decode cX4_shortens 14 = .ok (.istore_n 2, 1) := dk_61 (dk_at dksX4_shortens_0 14 rfl rfl)
theorem dX4_shortens_15 : decode cX4_shortens 15 = .ok (.iload_n 2, 1) := dk_28 (dk_at dksX4_shortens_0 15 rfl rfl)
theorem dX4_shortens_16 : decode cX4_shortens 16 = .ok (.aload_n 0, 1) := dk_42 (dk_at dksX4_shortens_0 16 rfl rfl)
theorem dX4_shortens_17 : decode cX4_shortens 17 = .ok (.getfield 26, 3) := dk_180 0 26 (dk_at dksX4_shortens_0 17 rfl rfl)
theorem dX4_shortens_20 : decode cX4_shortens 20 = .ok (.getfield 101, 3) := dk_180 0 101 (dk_at dksX4_shortens_0 20 rfl rfl)
theorem dX4_shortens_23 : decode cX4_shortens 23 = .ok (.if_icmp .ge 88, 3) := dk_162 0 88 (dk_at dksX4_shortens_1 0 rfl rfl)
theorem dX4_shortens_26 : decode cX4_shortens 26 = .ok (.iconst 0, 1) := dk_3 (dk_at dksX4_shortens_1 3 rfl rfl)
theorem dX4_shortens_27 : decode cX4_shortens 27 = .ok (.istore_n 3, 1) := dk_62 (dk_at dksX4_shortens_1 4 rfl rfl)
theorem dX4_shortens_28 : decode cX4_shortens 28 = .ok (.iload_n 3, 1) := dk_29 (dk_at dksX4_shortens_1 5 rfl rfl)
theorem dX4_shortens_29 : decode cX4_shortens 29 = .ok (.aload_n 0, 1) := dk_42 (dk_at dksX4_shortens_1 6 rfl rfl)
theorem dX4_shortens_30 : decode cX4_shortens 30 = .ok (.getfield 26, 3) := dk_180 0 26 (dk_at dksX4_shortens_1 7 rfl rfl)
theorem dX4_shortens_33 : decode cX4_shortens 33 = .ok (.getfield 101, 3) := dk_180 0 101 (dk_at dksX4_shortens_1 10 rfl rfl)
theorem dX4_shortens_36 : decode cX4_shortens 36 = .ok (.if_icmp .ge 69, 3) := dk_162 0 69 (dk_at dksX4_shortens_1 13 rfl rfl)
theorem dX4_shortens_39 : decode cX4_shortens 39 = .ok (.aload_n 0, 1) := dk_42 (dk_at dksX4_shortens_1 16 rfl rfl)
theorem dX4_shortens_40 : decode cX4_shortens 40 = .ok (.getfield 26, 3) := dk_180 0 26 (dk_at dksX4_shortens_1 17 rfl rfl)
theorem dX4_shortens_43 : decode cX4_shortens 43 = .ok (.getfield 145, 3) := dk_180 0 145 (dk_at dksX4_shortens_1 20 rfl rfl)
theorem dX4_shortens_46 : decode cX4_shortens 46 = .ok (.bipush 6, 2) := dk_16 6 (dk_at dksX4_shortens_2 0 rfl rfl)
theorem dX4_shortens_48 : decode cX4_shortens 48 = .ok (.iload_n 2, 1) := dk_28 (dk_at dksX4_shortens_2 2 rfl rfl)
theorem dX4_shortens_49 : decode cX4_shortens 49 = .ok (.imul, 1) := dk_104 (dk_at dksX4_shortens_2 3 rfl rfl)
theorem dX4_shortens_50 : decode cX4_shortens 50 = .ok (.iload_n 3, 1) := dk_29 (dk_at dksX4_shortens_2 4 rfl rfl)
theorem dX4_shortens_51 : decode cX4_shortens 51 = .ok (.iadd, 1) := dk_96 (dk_at dksX4_shortens_2 5 rfl rfl)
theorem dX4_shortens_52 : decode cX4_shortens 52 = .ok (.aload_n 0, 1) := dk_42 (dk_at dksX4_shortens_2 6 rfl rfl)
theorem dX4_shortens_53 : decode cX4_shortens 53 = .ok (.getfield 26, 3) := dk_180 0 26 (dk_at dksX4_shortens_2 7 rfl rfl)
theorem dX4_shortens_56 : decode cX4_shortens 56 = .ok (.getfield 145, 3) := dk_180 0 145 (dk_at dksX4_shortens_2 10 rfl rfl)
theorem dX4_shortens_59 : decode cX4_shortens 59 = .ok (.bipush 6, 2) := dk_16 6 (dk_at dksX4_shortens_2 13 rfl rfl)
theorem dX4_shortens_61 : decode cX4_shortens 61 = .ok (.iload_n 2, 1) := dk_28 (dk_at dksX4_shortens_2 15 rfl rfl)
theorem dX4_shortens_62 : decode cX4_shortens 62 = .ok (.imul, 1) := dk_104 (dk_at dksX4_shortens_2 16 rfl rfl)
theorem dX4_shortens_63 : decode cX4_shortens 63 = .ok (.iload_n 3, 1) := dk_29 (dk_at dksX4_shortens_2 17 rfl rfl)
theorem dX4_shortens_64 : decode cX4_shortens 64 = .ok (.iadd, 1) := dk_96 (dk_at dksX4_shortens_2 18 rfl rfl)
theorem dX4_shortens_65 : decode cX4_shortens 65 = .ok (.iaload, 1) := dk_46 (dk_at dksX4_shortens_2 19 rfl rfl)
theorem dX4_shortens_66 : decode cX4_shortens 66 = .ok (.aload_n 0, 1) := dk_42 (dk_at dksX4_shortens_2 20 rfl rfl)
theorem dX4_shortens_67 : decode cX4_shortens 67 = .ok (.getfield 26, 3) := dk_180 0 26 (dk_at dksX4_shortens_2 21 rfl rfl)
theorem dX4_shortens_70 : decode cX4_shortens 70 = .ok (.getfield 145, 3) := dk_180 0 145 (dk_at dksX4_shortens_3 0 rfl rfl)
theorem dX4_shortens_73 : decode cX4_shortens 73 = .ok (.bipush 6, 2) := dk_16 6 (dk_at dksX4_shortens_3 3 rfl rfl)
theorem dX4_shortens_75 : decode cX4_shortens 75 = .ok (.iload_n 2, 1) := dk_28 (dk_at dksX4_shortens_3 5 rfl rfl)
theorem dX4_shortens_76 : decode cX4_shortens 76 = .ok (.imul, 1) := dk_104 (dk_at dksX4_shortens_3 6 rfl rfl)
theorem dX4_shortens_77 : decode cX4_shortens 77 = .ok (.iload_n 1, 1) := dk_27 (dk_at dksX4_shortens_3 7 rfl rfl)
theorem dX4_shortens_78 : decode cX4_shortens 78 = .ok (.iadd, 1) := dk_96 (dk_at dksX4_shortens_3 8 rfl rfl)
theorem dX4_shortens_79 : decode cX4_shortens 79 = .ok (.iaload, 1) := dk_46 (dk_at dksX4_shortens_3 9 rfl rfl)
theorem dX4_shortens_80 : decode cX4_shortens 80 = .ok (.aload_n 0, 1) := dk_42 (dk_at dksX4_shortens_3 10 rfl rfl)
theorem dX4_shortens_81 : decode cX4_shortens 81 = .ok (.getfield 26, 3) := dk_180 0 26 (dk_at dksX4_shortens_3 11 rfl rfl)
theorem dX4_shortens_84 : decode cX4_shortens 84 = .ok (.getfield 145, 3) := dk_180 0 145 (dk_at dksX4_shortens_3 14 rfl rfl)
theorem dX4_shortens_87 : decode cX4_shortens 87 = .ok (.bipush 6, 2) := dk_16 6 (dk_at dksX4_shortens_3 17 rfl rfl)
theorem dX4_shortens_89 : decode cX4_shortens 89 = .ok (.iload_n 1, 1) := dk_27 (dk_at dksX4_shortens_3 19 rfl rfl)
theorem dX4_shortens_90 : decode cX4_shortens 90 = .ok (.imul, 1) := dk_104 (dk_at dksX4_shortens_3 20 rfl rfl)
theorem dX4_shortens_91 : decode cX4_shortens 91 = .ok (.iload_n 3, 1) := dk_29 (dk_at dksX4_shortens_3 21 rfl rfl)
theorem dX4_shortens_92 : decode cX4_shortens 92 = .ok (.iadd, 1) := dk_96 (dk_at dksX4_shortens_3 22 rfl rfl)
theorem dX4_shortens_93 : decode cX4_shortens 93 = .ok (.iaload, 1) := dk_46 (dk_at dksX4_shortens_3 23 rfl rfl)
theorem dX4_shortens_94 : decode cX4_shortens 94 = .ok (.iadd, 1) := dk_96 (dk_at dksX4_shortens_4 0 rfl rfl)
theorem dX4_shortens_95 : decode cX4_shortens 95 = .ok (.invokestatic 148, 3) := dk_184 0 148 (dk_at dksX4_shortens_4 1 rfl rfl)
theorem dX4_shortens_98 : decode cX4_shortens 98 = .ok (.iastore, 1) := dk_79 (dk_at dksX4_shortens_4 4 rfl rfl)
theorem dX4_shortens_99 : decode cX4_shortens 99 = .ok (.iinc 3 1, 3) := dk_132 3 1 (dk_at dksX4_shortens_4 5 rfl rfl)
theorem dX4_shortens_102 : decode cX4_shortens 102 = .ok (.goto (-74), 3) := dk_167 255 182 (dk_at dksX4_shortens_4 8 rfl rfl)
theorem dX4_shortens_105 : decode cX4_shortens 105 = .ok (.iinc 2 1, 3) := dk_132 2 1 (dk_at dksX4_shortens_4 11 rfl rfl)
theorem dX4_shortens_108 : decode cX4_shortens 108 = .ok (.goto (-93), 3) := dk_167 255 163 (dk_at dksX4_shortens_4 14 rfl rfl)
theorem dX4_shortens_111 : decode cX4_shortens 111 = .ok (.iinc 1 1, 3) := dk_132 1 1 (dk_at dksX4_shortens_4 17 rfl rfl)
theorem dX4_shortens_114 : decode cX4_shortens 114 = .ok (.goto (-112), 3) := dk_167 255 144 (dk_at dksX4_shortens_4 20 rfl rfl)
theorem dX4_shortens_117 : decode cX4_shortens 117 = .ok (.return_, 1) := dk_177 (dk_at dksX4_shortens_4 23 rfl rfl)
abbrev cX4_sayingTold : ByteArray := prog_16_method_25_code
def yX4_sayingTold : MethodName := ⟨RX4, "sayingTold", "()LTruthBridge$Form;"⟩
def dkwX4_sayingTold_0 : List UInt8 := [42, 182, 0, 229, 76, 42, 182, 0, 194, 43, 176]
abbrev dktX4_sayingTold_0 : List UInt8 := dkwX4_sayingTold_0 ++ []
theorem dksX4_sayingTold_0 : cX4_sayingTold.data.toList.drop 0 = dktX4_sayingTold_0 := by decide +kernel
theorem dX4_sayingTold_0 : decode cX4_sayingTold 0 = .ok (.aload_n 0, 1) := dk_42 (dk_at dksX4_sayingTold_0 0 rfl rfl)
theorem dX4_sayingTold_1 : decode cX4_sayingTold 1 = .ok (.invokevirtual 229, 3) := dk_182 0 229 (dk_at dksX4_sayingTold_0 1 rfl rfl)
theorem dX4_sayingTold_4 : decode cX4_sayingTold 4 = .ok (.astore_n 1, 1) := dk_76 (dk_at dksX4_sayingTold_0 4 rfl rfl)
theorem dX4_sayingTold_5 : decode cX4_sayingTold 5 = .ok (.aload_n 0, 1) := dk_42 (dk_at dksX4_sayingTold_0 5 rfl rfl)
theorem dX4_sayingTold_6 : decode cX4_sayingTold 6 = .ok (.invokevirtual 194, 3) := dk_182 0 194 (dk_at dksX4_sayingTold_0 6 rfl rfl)
theorem dX4_sayingTold_9 : decode cX4_sayingTold 9 = .ok (.aload_n 1, 1) := dk_43 (dk_at dksX4_sayingTold_0 9 rfl rfl)
theorem dX4_sayingTold_10 : decode cX4_sayingTold 10 = .ok (.areturn, 1) := dk_176 (dk_at dksX4_sayingTold_0 10 rfl rfl)
abbrev cX4_formHere : ByteArray := prog_16_method_22_code
def yX4_formHere : MethodName := ⟨RX4, "formHere", "()LTruthBridge$Form;"⟩
def dkwX4_formHere_1 : List UInt8 := [183, 0, 211, 76, 167, 255, 233, 43, 176]
abbrev dktX4_formHere_1 : List UInt8 := dkwX4_formHere_1 ++ []
def dkwX4_formHere_0 : List UInt8 := [42, 182, 0, 200, 76, 42, 18, 204, 182, 0, 206, 153, 0, 20, 187, 0, 209, 89, 43, 3, 42, 182, 0, 200]
abbrev dktX4_formHere_0 : List UInt8 := dkwX4_formHere_0 ++ dktX4_formHere_1
theorem dksX4_formHere_0 : cX4_formHere.data.toList.drop 0 = dktX4_formHere_0 := by decide +kernel
theorem dksX4_formHere_1 : cX4_formHere.data.toList.drop 24 = dktX4_formHere_1 := dk_seg dksX4_formHere_0 24 rfl rfl
theorem dX4_formHere_0 : decode cX4_formHere 0 = .ok (.aload_n 0, 1) := dk_42 (dk_at dksX4_formHere_0 0 rfl rfl)
theorem dX4_formHere_1 : decode cX4_formHere 1 = .ok (.invokevirtual 200, 3) := dk_182 0 200 (dk_at dksX4_formHere_0 1 rfl rfl)
theorem dX4_formHere_4 : decode cX4_formHere 4 = .ok (.astore_n 1, 1) := dk_76 (dk_at dksX4_formHere_0 4 rfl rfl)
theorem dX4_formHere_5 : decode cX4_formHere 5 = .ok (.aload_n 0, 1) := dk_42 (dk_at dksX4_formHere_0 5 rfl rfl)
theorem dX4_formHere_6 : decode cX4_formHere 6 = .ok (.ldc 204, 2) := dk_18 204 (dk_at dksX4_formHere_0 6 rfl rfl)
theorem dX4_formHere_8 : decode cX4_formHere 8 = .ok (.invokevirtual 206, 3) := dk_182 0 206 (dk_at dksX4_formHere_0 8 rfl rfl)
theorem dX4_formHere_11 : decode cX4_formHere 11 = .ok (.ifCond .eq 20, 3) := dk_153 0 20 (dk_at dksX4_formHere_0 11 rfl rfl)
theorem dX4_formHere_14 : decode cX4_formHere 14 = .ok (.new 209, 3) := dk_187 0 209 (dk_at dksX4_formHere_0 14 rfl rfl)
theorem dX4_formHere_17 : decode cX4_formHere 17 = .ok (.dup, 1) := dk_89 (dk_at dksX4_formHere_0 17 rfl rfl)
theorem dX4_formHere_18 : decode cX4_formHere 18 = .ok (.aload_n 1, 1) := dk_43 (dk_at dksX4_formHere_0 18 rfl rfl)
theorem dX4_formHere_19 : decode cX4_formHere 19 = .ok (.iconst 0, 1) := dk_3 (dk_at dksX4_formHere_0 19 rfl rfl)
theorem dX4_formHere_20 : decode cX4_formHere 20 = .ok (.aload_n 0, 1) := dk_42 (dk_at dksX4_formHere_0 20 rfl rfl)
theorem dX4_formHere_21 : decode cX4_formHere 21 = .ok (.invokevirtual 200, 3) := dk_182 0 200 (dk_at dksX4_formHere_0 21 rfl rfl)
theorem dX4_formHere_24 : decode cX4_formHere 24 = .ok (.invokespecial 211, 3) := dk_183 0 211 (dk_at dksX4_formHere_1 0 rfl rfl)
theorem dX4_formHere_27 : decode cX4_formHere 27 = .ok (.astore_n 1, 1) := dk_76 (dk_at dksX4_formHere_1 3 rfl rfl)
theorem dX4_formHere_28 : decode cX4_formHere 28 = .ok (.goto (-23), 3) := dk_167 255 233 (dk_at dksX4_formHere_1 4 rfl rfl)
theorem dX4_formHere_31 : decode cX4_formHere 31 = .ok (.aload_n 1, 1) := dk_43 (dk_at dksX4_formHere_1 7 rfl rfl)
theorem dX4_formHere_32 : decode cX4_formHere 32 = .ok (.areturn, 1) := dk_176 (dk_at dksX4_formHere_1 8 rfl rfl)
abbrev cX4_partOfForm : ByteArray := prog_16_method_23_code
def yX4_partOfForm : MethodName := ⟨RX4, "partOfForm", "()LTruthBridge$Form;"⟩
def dkwX4_partOfForm_1 : List UInt8 := [183, 0, 211, 76, 167, 255, 233, 43, 176]
abbrev dktX4_partOfForm_1 : List UInt8 := dkwX4_partOfForm_1 ++ []
def dkwX4_partOfForm_0 : List UInt8 := [42, 182, 0, 214, 76, 42, 18, 217, 182, 0, 206, 153, 0, 20, 187, 0, 209, 89, 43, 4, 42, 182, 0, 214]
abbrev dktX4_partOfForm_0 : List UInt8 := dkwX4_partOfForm_0 ++ dktX4_partOfForm_1
theorem dksX4_partOfForm_0 : cX4_partOfForm.data.toList.drop 0 = dktX4_partOfForm_0 := by decide +kernel
theorem dksX4_partOfForm_1 : cX4_partOfForm.data.toList.drop 24 = dktX4_partOfForm_1 := dk_seg dksX4_partOfForm_0 24 rfl rfl
theorem dX4_partOfForm_0 : decode cX4_partOfForm 0 = .ok (.aload_n 0, 1) := dk_42 (dk_at dksX4_partOfForm_0 0 rfl rfl)
theorem dX4_partOfForm_1 : decode cX4_partOfForm 1 = .ok (.invokevirtual 214, 3) := dk_182 0 214 (dk_at dksX4_partOfForm_0 1 rfl rfl)
theorem dX4_partOfForm_4 : decode cX4_partOfForm 4 = .ok (.astore_n 1, 1) := dk_76 (dk_at dksX4_partOfForm_0 4 rfl rfl)
theorem dX4_partOfForm_5 : decode cX4_partOfForm 5 = .ok (.aload_n 0, 1) := dk_42 (dk_at dksX4_partOfForm_0 5 rfl rfl)
theorem dX4_partOfForm_6 : decode cX4_partOfForm 6 = .ok (.ldc 217, 2) := dk_18 217 (dk_at dksX4_partOfForm_0 6 rfl rfl)
theorem dX4_partOfForm_8 : decode cX4_partOfForm 8 = .ok (.invokevirtual 206, 3) := dk_182 0 206 (dk_at dksX4_partOfForm_0 8 rfl rfl)
theorem dX4_partOfForm_11 : decode cX4_partOfForm 11 = .ok (.ifCond .eq 20, 3) := dk_153 0 20 (dk_at dksX4_partOfForm_0 11 rfl rfl)
theorem dX4_partOfForm_14 : decode cX4_partOfForm 14 = .ok (.new 209, 3) := dk_187 0 209 (dk_at dksX4_partOfForm_0 14 rfl rfl)
theorem dX4_partOfForm_17 : decode cX4_partOfForm 17 = .ok (.dup, 1) := dk_89 (dk_at dksX4_partOfForm_0 17 rfl rfl)
theorem dX4_partOfForm_18 : decode cX4_partOfForm 18 = .ok (.aload_n 1, 1) := dk_43 (dk_at dksX4_partOfForm_0 18 rfl rfl)
theorem dX4_partOfForm_19 : decode cX4_partOfForm 19 = .ok (.iconst 1, 1) := dk_4 (dk_at dksX4_partOfForm_0 19 rfl rfl)
theorem dX4_partOfForm_20 : decode cX4_partOfForm 20 = .ok (.aload_n 0, 1) := dk_42 (dk_at dksX4_partOfForm_0 20 rfl rfl)
theorem dX4_partOfForm_21 : decode cX4_partOfForm 21 = .ok (.invokevirtual 214, 3) := dk_182 0 214 (dk_at dksX4_partOfForm_0 21 rfl rfl)
theorem dX4_partOfForm_24 : decode cX4_partOfForm 24 = .ok (.invokespecial 211, 3) := dk_183 0 211 (dk_at dksX4_partOfForm_1 0 rfl rfl)
theorem dX4_partOfForm_27 : decode cX4_partOfForm 27 = .ok (.astore_n 1, 1) := dk_76 (dk_at dksX4_partOfForm_1 3 rfl rfl)
theorem dX4_partOfForm_28 : decode cX4_partOfForm 28 = .ok (.goto (-23), 3) := dk_167 255 233 (dk_at dksX4_partOfForm_1 4 rfl rfl)
theorem dX4_partOfForm_31 : decode cX4_partOfForm 31 = .ok (.aload_n 1, 1) := dk_43 (dk_at dksX4_partOfForm_1 7 rfl rfl)
theorem dX4_partOfForm_32 : decode cX4_partOfForm 32 = .ok (.areturn, 1) := dk_176 (dk_at dksX4_partOfForm_1 8 rfl rfl)
abbrev cX4_leafHere : ByteArray := prog_16_method_24_code
def yX4_leafHere : MethodName := ⟨RX4, "leafHere", "()LTruthBridge$Form;"⟩
def dkwX4_leafHere_8 : List UInt8 := [16, 97, 100, 183, 0, 241, 176]
abbrev dktX4_leafHere_8 : List UInt8 := dkwX4_leafHere_8 ++ []
def dkwX4_leafHere_7 : List UInt8 := [89, 180, 0, 236, 4, 96, 181, 0, 236, 42, 89, 180, 0, 42, 4, 96, 181, 0, 42, 187, 0, 239, 89, 27]
abbrev dktX4_leafHere_7 : List UInt8 := dkwX4_leafHere_7 ++ dktX4_leafHere_8
def dkwX4_leafHere_6 : List UInt8 := [182, 0, 76, 42, 42, 180, 0, 236, 16, 24, 162, 0, 7, 4, 167, 0, 4, 3, 6, 28, 182, 0, 76, 42]
abbrev dktX4_leafHere_6 : List UInt8 := dkwX4_leafHere_6 ++ dktX4_leafHere_7
def dkwX4_leafHere_5 : List UInt8 := [160, 0, 21, 27, 133, 20, 0, 232, 20, 0, 234, 184, 0, 80, 153, 0, 7, 4, 167, 0, 4, 3, 3, 28]
abbrev dktX4_leafHere_5 : List UInt8 := dkwX4_leafHere_5 ++ dktX4_leafHere_6
def dkwX4_leafHere_4 : List UInt8 := [180, 0, 42, 182, 0, 76, 42, 89, 180, 0, 87, 4, 100, 181, 0, 87, 45, 176, 42, 42, 182, 0, 56, 4]
abbrev dktX4_leafHere_4 : List UInt8 := dkwX4_leafHere_4 ++ dktX4_leafHere_5
def dkwX4_leafHere_3 : List UInt8 := [180, 0, 42, 4, 96, 181, 0, 42, 42, 182, 0, 229, 78, 42, 42, 16, 93, 182, 0, 191, 3, 42]
abbrev dktX4_leafHere_3 : List UInt8 := dkwX4_leafHere_3 ++ dktX4_leafHere_4
def dkwX4_leafHere_2 : List UInt8 := [180, 0, 87, 4, 100, 181, 0, 87, 45, 176, 27, 16, 91, 160, 0, 50, 42, 28, 182, 0, 221, 42, 89]
abbrev dktX4_leafHere_2 : List UInt8 := dkwX4_leafHere_2 ++ dktX4_leafHere_3
def dkwX4_leafHere_1 : List UInt8 := [42, 89, 180, 0, 42, 6, 96, 181, 0, 42, 187, 0, 224, 89, 42, 182, 0, 214, 183, 0, 226, 78, 42, 89]
abbrev dktX4_leafHere_1 : List UInt8 := dkwX4_leafHere_1 ++ dktX4_leafHere_2
def dkwX4_leafHere_0 : List UInt8 := [42, 182, 0, 52, 60, 42, 180, 0, 42, 61, 42, 18, 219, 182, 0, 68, 153, 0, 42, 42, 28, 182, 0, 221]
abbrev dktX4_leafHere_0 : List UInt8 := dkwX4_leafHere_0 ++ dktX4_leafHere_1
theorem dksX4_leafHere_0 : cX4_leafHere.data.toList.drop 0 = dktX4_leafHere_0 := by decide +kernel
theorem dksX4_leafHere_1 : cX4_leafHere.data.toList.drop 24 = dktX4_leafHere_1 := dk_seg dksX4_leafHere_0 24 rfl rfl
theorem dksX4_leafHere_2 : cX4_leafHere.data.toList.drop 48 = dktX4_leafHere_2 := dk_seg dksX4_leafHere_1 24 rfl rfl
theorem dksX4_leafHere_3 : cX4_leafHere.data.toList.drop 71 = dktX4_leafHere_3 := dk_seg dksX4_leafHere_2 23 rfl rfl
theorem dksX4_leafHere_4 : cX4_leafHere.data.toList.drop 93 = dktX4_leafHere_4 := dk_seg dksX4_leafHere_3 22 rfl rfl
theorem dksX4_leafHere_5 : cX4_leafHere.data.toList.drop 117 = dktX4_leafHere_5 := dk_seg dksX4_leafHere_4 24 rfl rfl
theorem dksX4_leafHere_6 : cX4_leafHere.data.toList.drop 141 = dktX4_leafHere_6 := dk_seg dksX4_leafHere_5 24 rfl rfl
theorem dksX4_leafHere_7 : cX4_leafHere.data.toList.drop 165 = dktX4_leafHere_7 := dk_seg dksX4_leafHere_6 24 rfl rfl
theorem dksX4_leafHere_8 : cX4_leafHere.data.toList.drop 189 = dktX4_leafHere_8 := dk_seg dksX4_leafHere_7 24 rfl rfl
theorem dX4_leafHere_0 : decode cX4_leafHere 0 = .ok (.aload_n 0, 1) := dk_42 (dk_at dksX4_leafHere_0 0 rfl rfl)
theorem dX4_leafHere_1 : decode cX4_leafHere 1 = .ok (.invokevirtual 52, 3) := dk_182 0 52 (dk_at dksX4_leafHere_0 1 rfl rfl)
theorem dX4_leafHere_4 : decode cX4_leafHere 4 = .ok (.istore_n 1, 1) := dk_60 (dk_at dksX4_leafHere_0 4 rfl rfl)
theorem dX4_leafHere_5 : decode cX4_leafHere 5 = .ok (.aload_n 0, 1) := dk_42 (dk_at dksX4_leafHere_0 5 rfl rfl)
theorem dX4_leafHere_6 : decode cX4_leafHere 6 = .ok (.getfield 42, 3) := dk_180 0 42 (dk_at dksX4_leafHere_0 6 rfl rfl)
theorem dX4_leafHere_9 : decode cX4_leafHere 9 = .ok (.istore_n 2, 1) := dk_61 (dk_at dksX4_leafHere_0 9 rfl rfl)
theorem dX4_leafHere_10 : decode cX4_leafHere 10 = .ok (.aload_n 0, 1) := dk_42 (dk_at dksX4_leafHere_0 10 rfl rfl)
theorem dX4_leafHere_11 : decode cX4_leafHere 11 = .ok (.ldc 219, 2) := dk_18 219 (dk_at dksX4_leafHere_0 11 rfl rfl)
theorem dX4_leafHere_13 : decode cX4_leafHere 13 = .ok (.invokevirtual 68, 3) := dk_182 0 68 (dk_at dksX4_leafHere_0 13 rfl rfl)
theorem dX4_leafHere_16 : decode cX4_leafHere 16 = .ok (.ifCond .eq 42, 3) := dk_153 0 42 (dk_at dksX4_leafHere_0 16 rfl rfl)
theorem dX4_leafHere_19 : decode cX4_leafHere 19 = .ok (.aload_n 0, 1) := dk_42 (dk_at dksX4_leafHere_0 19 rfl rfl)
theorem dX4_leafHere_20 : decode cX4_leafHere 20 = .ok (.iload_n 2, 1) := dk_28 (dk_at dksX4_leafHere_0 20 rfl rfl)
theorem dX4_leafHere_21 : decode cX4_leafHere 21 = .ok (.invokevirtual 221, 3) := dk_182 0 221 (dk_at dksX4_leafHere_0 21 rfl rfl)
theorem dX4_leafHere_24 : decode cX4_leafHere 24 = .ok (.aload_n 0, 1) := dk_42 (dk_at dksX4_leafHere_1 0 rfl rfl)
theorem dX4_leafHere_25 : decode cX4_leafHere 25 = .ok (.dup, 1) := dk_89 (dk_at dksX4_leafHere_1 1 rfl rfl)
theorem dX4_leafHere_26 : decode cX4_leafHere 26 = .ok (.getfield 42, 3) := dk_180 0 42 (dk_at dksX4_leafHere_1 2 rfl rfl)
theorem dX4_leafHere_29 : decode cX4_leafHere 29 = .ok (.iconst 3, 1) := dk_6 (dk_at dksX4_leafHere_1 5 rfl rfl)
theorem dX4_leafHere_30 : decode cX4_leafHere 30 = .ok (.iadd, 1) := dk_96 (dk_at dksX4_leafHere_1 6 rfl rfl)
theorem dX4_leafHere_31 : decode cX4_leafHere 31 = .ok (.putfield 42, 3) := dk_181 0 42 (dk_at dksX4_leafHere_1 7 rfl rfl)
theorem dX4_leafHere_34 : decode cX4_leafHere 34 = .ok (.new 224, 3) := dk_187 0 224 (dk_at dksX4_leafHere_1 10 rfl rfl)
theorem dX4_leafHere_37 : decode cX4_leafHere 37 = .ok (.dup, 1) := dk_89 (dk_at dksX4_leafHere_1 13 rfl rfl)
theorem dX4_leafHere_38 : decode cX4_leafHere 38 = .ok (.aload_n 0, 1) := dk_42 (dk_at dksX4_leafHere_1 14 rfl rfl)
theorem dX4_leafHere_39 : decode cX4_leafHere 39 = .ok (.invokevirtual 214, 3) := dk_182 0 214 (dk_at dksX4_leafHere_1 15 rfl rfl)
theorem dX4_leafHere_42 : decode cX4_leafHere 42 = .ok (.invokespecial 226, 3) := dk_183 0 226 (dk_at dksX4_leafHere_1 18 rfl rfl)
theorem dX4_leafHere_45 : decode cX4_leafHere 45 = .ok (.astore_n 3, 1) := dk_78 (dk_at dksX4_leafHere_1 21 rfl rfl)
theorem dX4_leafHere_46 : decode cX4_leafHere 46 = .ok (.aload_n 0, 1) := dk_42 (dk_at dksX4_leafHere_1 22 rfl rfl)
theorem dX4_leafHere_47 : decode cX4_leafHere 47 = .ok (.dup, 1) := dk_89 (dk_at dksX4_leafHere_1 23 rfl rfl)
theorem dX4_leafHere_48 : decode cX4_leafHere 48 = .ok (.getfield 87, 3) := dk_180 0 87 (dk_at dksX4_leafHere_2 0 rfl rfl)
theorem dX4_leafHere_51 : decode cX4_leafHere 51 = .ok (.iconst 1, 1) := dk_4 (dk_at dksX4_leafHere_2 3 rfl rfl)
theorem dX4_leafHere_52 : decode cX4_leafHere 52 = .ok (.isub, 1) := dk_100 (dk_at dksX4_leafHere_2 4 rfl rfl)
theorem dX4_leafHere_53 : decode cX4_leafHere 53 = .ok (.putfield 87, 3) := dk_181 0 87 (dk_at dksX4_leafHere_2 5 rfl rfl)
theorem dX4_leafHere_56 : decode cX4_leafHere 56 = .ok (.aload_n 3, 1) := dk_45 (dk_at dksX4_leafHere_2 8 rfl rfl)
theorem dX4_leafHere_57 : decode cX4_leafHere 57 = .ok (.areturn, 1) := dk_176 (dk_at dksX4_leafHere_2 9 rfl rfl)
theorem dX4_leafHere_58 : decode cX4_leafHere 58 = .ok (.iload_n 1, 1) := dk_27 (dk_at dksX4_leafHere_2 10 rfl rfl)
theorem dX4_leafHere_59 : decode cX4_leafHere 59 = .ok (.bipush 91, 2) := dk_16 91 (dk_at dksX4_leafHere_2 11 rfl rfl)
theorem dX4_leafHere_61 : decode cX4_leafHere 61 = .ok (.if_icmp .ne 50, 3) := dk_160 0 50 (dk_at dksX4_leafHere_2 13 rfl rfl)
theorem dX4_leafHere_64 : decode cX4_leafHere 64 = .ok (.aload_n 0, 1) := dk_42 (dk_at dksX4_leafHere_2 16 rfl rfl)
theorem dX4_leafHere_65 : decode cX4_leafHere 65 = .ok (.iload_n 2, 1) := dk_28 (dk_at dksX4_leafHere_2 17 rfl rfl)
theorem dX4_leafHere_66 : decode cX4_leafHere 66 = .ok (.invokevirtual 221, 3) := dk_182 0 221 (dk_at dksX4_leafHere_2 18 rfl rfl)
theorem dX4_leafHere_69 : decode cX4_leafHere 69 = .ok (.aload_n 0, 1) := dk_42 (dk_at dksX4_leafHere_2 21 rfl rfl)
theorem dX4_leafHere_70 : decode cX4_leafHere 70 = .ok (.dup, 1) := dk_89 (dk_at dksX4_leafHere_2 22 rfl rfl)
theorem dX4_leafHere_71 : decode cX4_leafHere 71 = .ok (.getfield 42, 3) := dk_180 0 42 (dk_at dksX4_leafHere_3 0 rfl rfl)
theorem dX4_leafHere_74 : decode cX4_leafHere 74 = .ok (.iconst 1, 1) := dk_4 (dk_at dksX4_leafHere_3 3 rfl rfl)
theorem dX4_leafHere_75 : decode cX4_leafHere 75 = .ok (.iadd, 1) := dk_96 (dk_at dksX4_leafHere_3 4 rfl rfl)
theorem dX4_leafHere_76 : decode cX4_leafHere 76 = .ok (.putfield 42, 3) := dk_181 0 42 (dk_at dksX4_leafHere_3 5 rfl rfl)
theorem dX4_leafHere_79 : decode cX4_leafHere 79 = .ok (.aload_n 0, 1) := dk_42 (dk_at dksX4_leafHere_3 8 rfl rfl)
theorem dX4_leafHere_80 : decode cX4_leafHere 80 = .ok (.invokevirtual 229, 3) := dk_182 0 229 (dk_at dksX4_leafHere_3 9 rfl rfl)
theorem dX4_leafHere_83 : decode cX4_leafHere 83 = .ok (.astore_n 3, 1) := dk_78 (dk_at dksX4_leafHere_3 12 rfl rfl)
theorem dX4_leafHere_84 : decode cX4_leafHere 84 = .ok (.aload_n 0, 1) := dk_42 (dk_at dksX4_leafHere_3 13 rfl rfl)
theorem dX4_leafHere_85 : decode cX4_leafHere 85 = .ok (.aload_n 0, 1) := dk_42 (dk_at dksX4_leafHere_3 14 rfl rfl)
theorem dX4_leafHere_86 : decode cX4_leafHere 86 = .ok (.bipush 93, 2) := dk_16 93 (dk_at dksX4_leafHere_3 15 rfl rfl)
theorem dX4_leafHere_88 : decode cX4_leafHere 88 = .ok (.invokevirtual 191, 3) := dk_182 0 191 (dk_at dksX4_leafHere_3 17 rfl rfl)
theorem dX4_leafHere_91 : decode cX4_leafHere 91 = .ok (.iconst 0, 1) := dk_3 (dk_at dksX4_leafHere_3 20 rfl rfl)
theorem dX4_leafHere_92 : decode cX4_leafHere 92 = .ok (.aload_n 0, 1) := dk_42 (dk_at dksX4_leafHere_3 21 rfl rfl)
theorem dX4_leafHere_93 : decode cX4_leafHere 93 = .ok (.getfield 42, 3) := dk_180 0 42 (dk_at dksX4_leafHere_4 0 rfl rfl)
theorem dX4_leafHere_96 : decode cX4_leafHere 96 = .ok (.invokevirtual 76, 3) := dk_182 0 76 (dk_at dksX4_leafHere_4 3 rfl rfl)
theorem dX4_leafHere_99 : decode cX4_leafHere 99 = .ok (.aload_n 0, 1) := dk_42 (dk_at dksX4_leafHere_4 6 rfl rfl)
theorem dX4_leafHere_100 : decode cX4_leafHere 100 = .ok (.dup, 1) := dk_89 (dk_at dksX4_leafHere_4 7 rfl rfl)
theorem dX4_leafHere_101 : decode cX4_leafHere 101 = .ok (.getfield 87, 3) := dk_180 0 87 (dk_at dksX4_leafHere_4 8 rfl rfl)
theorem dX4_leafHere_104 : decode cX4_leafHere 104 = .ok (.iconst 1, 1) := dk_4 (dk_at dksX4_leafHere_4 11 rfl rfl)
theorem dX4_leafHere_105 : decode cX4_leafHere 105 = .ok (.isub, 1) := dk_100 (dk_at dksX4_leafHere_4 12 rfl rfl)
theorem dX4_leafHere_106 : decode cX4_leafHere 106 = .ok (.putfield 87, 3) := dk_181 0 87 (dk_at dksX4_leafHere_4 13 rfl rfl)
theorem dX4_leafHere_109 : decode cX4_leafHere 109 = .ok (.aload_n 3, 1) := dk_45 (dk_at dksX4_leafHere_4 16 rfl rfl)
theorem dX4_leafHere_110 : decode cX4_leafHere 110 = .ok (.areturn, 1) := dk_176 (dk_at dksX4_leafHere_4 17 rfl rfl)
theorem dX4_leafHere_111 : decode cX4_leafHere 111 = .ok (.aload_n 0, 1) := dk_42 (dk_at dksX4_leafHere_4 18 rfl rfl)
theorem dX4_leafHere_112 : decode cX4_leafHere 112 = .ok (.aload_n 0, 1) := dk_42 (dk_at dksX4_leafHere_4 19 rfl rfl)
theorem dX4_leafHere_113 : decode cX4_leafHere 113 = .ok (.invokevirtual 56, 3) := dk_182 0 56 (dk_at dksX4_leafHere_4 20 rfl rfl)
theorem dX4_leafHere_116 : decode cX4_leafHere 116 = .ok (.iconst 1, 1) := dk_4 (dk_at dksX4_leafHere_4 23 rfl rfl)
theorem dX4_leafHere_117 : decode cX4_leafHere 117 = .ok (.if_icmp .ne 21, 3) := dk_160 0 21 (dk_at dksX4_leafHere_5 0 rfl rfl)
theorem dX4_leafHere_120 : decode cX4_leafHere 120 = .ok (.iload_n 1, 1) := dk_27 (dk_at dksX4_leafHere_5 3 rfl rfl)
theorem dX4_leafHere_121 : decode cX4_leafHere 121 = .ok (.i2l, 1) := dk_133 (dk_at dksX4_leafHere_5 4 rfl rfl)
theorem dX4_leafHere_122 : decode cX4_leafHere 122 = .ok (.ldc2_w 232, 3) := dk_20 0 232 (dk_at dksX4_leafHere_5 5 rfl rfl)
theorem dX4_leafHere_125 : decode cX4_leafHere 125 = .ok (.ldc2_w 234, 3) := dk_20 0 234 (dk_at dksX4_leafHere_5 8 rfl rfl)
theorem dX4_leafHere_128 : decode cX4_leafHere 128 = .ok (.invokestatic 80, 3) := dk_184 0 80 (dk_at dksX4_leafHere_5 11 rfl rfl)
theorem dX4_leafHere_131 : decode cX4_leafHere 131 = .ok (.ifCond .eq 7, 3) := dk_153 0 7 (dk_at dksX4_leafHere_5 14 rfl rfl)
theorem dX4_leafHere_134 : decode cX4_leafHere 134 = .ok (.iconst 1, 1) := dk_4 (dk_at dksX4_leafHere_5 17 rfl rfl)
theorem dX4_leafHere_135 : decode cX4_leafHere 135 = .ok (.goto 4, 3) := dk_167 0 4 (dk_at dksX4_leafHere_5 18 rfl rfl)
theorem dX4_leafHere_138 : decode cX4_leafHere 138 = .ok (.iconst 0, 1) := dk_3 (dk_at dksX4_leafHere_5 21 rfl rfl)
theorem dX4_leafHere_139 : decode cX4_leafHere 139 = .ok (.iconst 0, 1) := dk_3 (dk_at dksX4_leafHere_5 22 rfl rfl)
theorem dX4_leafHere_140 : decode cX4_leafHere 140 = .ok (.iload_n 2, 1) := dk_28 (dk_at dksX4_leafHere_5 23 rfl rfl)
theorem dX4_leafHere_141 : decode cX4_leafHere 141 = .ok (.invokevirtual 76, 3) := dk_182 0 76 (dk_at dksX4_leafHere_6 0 rfl rfl)
theorem dX4_leafHere_144 : decode cX4_leafHere 144 = .ok (.aload_n 0, 1) := dk_42 (dk_at dksX4_leafHere_6 3 rfl rfl)
theorem dX4_leafHere_145 : decode cX4_leafHere 145 = .ok (.aload_n 0, 1) := dk_42 (dk_at dksX4_leafHere_6 4 rfl rfl)
theorem dX4_leafHere_146 : decode cX4_leafHere 146 = .ok (.getfield 236, 3) := dk_180 0 236 (dk_at dksX4_leafHere_6 5 rfl rfl)
theorem dX4_leafHere_149 : decode cX4_leafHere 149 = .ok (.bipush 24, 2) := dk_16 24 (dk_at dksX4_leafHere_6 8 rfl rfl)
theorem dX4_leafHere_151 : decode cX4_leafHere 151 = .ok (.if_icmp .ge 7, 3) := dk_162 0 7 (dk_at dksX4_leafHere_6 10 rfl rfl)
theorem dX4_leafHere_154 : decode cX4_leafHere 154 = .ok (.iconst 1, 1) := dk_4 (dk_at dksX4_leafHere_6 13 rfl rfl)
theorem dX4_leafHere_155 : decode cX4_leafHere 155 = .ok (.goto 4, 3) := dk_167 0 4 (dk_at dksX4_leafHere_6 14 rfl rfl)
theorem dX4_leafHere_158 : decode cX4_leafHere 158 = .ok (.iconst 0, 1) := dk_3 (dk_at dksX4_leafHere_6 17 rfl rfl)
theorem dX4_leafHere_159 : decode cX4_leafHere 159 = .ok (.iconst 3, 1) := dk_6 (dk_at dksX4_leafHere_6 18 rfl rfl)
theorem dX4_leafHere_160 : decode cX4_leafHere 160 = .ok (.iload_n 2, 1) := dk_28 (dk_at dksX4_leafHere_6 19 rfl rfl)
theorem dX4_leafHere_161 : decode cX4_leafHere 161 = .ok (.invokevirtual 76, 3) := dk_182 0 76 (dk_at dksX4_leafHere_6 20 rfl rfl)
theorem dX4_leafHere_164 : decode cX4_leafHere 164 = .ok (.aload_n 0, 1) := dk_42 (dk_at dksX4_leafHere_6 23 rfl rfl)
theorem dX4_leafHere_165 : decode cX4_leafHere 165 = .ok (.dup, 1) := dk_89 (dk_at dksX4_leafHere_7 0 rfl rfl)
theorem dX4_leafHere_166 : decode cX4_leafHere 166 = .ok (.getfield 236, 3) := dk_180 0 236 (dk_at dksX4_leafHere_7 1 rfl rfl)
theorem dX4_leafHere_169 : decode cX4_leafHere 169 = .ok (.iconst 1, 1) := dk_4 (dk_at dksX4_leafHere_7 4 rfl rfl)
theorem dX4_leafHere_170 : decode cX4_leafHere 170 = .ok (.iadd, 1) := dk_96 (dk_at dksX4_leafHere_7 5 rfl rfl)
theorem dX4_leafHere_171 : decode cX4_leafHere 171 = .ok (.putfield 236, 3) := dk_181 0 236 (dk_at dksX4_leafHere_7 6 rfl rfl)
theorem dX4_leafHere_174 : decode cX4_leafHere 174 = .ok (.aload_n 0, 1) := dk_42 (dk_at dksX4_leafHere_7 9 rfl rfl)
theorem dX4_leafHere_175 : decode cX4_leafHere 175 = .ok (.dup, 1) := dk_89 (dk_at dksX4_leafHere_7 10 rfl rfl)
theorem dX4_leafHere_176 : decode cX4_leafHere 176 = .ok (.getfield 42, 3) := dk_180 0 42 (dk_at dksX4_leafHere_7 11 rfl rfl)
theorem dX4_leafHere_179 : decode cX4_leafHere 179 = .ok (.iconst 1, 1) := dk_4 (dk_at dksX4_leafHere_7 14 rfl rfl)
theorem dX4_leafHere_180 : decode cX4_leafHere 180 = .ok (.iadd, 1) := dk_96 (dk_at dksX4_leafHere_7 15 rfl rfl)
theorem dX4_leafHere_181 : decode cX4_leafHere 181 = .ok (.putfield 42, 3) := dk_181 0 42 (dk_at dksX4_leafHere_7 16 rfl rfl)
theorem dX4_leafHere_184 : decode cX4_leafHere 184 = .ok (.new 239, 3) := dk_187 0 239 (dk_at dksX4_leafHere_7 19 rfl rfl)
theorem dX4_leafHere_187 : decode cX4_leafHere 187 = .ok (.dup, 1) := dk_89 (dk_at dksX4_leafHere_7 22 rfl rfl)
theorem dX4_leafHere_188 : decode cX4_leafHere 188 = .ok (.iload_n 1, 1) := dk_27 (dk_at dksX4_leafHere_7 23 rfl rfl)
theorem dX4_leafHere_189 : decode cX4_leafHere 189 = .ok (.bipush 97, 2) := dk_16 97 (dk_at dksX4_leafHere_8 0 rfl rfl)
theorem dX4_leafHere_191 : decode cX4_leafHere 191 = .ok (.isub, 1) := dk_100 (dk_at dksX4_leafHere_8 2 rfl rfl)
theorem dX4_leafHere_192 : decode cX4_leafHere 192 = .ok (.invokespecial 241, 3) := dk_183 0 241 (dk_at dksX4_leafHere_8 3 rfl rfl)
theorem dX4_leafHere_195 : decode cX4_leafHere 195 = .ok (.areturn, 1) := dk_176 (dk_at dksX4_leafHere_8 6 rfl rfl)
abbrev cX4_opens : ByteArray := prog_16_method_12_code
def yX4_opens : MethodName := ⟨RX4, "opens", "(I)V"⟩
def dkwX4_opens_1 : List UInt8 := [180, 0, 87, 4, 96, 181, 0, 87, 177]
abbrev dktX4_opens_1 : List UInt8 := dkwX4_opens_1 ++ []
def dkwX4_opens_0 : List UInt8 := [42, 42, 180, 0, 87, 16, 10, 162, 0, 7, 4, 167, 0, 4, 3, 5, 27, 182, 0, 76, 42, 89]
abbrev dktX4_opens_0 : List UInt8 := dkwX4_opens_0 ++ dktX4_opens_1
theorem dksX4_opens_0 : cX4_opens.data.toList.drop 0 = dktX4_opens_0 := by decide +kernel
theorem dksX4_opens_1 : cX4_opens.data.toList.drop 22 = dktX4_opens_1 := dk_seg dksX4_opens_0 22 rfl rfl
theorem dX4_opens_0 : decode cX4_opens 0 = .ok (.aload_n 0, 1) := dk_42 (dk_at dksX4_opens_0 0 rfl rfl)
theorem dX4_opens_1 : decode cX4_opens 1 = .ok (.aload_n 0, 1) := dk_42 (dk_at dksX4_opens_0 1 rfl rfl)
theorem dX4_opens_2 : decode cX4_opens 2 = .ok (.getfield 87, 3) := dk_180 0 87 (dk_at dksX4_opens_0 2 rfl rfl)
theorem dX4_opens_5 : decode cX4_opens 5 = .ok (.bipush 10, 2) := dk_16 10 (dk_at dksX4_opens_0 5 rfl rfl)
theorem dX4_opens_7 : decode cX4_opens 7 = .ok (.if_icmp .ge 7, 3) := dk_162 0 7 (dk_at dksX4_opens_0 7 rfl rfl)
theorem dX4_opens_10 : decode cX4_opens 10 = .ok (.iconst 1, 1) := dk_4 (dk_at dksX4_opens_0 10 rfl rfl)
theorem dX4_opens_11 : decode cX4_opens 11 = .ok (.goto 4, 3) := dk_167 0 4 (dk_at dksX4_opens_0 11 rfl rfl)
theorem dX4_opens_14 : decode cX4_opens 14 = .ok (.iconst 0, 1) := dk_3 (dk_at dksX4_opens_0 14 rfl rfl)
theorem dX4_opens_15 : decode cX4_opens 15 = .ok (.iconst 2, 1) := dk_5 (dk_at dksX4_opens_0 15 rfl rfl)
theorem dX4_opens_16 : decode cX4_opens 16 = .ok (.iload_n 1, 1) := dk_27 (dk_at dksX4_opens_0 16 rfl rfl)
theorem dX4_opens_17 : decode cX4_opens 17 = .ok (.invokevirtual 76, 3) := dk_182 0 76 (dk_at dksX4_opens_0 17 rfl rfl)
theorem dX4_opens_20 : decode cX4_opens 20 = .ok (.aload_n 0, 1) := dk_42 (dk_at dksX4_opens_0 20 rfl rfl)
theorem dX4_opens_21 : decode cX4_opens 21 = .ok (.dup, 1) := dk_89 (dk_at dksX4_opens_0 21 rfl rfl)
theorem dX4_opens_22 : decode cX4_opens 22 = .ok (.getfield 87, 3) := dk_180 0 87 (dk_at dksX4_opens_1 0 rfl rfl)
theorem dX4_opens_25 : decode cX4_opens 25 = .ok (.iconst 1, 1) := dk_4 (dk_at dksX4_opens_1 3 rfl rfl)
theorem dX4_opens_26 : decode cX4_opens 26 = .ok (.iadd, 1) := dk_96 (dk_at dksX4_opens_1 4 rfl rfl)
theorem dX4_opens_27 : decode cX4_opens 27 = .ok (.putfield 87, 3) := dk_181 0 87 (dk_at dksX4_opens_1 5 rfl rfl)
theorem dX4_opens_30 : decode cX4_opens 30 = .ok (.return_, 1) := dk_177 (dk_at dksX4_opens_1 8 rfl rfl)
abbrev cX4_takesWord : ByteArray := prog_16_method_7_code
def yX4_takesWord : MethodName := ⟨RX4, "takesWord", "(Ljava/lang/String;)Z"⟩
def dkwX4_takesWord_1 : List UInt8 := [172]
abbrev dktX4_takesWord_1 : List UInt8 := dkwX4_takesWord_1 ++ []
def dkwX4_takesWord_0 : List UInt8 := [42, 43, 182, 0, 68, 154, 0, 5, 3, 172, 42, 89, 180, 0, 42, 43, 182, 0, 59, 96, 181, 0, 42, 4]
abbrev dktX4_takesWord_0 : List UInt8 := dkwX4_takesWord_0 ++ dktX4_takesWord_1
theorem dksX4_takesWord_0 : cX4_takesWord.data.toList.drop 0 = dktX4_takesWord_0 := by decide +kernel
theorem dksX4_takesWord_1 : cX4_takesWord.data.toList.drop 24 = dktX4_takesWord_1 := dk_seg dksX4_takesWord_0 24 rfl rfl
theorem dX4_takesWord_0 : decode cX4_takesWord 0 = .ok (.aload_n 0, 1) := dk_42 (dk_at dksX4_takesWord_0 0 rfl rfl)
theorem dX4_takesWord_1 : decode cX4_takesWord 1 = .ok (.aload_n 1, 1) := dk_43 (dk_at dksX4_takesWord_0 1 rfl rfl)
theorem dX4_takesWord_2 : decode cX4_takesWord 2 = .ok (.invokevirtual 68, 3) := dk_182 0 68 (dk_at dksX4_takesWord_0 2 rfl rfl)
theorem dX4_takesWord_5 : decode cX4_takesWord 5 = .ok (.ifCond .ne 5, 3) := dk_154 0 5 (dk_at dksX4_takesWord_0 5 rfl rfl)
theorem dX4_takesWord_8 : decode cX4_takesWord 8 = .ok (.iconst 0, 1) := dk_3 (dk_at dksX4_takesWord_0 8 rfl rfl)
theorem dX4_takesWord_9 : decode cX4_takesWord 9 = .ok (.ireturn, 1) := dk_172 (dk_at dksX4_takesWord_0 9 rfl rfl)
theorem dX4_takesWord_10 : decode cX4_takesWord 10 = .ok (.aload_n 0, 1) := dk_42 (dk_at dksX4_takesWord_0 10 rfl rfl)
theorem dX4_takesWord_11 : decode cX4_takesWord 11 = .ok (.dup, 1) := dk_89 (dk_at dksX4_takesWord_0 11 rfl rfl)
theorem dX4_takesWord_12 : decode cX4_takesWord 12 = .ok (.getfield 42, 3) := dk_180 0 42 (dk_at dksX4_takesWord_0 12 rfl rfl)
theorem dX4_takesWord_15 : decode cX4_takesWord 15 = .ok (.aload_n 1, 1) := dk_43 (dk_at dksX4_takesWord_0 15 rfl rfl)
theorem dX4_takesWord_16 : decode cX4_takesWord 16 = .ok (.invokevirtual 59, 3) := dk_182 0 59 (dk_at dksX4_takesWord_0 16 rfl rfl)
theorem dX4_takesWord_19 : decode cX4_takesWord 19 = .ok (.iadd, 1) := dk_96 (dk_at dksX4_takesWord_0 19 rfl rfl)
theorem dX4_takesWord_20 : decode cX4_takesWord 20 = .ok (.putfield 42, 3) := dk_181 0 42 (dk_at dksX4_takesWord_0 20 rfl rfl)
theorem dX4_takesWord_23 : decode cX4_takesWord 23 = .ok (.iconst 1, 1) := dk_4 (dk_at dksX4_takesWord_0 23 rfl rfl)
theorem dX4_takesWord_24 : decode cX4_takesWord 24 = .ok (.ireturn, 1) := dk_172 (dk_at dksX4_takesWord_1 0 rfl rfl)
abbrev cX4_ruleTold : ByteArray := prog_16_method_27_code
def yX4_ruleTold : MethodName := ⟨RX4, "ruleTold", "()LTruthBridge$Rule;"⟩
def dkwX4_ruleTold_5 : List UInt8 := [182, 0, 194, 43, 176]
abbrev dktX4_ruleTold_5 : List UInt8 := dkwX4_ruleTold_5 ++ []
def dkwX4_ruleTold_4 : List UInt8 := [182, 1, 18, 83, 43, 89, 180, 1, 17, 4, 96, 181, 1, 17, 42, 16, 59, 182, 0, 191, 154, 255, 152, 42]
abbrev dktX4_ruleTold_4 : List UInt8 := dkwX4_ruleTold_4 ++ dktX4_ruleTold_5
def dkwX4_ruleTold_3 : List UInt8 := [181, 0, 90, 42, 89, 180, 0, 42, 6, 96, 181, 0, 42, 43, 180, 1, 13, 43, 180, 1, 17, 42]
abbrev dktX4_ruleTold_3 : List UInt8 := dkwX4_ruleTold_3 ++ dktX4_ruleTold_4
def dkwX4_ruleTold_2 : List UInt8 := [16, 12, 162, 0, 7, 4, 167, 0, 4, 3, 7, 28, 182, 0, 76, 42, 89, 180, 0, 90, 4, 96]
abbrev dktX4_ruleTold_2 : List UInt8 := dkwX4_ruleTold_2 ++ dktX4_ruleTold_3
def dkwX4_ruleTold_1 : List UInt8 := [180, 1, 10, 182, 0, 181, 154, 0, 7, 4, 167, 0, 4, 3, 3, 28, 182, 0, 76, 42, 42, 180, 0, 90]
abbrev dktX4_ruleTold_1 : List UInt8 := dkwX4_ruleTold_1 ++ dktX4_ruleTold_2
def dkwX4_ruleTold_0 : List UInt8 := [187, 1, 7, 89, 183, 1, 9, 76, 42, 182, 0, 52, 87, 42, 180, 0, 42, 61, 42, 42, 42, 180, 0, 3]
abbrev dktX4_ruleTold_0 : List UInt8 := dkwX4_ruleTold_0 ++ dktX4_ruleTold_1
theorem dksX4_ruleTold_0 : cX4_ruleTold.data.toList.drop 0 = dktX4_ruleTold_0 := by decide +kernel
theorem dksX4_ruleTold_1 : cX4_ruleTold.data.toList.drop 24 = dktX4_ruleTold_1 := dk_seg dksX4_ruleTold_0 24 rfl rfl
theorem dksX4_ruleTold_2 : cX4_ruleTold.data.toList.drop 48 = dktX4_ruleTold_2 := dk_seg dksX4_ruleTold_1 24 rfl rfl
theorem dksX4_ruleTold_3 : cX4_ruleTold.data.toList.drop 70 = dktX4_ruleTold_3 := dk_seg dksX4_ruleTold_2 22 rfl rfl
theorem dksX4_ruleTold_4 : cX4_ruleTold.data.toList.drop 92 = dktX4_ruleTold_4 := dk_seg dksX4_ruleTold_3 22 rfl rfl
theorem dksX4_ruleTold_5 : cX4_ruleTold.data.toList.drop 116 = dktX4_ruleTold_5 := dk_seg dksX4_ruleTold_4 24 rfl rfl
theorem dX4_ruleTold_0 : decode cX4_ruleTold 0 = .ok (.new 263, 3) := dk_187 1 7 (dk_at dksX4_ruleTold_0 0 rfl rfl)
theorem dX4_ruleTold_3 : decode cX4_ruleTold 3 = .ok (.dup, 1) := dk_89 (dk_at dksX4_ruleTold_0 3 rfl rfl)
theorem dX4_ruleTold_4 : decode cX4_ruleTold 4 = .ok (.invokespecial 265, 3) := dk_183 1 9 (dk_at dksX4_ruleTold_0 4 rfl rfl)
theorem dX4_ruleTold_7 : decode cX4_ruleTold 7 = .ok (.astore_n 1, 1) := dk_76 (dk_at dksX4_ruleTold_0 7 rfl rfl)
theorem dX4_ruleTold_8 : decode cX4_ruleTold 8 = .ok (.aload_n 0, 1) := dk_42 (dk_at dksX4_ruleTold_0 8 rfl rfl)
theorem dX4_ruleTold_9 : decode cX4_ruleTold 9 = .ok (.invokevirtual 52, 3) := dk_182 0 52 (dk_at dksX4_ruleTold_0 9 rfl rfl)
theorem dX4_ruleTold_12 : decode cX4_ruleTold 12 = .ok (.pop, 1) := dk_87 (dk_at dksX4_ruleTold_0 12 rfl rfl)
theorem dX4_ruleTold_13 : decode cX4_ruleTold 13 = .ok (.aload_n 0, 1) := dk_42 (dk_at dksX4_ruleTold_0 13 rfl rfl)
theorem dX4_ruleTold_14 : decode cX4_ruleTold 14 = .ok (.getfield 42, 3) := dk_180 0 42 (dk_at dksX4_ruleTold_0 14 rfl rfl)
theorem dX4_ruleTold_17 : decode cX4_ruleTold 17 = .ok (.istore_n 2, 1) := dk_61 (dk_at dksX4_ruleTold_0 17 rfl rfl)
theorem dX4_ruleTold_18 : decode cX4_ruleTold 18 = .ok (.aload_n 0, 1) := dk_42 (dk_at dksX4_ruleTold_0 18 rfl rfl)
theorem dX4_ruleTold_19 : decode cX4_ruleTold 19 = .ok (.aload_n 0, 1) := dk_42 (dk_at dksX4_ruleTold_0 19 rfl rfl)
theorem dX4_ruleTold_20 : decode cX4_ruleTold 20 = .ok (.aload_n 0, 1) := dk_42 (dk_at dksX4_ruleTold_0 20 rfl rfl)
theorem dX4_ruleTold_21 : decode cX4_ruleTold 21 = .ok (.getfield 3, 3) := dk_180 0 3 (dk_at dksX4_ruleTold_0 21 rfl rfl)
theorem dX4_ruleTold_24 : decode cX4_ruleTold 24 = .ok (.getfield 266, 3) := dk_180 1 10 (dk_at dksX4_ruleTold_1 0 rfl rfl)
theorem dX4_ruleTold_27 : decode cX4_ruleTold 27 = .ok (.invokevirtual 181, 3) := dk_182 0 181 (dk_at dksX4_ruleTold_1 3 rfl rfl)
theorem dX4_ruleTold_30 : decode cX4_ruleTold 30 = .ok (.ifCond .ne 7, 3) := dk_154 0 7 (dk_at dksX4_ruleTold_1 6 rfl rfl)
theorem dX4_ruleTold_33 : decode cX4_ruleTold 33 = .ok (.iconst 1, 1) := dk_4 (dk_at dksX4_ruleTold_1 9 rfl rfl)
theorem dX4_ruleTold_34 : decode cX4_ruleTold 34 = .ok (.goto 4, 3) := dk_167 0 4 (dk_at dksX4_ruleTold_1 10 rfl rfl)
theorem dX4_ruleTold_37 : decode cX4_ruleTold 37 = .ok (.iconst 0, 1) := dk_3 (dk_at dksX4_ruleTold_1 13 rfl rfl)
theorem dX4_ruleTold_38 : decode cX4_ruleTold 38 = .ok (.iconst 0, 1) := dk_3 (dk_at dksX4_ruleTold_1 14 rfl rfl)
theorem dX4_ruleTold_39 : decode cX4_ruleTold 39 = .ok (.iload_n 2, 1) := dk_28 (dk_at dksX4_ruleTold_1 15 rfl rfl)
theorem dX4_ruleTold_40 : decode cX4_ruleTold 40 = .ok (.invokevirtual 76, 3) := dk_182 0 76 (dk_at dksX4_ruleTold_1 16 rfl rfl)
theorem dX4_ruleTold_43 : decode cX4_ruleTold 43 = .ok (.aload_n 0, 1) := dk_42 (dk_at dksX4_ruleTold_1 19 rfl rfl)
theorem dX4_ruleTold_44 : decode cX4_ruleTold 44 = .ok (.aload_n 0, 1) := dk_42 (dk_at dksX4_ruleTold_1 20 rfl rfl)
theorem dX4_ruleTold_45 : decode cX4_ruleTold 45 = .ok (.getfield 90, 3) := dk_180 0 90 (dk_at dksX4_ruleTold_1 21 rfl rfl)
theorem dX4_ruleTold_48 : decode cX4_ruleTold 48 = .ok (.bipush 12, 2) := dk_16 12 (dk_at dksX4_ruleTold_2 0 rfl rfl)
theorem dX4_ruleTold_50 : decode cX4_ruleTold 50 = .ok (.if_icmp .ge 7, 3) := dk_162 0 7 (dk_at dksX4_ruleTold_2 2 rfl rfl)
theorem dX4_ruleTold_53 : decode cX4_ruleTold 53 = .ok (.iconst 1, 1) := dk_4 (dk_at dksX4_ruleTold_2 5 rfl rfl)
theorem dX4_ruleTold_54 : decode cX4_ruleTold 54 = .ok (.goto 4, 3) := dk_167 0 4 (dk_at dksX4_ruleTold_2 6 rfl rfl)
theorem dX4_ruleTold_57 : decode cX4_ruleTold 57 = .ok (.iconst 0, 1) := dk_3 (dk_at dksX4_ruleTold_2 9 rfl rfl)
theorem dX4_ruleTold_58 : decode cX4_ruleTold 58 = .ok (.iconst 4, 1) := dk_7 (dk_at dksX4_ruleTold_2 10 rfl rfl)
theorem dX4_ruleTold_59 : decode cX4_ruleTold 59 = .ok (.iload_n 2, 1) := dk_28 (dk_at dksX4_ruleTold_2 11 rfl rfl)
theorem dX4_ruleTold_60 : decode cX4_ruleTold 60 = .ok (.invokevirtual 76, 3) := dk_182 0 76 (dk_at dksX4_ruleTold_2 12 rfl rfl)
theorem dX4_ruleTold_63 : decode cX4_ruleTold 63 = .ok (.aload_n 0, 1) := dk_42 (dk_at dksX4_ruleTold_2 15 rfl rfl)
theorem dX4_ruleTold_64 : decode cX4_ruleTold 64 = .ok (.dup, 1) := dk_89 (dk_at dksX4_ruleTold_2 16 rfl rfl)
theorem dX4_ruleTold_65 : decode cX4_ruleTold 65 = .ok (.getfield 90, 3) := dk_180 0 90 (dk_at dksX4_ruleTold_2 17 rfl rfl)
theorem dX4_ruleTold_68 : decode cX4_ruleTold 68 = .ok (.iconst 1, 1) := dk_4 (dk_at dksX4_ruleTold_2 20 rfl rfl)
theorem dX4_ruleTold_69 : decode cX4_ruleTold 69 = .ok (.iadd, 1) := dk_96 (dk_at dksX4_ruleTold_2 21 rfl rfl)
theorem dX4_ruleTold_70 : decode cX4_ruleTold 70 = .ok (.putfield 90, 3) := dk_181 0 90 (dk_at dksX4_ruleTold_3 0 rfl rfl)
theorem dX4_ruleTold_73 : decode cX4_ruleTold 73 = .ok (.aload_n 0, 1) := dk_42 (dk_at dksX4_ruleTold_3 3 rfl rfl)
theorem dX4_ruleTold_74 : decode cX4_ruleTold 74 = .ok (.dup, 1) := dk_89 (dk_at dksX4_ruleTold_3 4 rfl rfl)
theorem dX4_ruleTold_75 : decode cX4_ruleTold 75 = .ok (.getfield 42, 3) := dk_180 0 42 (dk_at dksX4_ruleTold_3 5 rfl rfl)
theorem dX4_ruleTold_78 : decode cX4_ruleTold 78 = .ok (.iconst 3, 1) := dk_6 (dk_at dksX4_ruleTold_3 8 rfl rfl)
theorem dX4_ruleTold_79 : decode cX4_ruleTold 79 = .ok (.iadd, 1) := dk_96 (dk_at dksX4_ruleTold_3 9 rfl rfl)
theorem dX4_ruleTold_80 : decode cX4_ruleTold 80 = .ok (.putfield 42, 3) := dk_181 0 42 (dk_at dksX4_ruleTold_3 10 rfl rfl)
theorem dX4_ruleTold_83 : decode cX4_ruleTold 83 = .ok (.aload_n 1, 1) := dk_43 (dk_at dksX4_ruleTold_3 13 rfl rfl)
theorem dX4_ruleTold_84 : decode cX4_ruleTold 84 = .ok (.getfield 269, 3) := dk_180 1 13 (dk_at dksX4_ruleTold_3 14 rfl rfl)
theorem dX4_ruleTold_87 : decode cX4_ruleTold 87 = .ok (.aload_n 1, 1) := dk_43 (dk_at dksX4_ruleTold_3 17 rfl rfl)
theorem dX4_ruleTold_88 : decode cX4_ruleTold 88 = .ok (.getfield 273, 3) := dk_180 1 17 (dk_at dksX4_ruleTold_3 18 rfl rfl)
theorem dX4_ruleTold_91 : decode cX4_ruleTold 91 = .ok (.aload_n 0, 1) := dk_42 (dk_at dksX4_ruleTold_3 21 rfl rfl)
theorem dX4_ruleTold_92 : decode cX4_ruleTold 92 = .ok (.invokevirtual 274, 3) := dk_182 1 18 (dk_at dksX4_ruleTold_4 0 rfl rfl)
theorem dX4_ruleTold_95 : decode cX4_ruleTold 95 = .ok (.aastore, 1) := dk_83 (dk_at dksX4_ruleTold_4 3 rfl rfl)
theorem dX4_ruleTold_96 : decode cX4_ruleTold 96 = .ok (.aload_n 1, 1) := dk_43 (dk_at dksX4_ruleTold_4 4 rfl rfl)
theorem dX4_ruleTold_97 : decode cX4_ruleTold 97 = .ok (.dup, 1) := dk_89 (dk_at dksX4_ruleTold_4 5 rfl rfl)
theorem dX4_ruleTold_98 : decode cX4_ruleTold 98 = .ok (.getfield 273, 3) := dk_180 1 17 (dk_at dksX4_ruleTold_4 6 rfl rfl)
theorem dX4_ruleTold_101 : decode cX4_ruleTold 101 = .ok (.iconst 1, 1) := dk_4 (dk_at dksX4_ruleTold_4 9 rfl rfl)
theorem dX4_ruleTold_102 : decode cX4_ruleTold 102 = .ok (.iadd, 1) := dk_96 (dk_at dksX4_ruleTold_4 10 rfl rfl)
theorem dX4_ruleTold_103 : decode cX4_ruleTold 103 = .ok (.putfield 273, 3) := dk_181 1 17 (dk_at dksX4_ruleTold_4 11 rfl rfl)
theorem dX4_ruleTold_106 : decode cX4_ruleTold 106 = .ok (.aload_n 0, 1) := dk_42 (dk_at dksX4_ruleTold_4 14 rfl rfl)
theorem dX4_ruleTold_107 : decode cX4_ruleTold 107 = .ok (.bipush 59, 2) := dk_16 59 (dk_at dksX4_ruleTold_4 15 rfl rfl)
theorem dX4_ruleTold_109 : decode cX4_ruleTold 109 = .ok (.invokevirtual 191, 3) := dk_182 0 191 (dk_at dksX4_ruleTold_4 17 rfl rfl)
theorem dX4_ruleTold_112 : decode cX4_ruleTold 112 = .ok (.ifCond .ne (-104), 3) := dk_154 255 152 (dk_at dksX4_ruleTold_4 20 rfl rfl)
theorem dX4_ruleTold_115 : decode cX4_ruleTold 115 = .ok (.aload_n 0, 1) := dk_42 (dk_at dksX4_ruleTold_4 23 rfl rfl)
theorem dX4_ruleTold_116 : decode cX4_ruleTold 116 = .ok (.invokevirtual 194, 3) := dk_182 0 194 (dk_at dksX4_ruleTold_5 0 rfl rfl)
theorem dX4_ruleTold_119 : decode cX4_ruleTold 119 = .ok (.aload_n 1, 1) := dk_43 (dk_at dksX4_ruleTold_5 3 rfl rfl)
theorem dX4_ruleTold_120 : decode cX4_ruleTold 120 = .ok (.areturn, 1) := dk_176 (dk_at dksX4_ruleTold_5 4 rfl rfl)
abbrev cX4_clauseHere : ByteArray := prog_16_method_26_code
def yX4_clauseHere : MethodName := ⟨RX4, "clauseHere", "()LTruthBridge$Clause;"⟩
def dkwX4_clauseHere_1 : List UInt8 := [153, 0, 10, 42, 182, 0, 255, 167, 0, 4, 1, 181, 1, 3, 43, 176]
abbrev dktX4_clauseHere_1 : List UInt8 := dkwX4_clauseHere_1 ++ []
def dkwX4_clauseHere_0 : List UInt8 := [187, 0, 243, 89, 183, 0, 245, 76, 43, 42, 182, 0, 246, 181, 0, 250, 43, 42, 18, 253, 182, 0, 206]
abbrev dktX4_clauseHere_0 : List UInt8 := dkwX4_clauseHere_0 ++ dktX4_clauseHere_1
theorem dksX4_clauseHere_0 : cX4_clauseHere.data.toList.drop 0 = dktX4_clauseHere_0 := by decide +kernel
theorem dksX4_clauseHere_1 : cX4_clauseHere.data.toList.drop 23 = dktX4_clauseHere_1 := dk_seg dksX4_clauseHere_0 23 rfl rfl
theorem dX4_clauseHere_0 : decode cX4_clauseHere 0 = .ok (.new 243, 3) := dk_187 0 243 (dk_at dksX4_clauseHere_0 0 rfl rfl)
theorem dX4_clauseHere_3 : decode cX4_clauseHere 3 = .ok (.dup, 1) := dk_89 (dk_at dksX4_clauseHere_0 3 rfl rfl)
theorem dX4_clauseHere_4 : decode cX4_clauseHere 4 = .ok (.invokespecial 245, 3) := dk_183 0 245 (dk_at dksX4_clauseHere_0 4 rfl rfl)
theorem dX4_clauseHere_7 : decode cX4_clauseHere 7 = .ok (.astore_n 1, 1) := dk_76 (dk_at dksX4_clauseHere_0 7 rfl rfl)
theorem dX4_clauseHere_8 : decode cX4_clauseHere 8 = .ok (.aload_n 1, 1) := dk_43 (dk_at dksX4_clauseHere_0 8 rfl rfl)
theorem dX4_clauseHere_9 : decode cX4_clauseHere 9 = .ok (.aload_n 0, 1) := dk_42 (dk_at dksX4_clauseHere_0 9 rfl rfl)
theorem dX4_clauseHere_10 : decode cX4_clauseHere 10 = .ok (.invokevirtual 246, 3) := dk_182 0 246 (dk_at dksX4_clauseHere_0 10 rfl rfl)
theorem dX4_clauseHere_13 : decode cX4_clauseHere 13 = .ok (.putfield 250, 3) := dk_181 0 250 (dk_at dksX4_clauseHere_0 13 rfl rfl)
theorem dX4_clauseHere_16 : decode cX4_clauseHere 16 = .ok (.aload_n 1, 1) := dk_43 (dk_at dksX4_clauseHere_0 16 rfl rfl)
theorem dX4_clauseHere_17 : decode cX4_clauseHere 17 = .ok (.aload_n 0, 1) := dk_42 (dk_at dksX4_clauseHere_0 17 rfl rfl)
theorem dX4_clauseHere_18 : decode cX4_clauseHere 18 = .ok (.ldc 253, 2) := dk_18 253 (dk_at dksX4_clauseHere_0 18 rfl rfl)
theorem dX4_clauseHere_20 : decode cX4_clauseHere 20 = .ok (.invokevirtual 206, 3) := dk_182 0 206 (dk_at dksX4_clauseHere_0 20 rfl rfl)
theorem dX4_clauseHere_23 : decode cX4_clauseHere 23 = .ok (.ifCond .eq 10, 3) := dk_153 0 10 (dk_at dksX4_clauseHere_1 0 rfl rfl)
theorem dX4_clauseHere_26 : decode cX4_clauseHere 26 = .ok (.aload_n 0, 1) := dk_42 (dk_at dksX4_clauseHere_1 3 rfl rfl)
theorem dX4_clauseHere_27 : decode cX4_clauseHere 27 = .ok (.invokevirtual 255, 3) := dk_182 0 255 (dk_at dksX4_clauseHere_1 4 rfl rfl)
theorem dX4_clauseHere_30 : decode cX4_clauseHere 30 = .ok (.goto 4, 3) := dk_167 0 4 (dk_at dksX4_clauseHere_1 7 rfl rfl)
theorem dX4_clauseHere_33 : decode cX4_clauseHere 33 = .ok (.aconst_null, 1) := dk_1 (dk_at dksX4_clauseHere_1 10 rfl rfl)
theorem dX4_clauseHere_34 : decode cX4_clauseHere 34 = .ok (.putfield 259, 3) := dk_181 1 3 (dk_at dksX4_clauseHere_1 11 rfl rfl)
theorem dX4_clauseHere_37 : decode cX4_clauseHere 37 = .ok (.aload_n 1, 1) := dk_43 (dk_at dksX4_clauseHere_1 14 rfl rfl)
theorem dX4_clauseHere_38 : decode cX4_clauseHere 38 = .ok (.areturn, 1) := dk_176 (dk_at dksX4_clauseHere_1 15 rfl rfl)
abbrev cX4_sum : ByteArray := prog_16_method_32_code
def yX4_sum : MethodName := ⟨RX4, "sum", "()LTruthBridge$Value;"⟩
def dkwX4_sum_2 : List UInt8 := [187, 1, 52, 89, 43, 28, 42, 182, 1, 49, 183, 1, 54, 76, 167, 255, 201, 43, 176]
abbrev dktX4_sum_2 : List UInt8 := dkwX4_sum_2 ++ []
def dkwX4_sum_1 : List UInt8 := [180, 0, 3, 180, 0, 48, 42, 180, 0, 42, 51, 61, 42, 89, 180, 0, 42, 4, 96, 181, 0, 42]
abbrev dktX4_sum_1 : List UInt8 := dkwX4_sum_1 ++ dktX4_sum_2
def dkwX4_sum_0 : List UInt8 := [42, 182, 1, 49, 76, 42, 182, 0, 52, 16, 43, 159, 0, 12, 42, 182, 0, 52, 16, 45, 160, 0, 43, 42]
abbrev dktX4_sum_0 : List UInt8 := dkwX4_sum_0 ++ dktX4_sum_1
theorem dksX4_sum_0 : cX4_sum.data.toList.drop 0 = dktX4_sum_0 := by decide +kernel
theorem dksX4_sum_1 : cX4_sum.data.toList.drop 24 = dktX4_sum_1 := dk_seg dksX4_sum_0 24 rfl rfl
theorem dksX4_sum_2 : cX4_sum.data.toList.drop 46 = dktX4_sum_2 := dk_seg dksX4_sum_1 22 rfl rfl
theorem dX4_sum_0 : decode cX4_sum 0 = .ok (.aload_n 0, 1) := dk_42 (dk_at dksX4_sum_0 0 rfl rfl)
theorem dX4_sum_1 : decode cX4_sum 1 = .ok (.invokevirtual 305, 3) := dk_182 1 49 (dk_at dksX4_sum_0 1 rfl rfl)
theorem dX4_sum_4 : decode cX4_sum 4 = .ok (.astore_n 1, 1) := dk_76 (dk_at dksX4_sum_0 4 rfl rfl)
theorem dX4_sum_5 : decode cX4_sum 5 = .ok (.aload_n 0, 1) := dk_42 (dk_at dksX4_sum_0 5 rfl rfl)
theorem dX4_sum_6 : decode cX4_sum 6 = .ok (.invokevirtual 52, 3) := dk_182 0 52 (dk_at dksX4_sum_0 6 rfl rfl)
theorem dX4_sum_9 : decode cX4_sum 9 = .ok (.bipush 43, 2) := dk_16 43 (dk_at dksX4_sum_0 9 rfl rfl)
theorem dX4_sum_11 : decode cX4_sum 11 = .ok (.if_icmp .eq 12, 3) := dk_159 0 12 (dk_at dksX4_sum_0 11 rfl rfl)
theorem dX4_sum_14 : decode cX4_sum 14 = .ok (.aload_n 0, 1) := dk_42 (dk_at dksX4_sum_0 14 rfl rfl)
theorem dX4_sum_15 : decode cX4_sum 15 = .ok (.invokevirtual 52, 3) := dk_182 0 52 (dk_at dksX4_sum_0 15 rfl rfl)
theorem dX4_sum_18 : decode cX4_sum 18 = .ok (.bipush 45, 2) := dk_16 45 (dk_at dksX4_sum_0 18 rfl rfl)
theorem dX4_sum_20 : decode cX4_sum 20 = .ok (.if_icmp .ne 43, 3) := dk_160 0 43 (dk_at dksX4_sum_0 20 rfl rfl)
theorem dX4_sum_23 : decode cX4_sum 23 = .ok (.aload_n 0, 1) := dk_42 (dk_at dksX4_sum_0 23 rfl rfl)
theorem dX4_sum_24 : decode cX4_sum 24 = .ok (.getfield 3, 3) := dk_180 0 3 (dk_at dksX4_sum_1 0 rfl rfl)
theorem dX4_sum_27 : decode cX4_sum 27 = .ok (.getfield 48, 3) := dk_180 0 48 (dk_at dksX4_sum_1 3 rfl rfl)
theorem dX4_sum_30 : decode cX4_sum 30 = .ok (.aload_n 0, 1) := dk_42 (dk_at dksX4_sum_1 6 rfl rfl)
theorem dX4_sum_31 : decode cX4_sum 31 = .ok (.getfield 42, 3) := dk_180 0 42 (dk_at dksX4_sum_1 7 rfl rfl)
theorem dX4_sum_34 : decode cX4_sum 34 = .ok (.baload, 1) := dk_51 (dk_at dksX4_sum_1 10 rfl rfl)
theorem dX4_sum_35 : decode cX4_sum 35 = .ok (.istore_n 2, 1) := dk_61 (dk_at dksX4_sum_1 11 rfl rfl)
theorem dX4_sum_36 : decode cX4_sum 36 = .ok (.aload_n 0, 1) := dk_42 (dk_at dksX4_sum_1 12 rfl rfl)
theorem dX4_sum_37 : decode cX4_sum 37 = .ok (.dup, 1) := dk_89 (dk_at dksX4_sum_1 13 rfl rfl)
theorem dX4_sum_38 : decode cX4_sum 38 = .ok (.getfield 42, 3) := dk_180 0 42 (dk_at dksX4_sum_1 14 rfl rfl)
theorem dX4_sum_41 : decode cX4_sum 41 = .ok (.iconst 1, 1) := dk_4 (dk_at dksX4_sum_1 17 rfl rfl)
theorem dX4_sum_42 : decode cX4_sum 42 = .ok (.iadd, 1) := dk_96 (dk_at dksX4_sum_1 18 rfl rfl)
theorem dX4_sum_43 : decode cX4_sum 43 = .ok (.putfield 42, 3) := dk_181 0 42 (dk_at dksX4_sum_1 19 rfl rfl)
theorem dX4_sum_46 : decode cX4_sum 46 = .ok (.new 308, 3) := dk_187 1 52 (dk_at dksX4_sum_2 0 rfl rfl)
theorem dX4_sum_49 : decode cX4_sum 49 = .ok (.dup, 1) := dk_89 (dk_at dksX4_sum_2 3 rfl rfl)
theorem dX4_sum_50 : decode cX4_sum 50 = .ok (.aload_n 1, 1) := dk_43 (dk_at dksX4_sum_2 4 rfl rfl)
theorem dX4_sum_51 : decode cX4_sum 51 = .ok (.iload_n 2, 1) := dk_28 (dk_at dksX4_sum_2 5 rfl rfl)
theorem dX4_sum_52 : decode cX4_sum 52 = .ok (.aload_n 0, 1) := dk_42 (dk_at dksX4_sum_2 6 rfl rfl)
theorem dX4_sum_53 : decode cX4_sum 53 = .ok (.invokevirtual 305, 3) := dk_182 1 49 (dk_at dksX4_sum_2 7 rfl rfl)
theorem dX4_sum_56 : decode cX4_sum 56 = .ok (.invokespecial 310, 3) := dk_183 1 54 (dk_at dksX4_sum_2 10 rfl rfl)
theorem dX4_sum_59 : decode cX4_sum 59 = .ok (.astore_n 1, 1) := dk_76 (dk_at dksX4_sum_2 13 rfl rfl)
theorem dX4_sum_60 : decode cX4_sum 60 = .ok (.goto (-55), 3) := dk_167 255 201 (dk_at dksX4_sum_2 14 rfl rfl)
theorem dX4_sum_63 : decode cX4_sum 63 = .ok (.aload_n 1, 1) := dk_43 (dk_at dksX4_sum_2 17 rfl rfl)
theorem dX4_sum_64 : decode cX4_sum 64 = .ok (.areturn, 1) := dk_176 (dk_at dksX4_sum_2 18 rfl rfl)
abbrev cX4_term : ByteArray := prog_16_method_33_code
def yX4_term : MethodName := ⟨RX4, "term", "()LTruthBridge$Value;"⟩
def dkwX4_term_3 : List UInt8 := [167, 255, 192, 43, 176]
abbrev dktX4_term_3 : List UInt8 := dkwX4_term_3 ++ []
def dkwX4_term_2 : List UInt8 := [180, 0, 42, 4, 96, 181, 0, 42, 187, 1, 52, 89, 43, 28, 42, 182, 1, 55, 183, 1, 54, 76]
abbrev dktX4_term_2 : List UInt8 := dkwX4_term_2 ++ dktX4_term_3
def dkwX4_term_1 : List UInt8 := [182, 0, 52, 16, 37, 160, 0, 43, 42, 180, 0, 3, 180, 0, 48, 42, 180, 0, 42, 51, 61, 42, 89]
abbrev dktX4_term_1 : List UInt8 := dkwX4_term_1 ++ dktX4_term_2
def dkwX4_term_0 : List UInt8 := [42, 182, 1, 55, 76, 42, 182, 0, 52, 16, 42, 159, 0, 21, 42, 182, 0, 52, 16, 47, 159, 0, 12, 42]
abbrev dktX4_term_0 : List UInt8 := dkwX4_term_0 ++ dktX4_term_1
theorem dksX4_term_0 : cX4_term.data.toList.drop 0 = dktX4_term_0 := by decide +kernel
theorem dksX4_term_1 : cX4_term.data.toList.drop 24 = dktX4_term_1 := dk_seg dksX4_term_0 24 rfl rfl
theorem dksX4_term_2 : cX4_term.data.toList.drop 47 = dktX4_term_2 := dk_seg dksX4_term_1 23 rfl rfl
theorem dksX4_term_3 : cX4_term.data.toList.drop 69 = dktX4_term_3 := dk_seg dksX4_term_2 22 rfl rfl
theorem dX4_term_0 : decode cX4_term 0 = .ok (.aload_n 0, 1) := dk_42 (dk_at dksX4_term_0 0 rfl rfl)
theorem dX4_term_1 : decode cX4_term 1 = .ok (.invokevirtual 311, 3) := dk_182 1 55 (dk_at dksX4_term_0 1 rfl rfl)
theorem dX4_term_4 : decode cX4_term 4 = .ok (.astore_n 1, 1) := dk_76 (dk_at dksX4_term_0 4 rfl rfl)
theorem dX4_term_5 : decode cX4_term 5 = .ok (.aload_n 0, 1) := dk_42 (dk_at dksX4_term_0 5 rfl rfl)
theorem dX4_term_6 : decode cX4_term 6 = .ok (.invokevirtual 52, 3) := dk_182 0 52 (dk_at dksX4_term_0 6 rfl rfl)
theorem dX4_term_9 : decode cX4_term 9 = .ok (.bipush 42, 2) := dk_16 42 (dk_at dksX4_term_0 9 rfl rfl)
theorem dX4_term_11 : decode cX4_term 11 = .ok (.if_icmp .eq 21, 3) := dk_159 0 21 (dk_at dksX4_term_0 11 rfl rfl)
theorem dX4_term_14 : decode cX4_term 14 = .ok (.aload_n 0, 1) := dk_42 (dk_at dksX4_term_0 14 rfl rfl)
theorem dX4_term_15 : decode cX4_term 15 = .ok (.invokevirtual 52, 3) := dk_182 0 52 (dk_at dksX4_term_0 15 rfl rfl)
theorem dX4_term_18 : decode cX4_term 18 = .ok (.bipush 47, 2) := dk_16 47 (dk_at dksX4_term_0 18 rfl rfl)
theorem dX4_term_20 : decode cX4_term 20 = .ok (.if_icmp .eq 12, 3) := dk_159 0 12 (dk_at dksX4_term_0 20 rfl rfl)
theorem dX4_term_23 : decode cX4_term 23 = .ok (.aload_n 0, 1) := dk_42 (dk_at dksX4_term_0 23 rfl rfl)
theorem dX4_term_24 : decode cX4_term 24 = .ok (.invokevirtual 52, 3) := dk_182 0 52 (dk_at dksX4_term_1 0 rfl rfl)
theorem dX4_term_27 : decode cX4_term 27 = .ok (.bipush 37, 2) := dk_16 37 (dk_at dksX4_term_1 3 rfl rfl)
theorem dX4_term_29 : decode cX4_term 29 = .ok (.if_icmp .ne 43, 3) := dk_160 0 43 (dk_at dksX4_term_1 5 rfl rfl)
theorem dX4_term_32 : decode cX4_term 32 = .ok (.aload_n 0, 1) := dk_42 (dk_at dksX4_term_1 8 rfl rfl)
theorem dX4_term_33 : decode cX4_term 33 = .ok (.getfield 3, 3) := dk_180 0 3 (dk_at dksX4_term_1 9 rfl rfl)
theorem dX4_term_36 : decode cX4_term 36 = .ok (.getfield 48, 3) := dk_180 0 48 (dk_at dksX4_term_1 12 rfl rfl)
theorem dX4_term_39 : decode cX4_term 39 = .ok (.aload_n 0, 1) := dk_42 (dk_at dksX4_term_1 15 rfl rfl)
theorem dX4_term_40 : decode cX4_term 40 = .ok (.getfield 42, 3) := dk_180 0 42 (dk_at dksX4_term_1 16 rfl rfl)
theorem dX4_term_43 : decode cX4_term 43 = .ok (.baload, 1) := dk_51 (dk_at dksX4_term_1 19 rfl rfl)
theorem dX4_term_44 : decode cX4_term 44 = .ok (.istore_n 2, 1) := dk_61 (dk_at dksX4_term_1 20 rfl rfl)
theorem dX4_term_45 : decode cX4_term 45 = .ok (.aload_n 0, 1) := dk_42 (dk_at dksX4_term_1 21 rfl rfl)
theorem dX4_term_46 : decode cX4_term 46 = .ok (.dup, 1) := dk_89 (dk_at dksX4_term_1 22 rfl rfl)
theorem dX4_term_47 : decode cX4_term 47 = .ok (.getfield 42, 3) := dk_180 0 42 (dk_at dksX4_term_2 0 rfl rfl)
theorem dX4_term_50 : decode cX4_term 50 = .ok (.iconst 1, 1) := dk_4 (dk_at dksX4_term_2 3 rfl rfl)
theorem dX4_term_51 : decode cX4_term 51 = .ok (.iadd, 1) := dk_96 (dk_at dksX4_term_2 4 rfl rfl)
theorem dX4_term_52 : decode cX4_term 52 = .ok (.putfield 42, 3) := dk_181 0 42 (dk_at dksX4_term_2 5 rfl rfl)
theorem dX4_term_55 : decode cX4_term 55 = .ok (.new 308, 3) := dk_187 1 52 (dk_at dksX4_term_2 8 rfl rfl)
theorem dX4_term_58 : decode cX4_term 58 = .ok (.dup, 1) := dk_89 (dk_at dksX4_term_2 11 rfl rfl)
theorem dX4_term_59 : decode cX4_term 59 = .ok (.aload_n 1, 1) := dk_43 (dk_at dksX4_term_2 12 rfl rfl)
theorem dX4_term_60 : decode cX4_term 60 = .ok (.iload_n 2, 1) := dk_28 (dk_at dksX4_term_2 13 rfl rfl)
theorem dX4_term_61 : decode cX4_term 61 = .ok (.aload_n 0, 1) := dk_42 (dk_at dksX4_term_2 14 rfl rfl)
theorem dX4_term_62 : decode cX4_term 62 = .ok (.invokevirtual 311, 3) := dk_182 1 55 (dk_at dksX4_term_2 15 rfl rfl)
theorem dX4_term_65 : decode cX4_term 65 = .ok (.invokespecial 310, 3) := dk_183 1 54 (dk_at dksX4_term_2 18 rfl rfl)
theorem dX4_term_68 : decode cX4_term 68 = .ok (.astore_n 1, 1) := dk_76 (dk_at dksX4_term_2 21 rfl rfl)
theorem dX4_term_69 : decode cX4_term 69 = .ok (.goto (-64), 3) := dk_167 255 192 (dk_at dksX4_term_3 0 rfl rfl)
theorem dX4_term_72 : decode cX4_term 72 = .ok (.aload_n 1, 1) := dk_43 (dk_at dksX4_term_3 3 rfl rfl)
theorem dX4_term_73 : decode cX4_term 73 = .ok (.areturn, 1) := dk_176 (dk_at dksX4_term_3 4 rfl rfl)
abbrev cX4_value : ByteArray := prog_16_method_34_code
def yX4_value : MethodName := ⟨RX4, "value", "()LTruthBridge$Value;"⟩
def dkwX4_value_4 : List UInt8 := [89, 28, 183, 1, 66, 176]
abbrev dktX4_value_4 : List UInt8 := dkwX4_value_4 ++ []
def dkwX4_value_3 : List UInt8 := [182, 1, 41, 42, 89, 180, 0, 42, 42, 180, 0, 19, 28, 50, 182, 0, 59, 96, 181, 0, 42, 187, 1, 64]
abbrev dktX4_value_3 : List UInt8 := dkwX4_value_3 ++ dktX4_value_4
def dkwX4_value_2 : List UInt8 := [182, 0, 181, 61, 42, 28, 2, 159, 0, 7, 4, 167, 0, 4, 3, 3, 27, 182, 0, 76, 42, 27]
abbrev dktX4_value_2 : List UInt8 := dkwX4_value_2 ++ dktX4_value_3
def dkwX4_value_1 : List UInt8 := [182, 0, 110, 61, 42, 27, 182, 1, 41, 187, 1, 59, 89, 28, 133, 183, 1, 61, 176, 42, 42, 180, 0, 19]
abbrev dktX4_value_1 : List UInt8 := dkwX4_value_1 ++ dktX4_value_2
def dkwX4_value_0 : List UInt8 := [42, 182, 0, 52, 87, 42, 180, 0, 42, 60, 42, 27, 182, 0, 72, 153, 0, 27, 42, 3, 19, 1, 58]
abbrev dktX4_value_0 : List UInt8 := dkwX4_value_0 ++ dktX4_value_1
theorem dksX4_value_0 : cX4_value.data.toList.drop 0 = dktX4_value_0 := by decide +kernel
theorem dksX4_value_1 : cX4_value.data.toList.drop 23 = dktX4_value_1 := dk_seg dksX4_value_0 23 rfl rfl
theorem dksX4_value_2 : cX4_value.data.toList.drop 47 = dktX4_value_2 := dk_seg dksX4_value_1 24 rfl rfl
theorem dksX4_value_3 : cX4_value.data.toList.drop 69 = dktX4_value_3 := dk_seg dksX4_value_2 22 rfl rfl
theorem dksX4_value_4 : cX4_value.data.toList.drop 93 = dktX4_value_4 := dk_seg dksX4_value_3 24 rfl rfl
theorem dX4_value_0 : decode cX4_value 0 = .ok (.aload_n 0, 1) := dk_42 (dk_at dksX4_value_0 0 rfl rfl)
theorem dX4_value_1 : decode cX4_value 1 = .ok (.invokevirtual 52, 3) := dk_182 0 52 (dk_at dksX4_value_0 1 rfl rfl)
theorem dX4_value_4 : decode cX4_value 4 = .ok (.pop, 1) := dk_87 (dk_at dksX4_value_0 4 rfl rfl)
theorem dX4_value_5 : decode cX4_value 5 = .ok (.aload_n 0, 1) := dk_42 (dk_at dksX4_value_0 5 rfl rfl)
theorem dX4_value_6 : decode cX4_value 6 = .ok (.getfield 42, 3) := dk_180 0 42 (dk_at dksX4_value_0 6 rfl rfl)
theorem dX4_value_9 : decode cX4_value 9 = .ok (.istore_n 1, 1) := dk_60 (dk_at dksX4_value_0 9 rfl rfl)
theorem dX4_value_10 : decode cX4_value 10 = .ok (.aload_n 0, 1) := dk_42 (dk_at dksX4_value_0 10 rfl rfl)
theorem dX4_value_11 : decode cX4_value 11 = .ok (.iload_n 1, 1) := dk_27 (dk_at dksX4_value_0 11 rfl rfl)
theorem dX4_value_12 : decode cX4_value 12 = .ok (.invokevirtual 72, 3) := dk_182 0 72 (dk_at dksX4_value_0 12 rfl rfl)
theorem dX4_value_15 : decode cX4_value 15 = .ok (.ifCond .eq 27, 3) := dk_153 0 27 (dk_at dksX4_value_0 15 rfl rfl)
theorem dX4_value_18 : decode cX4_value 18 = .ok (.aload_n 0, 1) := dk_42 (dk_at dksX4_value_0 18 rfl rfl)
theorem dX4_value_19 : decode cX4_value 19 = .ok (.iconst 0, 1) := dk_3 (dk_at dksX4_value_0 19 rfl rfl)
theorem dX4_value_20 : decode cX4_value 20 = .ok (.ldc_w 314, 3) := dk_19 1 58 (dk_at dksX4_value_0 20 rfl rfl)
theorem dX4_value_23 : decode cX4_value 23 = .ok (.invokevirtual 110, 3) := dk_182 0 110 (dk_at dksX4_value_1 0 rfl rfl)
theorem dX4_value_26 : decode cX4_value 26 = .ok (.istore_n 2, 1) := dk_61 (dk_at dksX4_value_1 3 rfl rfl)
theorem dX4_value_27 : decode cX4_value 27 = .ok (.aload_n 0, 1) := dk_42 (dk_at dksX4_value_1 4 rfl rfl)
theorem dX4_value_28 : decode cX4_value 28 = .ok (.iload_n 1, 1) := dk_27 (dk_at dksX4_value_1 5 rfl rfl)
theorem dX4_value_29 : decode cX4_value 29 = .ok (.invokevirtual 297, 3) := dk_182 1 41 (dk_at dksX4_value_1 6 rfl rfl)
theorem dX4_value_32 : decode cX4_value 32 = .ok (.new 315, 3) := dk_187 1 59 (dk_at dksX4_value_1 9 rfl rfl)
theorem dX4_value_35 : decode cX4_value 35 = .ok (.dup, 1) := dk_89 (dk_at dksX4_value_1 12 rfl rfl)
theorem dX4_value_36 : decode cX4_value 36 = .ok (.iload_n 2, 1) := dk_28 (dk_at dksX4_value_1 13 rfl rfl)
theorem dX4_value_37 : decode cX4_value 37 = .ok (.i2l, 1) := dk_133 (dk_at dksX4_value_1 14 rfl rfl)
theorem dX4_value_38 : decode cX4_value 38 = .ok (.invokespecial 317, 3) := dk_183 1 61 (dk_at dksX4_value_1 15 rfl rfl)
theorem dX4_value_41 : decode cX4_value 41 = .ok (.areturn, 1) := dk_176 (dk_at dksX4_value_1 18 rfl rfl)
theorem dX4_value_42 : decode cX4_value 42 = .ok (.aload_n 0, 1) := dk_42 (dk_at dksX4_value_1 19 rfl rfl)
theorem dX4_value_43 : decode cX4_value 43 = .ok (.aload_n 0, 1) := dk_42 (dk_at dksX4_value_1 20 rfl rfl)
theorem dX4_value_44 : decode cX4_value 44 = .ok (.getfield 19, 3) := dk_180 0 19 (dk_at dksX4_value_1 21 rfl rfl)
theorem dX4_value_47 : decode cX4_value 47 = .ok (.invokevirtual 181, 3) := dk_182 0 181 (dk_at dksX4_value_2 0 rfl rfl)
theorem dX4_value_50 : decode cX4_value 50 = .ok (.istore_n 2, 1) := dk_61 (dk_at dksX4_value_2 3 rfl rfl)
theorem dX4_value_51 : decode cX4_value 51 = .ok (.aload_n 0, 1) := dk_42 (dk_at dksX4_value_2 4 rfl rfl)
theorem dX4_value_52 : decode cX4_value 52 = .ok (.iload_n 2, 1) := dk_28 (dk_at dksX4_value_2 5 rfl rfl)
theorem dX4_value_53 : decode cX4_value 53 = .ok (.iconst (-1), 1) := dk_2 (dk_at dksX4_value_2 6 rfl rfl)
theorem dX4_value_54 : decode cX4_value 54 = .ok (.if_icmp .eq 7, 3) := dk_159 0 7 (dk_at dksX4_value_2 7 rfl rfl)
theorem dX4_value_57 : decode cX4_value 57 = .ok (.iconst 1, 1) := dk_4 (dk_at dksX4_value_2 10 rfl rfl)
theorem dX4_value_58 : decode cX4_value 58 = .ok (.goto 4, 3) := dk_167 0 4 (dk_at dksX4_value_2 11 rfl rfl)
theorem dX4_value_61 : decode cX4_value 61 = .ok (.iconst 0, 1) := dk_3 (dk_at dksX4_value_2 14 rfl rfl)
theorem dX4_value_62 : decode cX4_value 62 = .ok (.iconst 0, 1) := dk_3 (dk_at dksX4_value_2 15 rfl rfl)
theorem dX4_value_63 : decode cX4_value 63 = .ok (.iload_n 1, 1) := dk_27 (dk_at dksX4_value_2 16 rfl rfl)
theorem dX4_value_64 : decode cX4_value 64 = .ok (.invokevirtual 76, 3) := dk_182 0 76 (dk_at dksX4_value_2 17 rfl rfl)
theorem dX4_value_67 : decode cX4_value 67 = .ok (.aload_n 0, 1) := dk_42 (dk_at dksX4_value_2 20 rfl rfl)
theorem dX4_value_68 : decode cX4_value 68 = .ok (.iload_n 1, 1) := dk_27 (dk_at dksX4_value_2 21 rfl rfl)
theorem dX4_value_69 : decode cX4_value 69 = .ok (.invokevirtual 297, 3) := dk_182 1 41 (dk_at dksX4_value_3 0 rfl rfl)
theorem dX4_value_72 : decode cX4_value 72 = .ok (.aload_n 0, 1) := dk_42 (dk_at dksX4_value_3 3 rfl rfl)
theorem dX4_value_73 : decode cX4_value 73 = .ok (.dup, 1) := dk_89 (dk_at dksX4_value_3 4 rfl rfl)
theorem dX4_value_74 : decode cX4_value 74 = .ok (.getfield 42, 3) := dk_180 0 42 (dk_at dksX4_value_3 5 rfl rfl)
theorem dX4_value_77 : decode cX4_value 77 = .ok (.aload_n 0, 1) := dk_42 (dk_at dksX4_value_3 8 rfl rfl)
theorem dX4_value_78 : decode cX4_value 78 = .ok (.getfield 19, 3) := dk_180 0 19 (dk_at dksX4_value_3 9 rfl rfl)
theorem dX4_value_81 : decode cX4_value 81 = .ok (.iload_n 2, 1) := dk_28 (dk_at dksX4_value_3 12 rfl rfl)
theorem dX4_value_82 : decode cX4_value 82 = .ok (.aaload, 1) := dk_50 (dk_at dksX4_value_3 13 rfl rfl)
theorem dX4_value_83 : decode cX4_value 83 = .ok (.invokevirtual 59, 3) := dk_182 0 59 (dk_at dksX4_value_3 14 rfl rfl)
theorem dX4_value_86 : decode cX4_value 86 = .ok (.iadd, 1) := dk_96 (dk_at dksX4_value_3 17 rfl rfl)
theorem dX4_value_87 : decode cX4_value 87 = .ok (.putfield 42, 3) := dk_181 0 42 (dk_at dksX4_value_3 18 rfl rfl)
theorem dX4_value_90 : decode cX4_value 90 = .ok (.new 320, 3) := dk_187 1 64 (dk_at dksX4_value_3 21 rfl rfl)
theorem dX4_value_93 : decode cX4_value 93 = .ok (.dup, 1) := dk_89 (dk_at dksX4_value_4 0 rfl rfl)
theorem dX4_value_94 : decode cX4_value 94 = .ok (.iload_n 2, 1) := dk_28 (dk_at dksX4_value_4 1 rfl rfl)
theorem dX4_value_95 : decode cX4_value 95 = .ok (.invokespecial 322, 3) := dk_183 1 66 (dk_at dksX4_value_4 2 rfl rfl)
theorem dX4_value_98 : decode cX4_value 98 = .ok (.areturn, 1) := dk_176 (dk_at dksX4_value_4 5 rfl rfl)
abbrev cX4_makes : ByteArray := prog_16_method_11_code
def yX4_makes : MethodName := ⟨RX4, "makes", "(I)V"⟩
def dkwX4_makes_1 : List UInt8 := [180, 0, 84, 4, 96, 181, 0, 84, 177]
abbrev dktX4_makes_1 : List UInt8 := dkwX4_makes_1 ++ []
def dkwX4_makes_0 : List UInt8 := [42, 42, 180, 0, 84, 16, 60, 162, 0, 7, 4, 167, 0, 4, 3, 6, 27, 182, 0, 76, 42, 89]
abbrev dktX4_makes_0 : List UInt8 := dkwX4_makes_0 ++ dktX4_makes_1
theorem dksX4_makes_0 : cX4_makes.data.toList.drop 0 = dktX4_makes_0 := by decide +kernel
theorem dksX4_makes_1 : cX4_makes.data.toList.drop 22 = dktX4_makes_1 := dk_seg dksX4_makes_0 22 rfl rfl
theorem dX4_makes_0 : decode cX4_makes 0 = .ok (.aload_n 0, 1) := dk_42 (dk_at dksX4_makes_0 0 rfl rfl)
theorem dX4_makes_1 : decode cX4_makes 1 = .ok (.aload_n 0, 1) := dk_42 (dk_at dksX4_makes_0 1 rfl rfl)
theorem dX4_makes_2 : decode cX4_makes 2 = .ok (.getfield 84, 3) := dk_180 0 84 (dk_at dksX4_makes_0 2 rfl rfl)
theorem dX4_makes_5 : decode cX4_makes 5 = .ok (.bipush 60, 2) := dk_16 60 (dk_at dksX4_makes_0 5 rfl rfl)
theorem dX4_makes_7 : decode cX4_makes 7 = .ok (.if_icmp .ge 7, 3) := dk_162 0 7 (dk_at dksX4_makes_0 7 rfl rfl)
theorem dX4_makes_10 : decode cX4_makes 10 = .ok (.iconst 1, 1) := dk_4 (dk_at dksX4_makes_0 10 rfl rfl)
theorem dX4_makes_11 : decode cX4_makes 11 = .ok (.goto 4, 3) := dk_167 0 4 (dk_at dksX4_makes_0 11 rfl rfl)
theorem dX4_makes_14 : decode cX4_makes 14 = .ok (.iconst 0, 1) := dk_3 (dk_at dksX4_makes_0 14 rfl rfl)
theorem dX4_makes_15 : decode cX4_makes 15 = .ok (.iconst 3, 1) := dk_6 (dk_at dksX4_makes_0 15 rfl rfl)
theorem dX4_makes_16 : decode cX4_makes 16 = .ok (.iload_n 1, 1) := dk_27 (dk_at dksX4_makes_0 16 rfl rfl)
theorem dX4_makes_17 : decode cX4_makes 17 = .ok (.invokevirtual 76, 3) := dk_182 0 76 (dk_at dksX4_makes_0 17 rfl rfl)
theorem dX4_makes_20 : decode cX4_makes 20 = .ok (.aload_n 0, 1) := dk_42 (dk_at dksX4_makes_0 20 rfl rfl)
theorem dX4_makes_21 : decode cX4_makes 21 = .ok (.dup, 1) := dk_89 (dk_at dksX4_makes_0 21 rfl rfl)
theorem dX4_makes_22 : decode cX4_makes 22 = .ok (.getfield 84, 3) := dk_180 0 84 (dk_at dksX4_makes_1 0 rfl rfl)
theorem dX4_makes_25 : decode cX4_makes 25 = .ok (.iconst 1, 1) := dk_4 (dk_at dksX4_makes_1 3 rfl rfl)
theorem dX4_makes_26 : decode cX4_makes 26 = .ok (.iadd, 1) := dk_96 (dk_at dksX4_makes_1 4 rfl rfl)
theorem dX4_makes_27 : decode cX4_makes 27 = .ok (.putfield 84, 3) := dk_181 0 84 (dk_at dksX4_makes_1 5 rfl rfl)
theorem dX4_makes_30 : decode cX4_makes 30 = .ok (.return_, 1) := dk_177 (dk_at dksX4_makes_1 8 rfl rfl)
abbrev cX4_tested : ByteArray := prog_16_method_28_code
def yX4_tested : MethodName := ⟨RX4, "tested", "()LTruthBridge$Test;"⟩
def dkwX4_tested_1 : List UInt8 := [183, 1, 27, 76, 167, 255, 233, 43, 176]
abbrev dktX4_tested_1 : List UInt8 := dkwX4_tested_1 ++ []
def dkwX4_tested_0 : List UInt8 := [42, 182, 1, 22, 76, 42, 18, 204, 182, 0, 206, 153, 0, 20, 187, 1, 25, 89, 43, 3, 42, 182, 1, 22]
abbrev dktX4_tested_0 : List UInt8 := dkwX4_tested_0 ++ dktX4_tested_1
theorem dksX4_tested_0 : cX4_tested.data.toList.drop 0 = dktX4_tested_0 := by decide +kernel
theorem dksX4_tested_1 : cX4_tested.data.toList.drop 24 = dktX4_tested_1 := dk_seg dksX4_tested_0 24 rfl rfl
theorem dX4_tested_0 : decode cX4_tested 0 = .ok (.aload_n 0, 1) := dk_42 (dk_at dksX4_tested_0 0 rfl rfl)
theorem dX4_tested_1 : decode cX4_tested 1 = .ok (.invokevirtual 278, 3) := dk_182 1 22 (dk_at dksX4_tested_0 1 rfl rfl)
theorem dX4_tested_4 : decode cX4_tested 4 = .ok (.astore_n 1, 1) := dk_76 (dk_at dksX4_tested_0 4 rfl rfl)
theorem dX4_tested_5 : decode cX4_tested 5 = .ok (.aload_n 0, 1) := dk_42 (dk_at dksX4_tested_0 5 rfl rfl)
theorem dX4_tested_6 : decode cX4_tested 6 = .ok (.ldc 204, 2) := dk_18 204 (dk_at dksX4_tested_0 6 rfl rfl)
theorem dX4_tested_8 : decode cX4_tested 8 = .ok (.invokevirtual 206, 3) := dk_182 0 206 (dk_at dksX4_tested_0 8 rfl rfl)
theorem dX4_tested_11 : decode cX4_tested 11 = .ok (.ifCond .eq 20, 3) := dk_153 0 20 (dk_at dksX4_tested_0 11 rfl rfl)
theorem dX4_tested_14 : decode cX4_tested 14 = .ok (.new 281, 3) := dk_187 1 25 (dk_at dksX4_tested_0 14 rfl rfl)
theorem dX4_tested_17 : decode cX4_tested 17 = .ok (.dup, 1) := dk_89 (dk_at dksX4_tested_0 17 rfl rfl)
theorem dX4_tested_18 : decode cX4_tested 18 = .ok (.aload_n 1, 1) := dk_43 (dk_at dksX4_tested_0 18 rfl rfl)
theorem dX4_tested_19 : decode cX4_tested 19 = .ok (.iconst 0, 1) := dk_3 (dk_at dksX4_tested_0 19 rfl rfl)
theorem dX4_tested_20 : decode cX4_tested 20 = .ok (.aload_n 0, 1) := dk_42 (dk_at dksX4_tested_0 20 rfl rfl)
theorem dX4_tested_21 : decode cX4_tested 21 = .ok (.invokevirtual 278, 3) := dk_182 1 22 (dk_at dksX4_tested_0 21 rfl rfl)
theorem dX4_tested_24 : decode cX4_tested 24 = .ok (.invokespecial 283, 3) := dk_183 1 27 (dk_at dksX4_tested_1 0 rfl rfl)
theorem dX4_tested_27 : decode cX4_tested 27 = .ok (.astore_n 1, 1) := dk_76 (dk_at dksX4_tested_1 3 rfl rfl)
theorem dX4_tested_28 : decode cX4_tested 28 = .ok (.goto (-23), 3) := dk_167 255 233 (dk_at dksX4_tested_1 4 rfl rfl)
theorem dX4_tested_31 : decode cX4_tested 31 = .ok (.aload_n 1, 1) := dk_43 (dk_at dksX4_tested_1 7 rfl rfl)
theorem dX4_tested_32 : decode cX4_tested 32 = .ok (.areturn, 1) := dk_176 (dk_at dksX4_tested_1 8 rfl rfl)
abbrev cX4_parted : ByteArray := prog_16_method_29_code
def yX4_parted : MethodName := ⟨RX4, "parted", "()LTruthBridge$Test;"⟩
def dkwX4_parted_1 : List UInt8 := [183, 1, 27, 76, 167, 255, 233, 43, 176]
abbrev dktX4_parted_1 : List UInt8 := dkwX4_parted_1 ++ []
def dkwX4_parted_0 : List UInt8 := [42, 182, 1, 30, 76, 42, 18, 217, 182, 0, 206, 153, 0, 20, 187, 1, 25, 89, 43, 4, 42, 182, 1, 30]
abbrev dktX4_parted_0 : List UInt8 := dkwX4_parted_0 ++ dktX4_parted_1
theorem dksX4_parted_0 : cX4_parted.data.toList.drop 0 = dktX4_parted_0 := by decide +kernel
theorem dksX4_parted_1 : cX4_parted.data.toList.drop 24 = dktX4_parted_1 := dk_seg dksX4_parted_0 24 rfl rfl
theorem dX4_parted_0 : decode cX4_parted 0 = .ok (.aload_n 0, 1) := dk_42 (dk_at dksX4_parted_0 0 rfl rfl)
theorem dX4_parted_1 : decode cX4_parted 1 = .ok (.invokevirtual 286, 3) := dk_182 1 30 (dk_at dksX4_parted_0 1 rfl rfl)
theorem dX4_parted_4 : decode cX4_parted 4 = .ok (.astore_n 1, 1) := dk_76 (dk_at dksX4_parted_0 4 rfl rfl)
theorem dX4_parted_5 : decode cX4_parted 5 = .ok (.aload_n 0, 1) := dk_42 (dk_at dksX4_parted_0 5 rfl rfl)
theorem dX4_parted_6 : decode cX4_parted 6 = .ok (.ldc 217, 2) := dk_18 217 (dk_at dksX4_parted_0 6 rfl rfl)
theorem dX4_parted_8 : decode cX4_parted 8 = .ok (.invokevirtual 206, 3) := dk_182 0 206 (dk_at dksX4_parted_0 8 rfl rfl)
theorem dX4_parted_11 : decode cX4_parted 11 = .ok (.ifCond .eq 20, 3) := dk_153 0 20 (dk_at dksX4_parted_0 11 rfl rfl)
theorem dX4_parted_14 : decode cX4_parted 14 = .ok (.new 281, 3) := dk_187 1 25 (dk_at dksX4_parted_0 14 rfl rfl)
theorem dX4_parted_17 : decode cX4_parted 17 = .ok (.dup, 1) := dk_89 (dk_at dksX4_parted_0 17 rfl rfl)
theorem dX4_parted_18 : decode cX4_parted 18 = .ok (.aload_n 1, 1) := dk_43 (dk_at dksX4_parted_0 18 rfl rfl)
theorem dX4_parted_19 : decode cX4_parted 19 = .ok (.iconst 1, 1) := dk_4 (dk_at dksX4_parted_0 19 rfl rfl)
theorem dX4_parted_20 : decode cX4_parted 20 = .ok (.aload_n 0, 1) := dk_42 (dk_at dksX4_parted_0 20 rfl rfl)
theorem dX4_parted_21 : decode cX4_parted 21 = .ok (.invokevirtual 286, 3) := dk_182 1 30 (dk_at dksX4_parted_0 21 rfl rfl)
theorem dX4_parted_24 : decode cX4_parted 24 = .ok (.invokespecial 283, 3) := dk_183 1 27 (dk_at dksX4_parted_1 0 rfl rfl)
theorem dX4_parted_27 : decode cX4_parted 27 = .ok (.astore_n 1, 1) := dk_76 (dk_at dksX4_parted_1 3 rfl rfl)
theorem dX4_parted_28 : decode cX4_parted 28 = .ok (.goto (-23), 3) := dk_167 255 233 (dk_at dksX4_parted_1 4 rfl rfl)
theorem dX4_parted_31 : decode cX4_parted 31 = .ok (.aload_n 1, 1) := dk_43 (dk_at dksX4_parted_1 7 rfl rfl)
theorem dX4_parted_32 : decode cX4_parted 32 = .ok (.areturn, 1) := dk_176 (dk_at dksX4_parted_1 8 rfl rfl)
abbrev cX4_factHere : ByteArray := prog_16_method_30_code
def yX4_factHere : MethodName := ⟨RX4, "factHere", "()LTruthBridge$Test;"⟩
def dkwX4_factHere_6 : List UInt8 := [187, 1, 44, 89, 45, 21, 5, 42, 182, 0, 246, 183, 1, 46, 176]
abbrev dktX4_factHere_6 : List UInt8 := dkwX4_factHere_6 ++ []
def dkwX4_factHere_5 : List UInt8 := [182, 0, 52, 87, 42, 180, 0, 42, 54, 4, 42, 182, 1, 38, 54, 5, 42, 21, 4, 182, 1, 41]
abbrev dktX4_factHere_5 : List UInt8 := dkwX4_factHere_5 ++ dktX4_factHere_6
def dkwX4_factHere_4 : List UInt8 := [180, 0, 42, 182, 0, 76, 42, 89, 180, 0, 87, 4, 100, 181, 0, 87, 45, 176, 42, 182, 0, 246, 78, 42]
abbrev dktX4_factHere_4 : List UInt8 := dkwX4_factHere_4 ++ dktX4_factHere_5
def dkwX4_factHere_3 : List UInt8 := [180, 0, 42, 4, 96, 181, 0, 42, 42, 182, 0, 255, 78, 42, 42, 16, 93, 182, 0, 191, 3, 42]
abbrev dktX4_factHere_3 : List UInt8 := dkwX4_factHere_3 ++ dktX4_factHere_4
def dkwX4_factHere_2 : List UInt8 := [180, 0, 87, 4, 100, 181, 0, 87, 45, 176, 27, 16, 91, 160, 0, 50, 42, 28, 182, 0, 221, 42, 89]
abbrev dktX4_factHere_2 : List UInt8 := dkwX4_factHere_2 ++ dktX4_factHere_3
def dkwX4_factHere_1 : List UInt8 := [42, 89, 180, 0, 42, 6, 96, 181, 0, 42, 187, 1, 33, 89, 42, 182, 1, 30, 183, 1, 35, 78, 42, 89]
abbrev dktX4_factHere_1 : List UInt8 := dkwX4_factHere_1 ++ dktX4_factHere_2
def dkwX4_factHere_0 : List UInt8 := [42, 182, 0, 52, 60, 42, 180, 0, 42, 61, 42, 18, 219, 182, 0, 68, 153, 0, 42, 42, 28, 182, 0, 221]
abbrev dktX4_factHere_0 : List UInt8 := dkwX4_factHere_0 ++ dktX4_factHere_1
theorem dksX4_factHere_0 : cX4_factHere.data.toList.drop 0 = dktX4_factHere_0 := by decide +kernel
theorem dksX4_factHere_1 : cX4_factHere.data.toList.drop 24 = dktX4_factHere_1 := dk_seg dksX4_factHere_0 24 rfl rfl
theorem dksX4_factHere_2 : cX4_factHere.data.toList.drop 48 = dktX4_factHere_2 := dk_seg dksX4_factHere_1 24 rfl rfl
theorem dksX4_factHere_3 : cX4_factHere.data.toList.drop 71 = dktX4_factHere_3 := dk_seg dksX4_factHere_2 23 rfl rfl
theorem dksX4_factHere_4 : cX4_factHere.data.toList.drop 93 = dktX4_factHere_4 := dk_seg dksX4_factHere_3 22 rfl rfl
theorem dksX4_factHere_5 : cX4_factHere.data.toList.drop 117 = dktX4_factHere_5 := dk_seg dksX4_factHere_4 24 rfl rfl
theorem dksX4_factHere_6 : cX4_factHere.data.toList.drop 139 = dktX4_factHere_6 := dk_seg dksX4_factHere_5 22 rfl rfl
theorem dX4_factHere_0 : decode cX4_factHere 0 = .ok (.aload_n 0, 1) := dk_42 (dk_at dksX4_factHere_0 0 rfl rfl)
theorem dX4_factHere_1 : decode cX4_factHere 1 = .ok (.invokevirtual 52, 3) := dk_182 0 52 (dk_at dksX4_factHere_0 1 rfl rfl)
theorem dX4_factHere_4 : decode cX4_factHere 4 = .ok (.istore_n 1, 1) := dk_60 (dk_at dksX4_factHere_0 4 rfl rfl)
theorem dX4_factHere_5 : decode cX4_factHere 5 = .ok (.aload_n 0, 1) := dk_42 (dk_at dksX4_factHere_0 5 rfl rfl)
theorem dX4_factHere_6 : decode cX4_factHere 6 = .ok (.getfield 42, 3) := dk_180 0 42 (dk_at dksX4_factHere_0 6 rfl rfl)
theorem dX4_factHere_9 : decode cX4_factHere 9 = .ok (.istore_n 2, 1) := dk_61 (dk_at dksX4_factHere_0 9 rfl rfl)
theorem dX4_factHere_10 : decode cX4_factHere 10 = .ok (.aload_n 0, 1) := dk_42 (dk_at dksX4_factHere_0 10 rfl rfl)
theorem dX4_factHere_11 : decode cX4_factHere 11 = .ok (.ldc 219, 2) := dk_18 219 (dk_at dksX4_factHere_0 11 rfl rfl)
theorem dX4_factHere_13 : decode cX4_factHere 13 = .ok (.invokevirtual 68, 3) := dk_182 0 68 (dk_at dksX4_factHere_0 13 rfl rfl)
theorem dX4_factHere_16 : decode cX4_factHere 16 = .ok (.ifCond .eq 42, 3) := dk_153 0 42 (dk_at dksX4_factHere_0 16 rfl rfl)
theorem dX4_factHere_19 : decode cX4_factHere 19 = .ok (.aload_n 0, 1) := dk_42 (dk_at dksX4_factHere_0 19 rfl rfl)
theorem dX4_factHere_20 : decode cX4_factHere 20 = .ok (.iload_n 2, 1) := dk_28 (dk_at dksX4_factHere_0 20 rfl rfl)
theorem dX4_factHere_21 : decode cX4_factHere 21 = .ok (.invokevirtual 221, 3) := dk_182 0 221 (dk_at dksX4_factHere_0 21 rfl rfl)
theorem dX4_factHere_24 : decode cX4_factHere 24 = .ok (.aload_n 0, 1) := dk_42 (dk_at dksX4_factHere_1 0 rfl rfl)
theorem dX4_factHere_25 : decode cX4_factHere 25 = .ok (.dup, 1) := dk_89 (dk_at dksX4_factHere_1 1 rfl rfl)
theorem dX4_factHere_26 : decode cX4_factHere 26 = .ok (.getfield 42, 3) := dk_180 0 42 (dk_at dksX4_factHere_1 2 rfl rfl)
theorem dX4_factHere_29 : decode cX4_factHere 29 = .ok (.iconst 3, 1) := dk_6 (dk_at dksX4_factHere_1 5 rfl rfl)
theorem dX4_factHere_30 : decode cX4_factHere 30 = .ok (.iadd, 1) := dk_96 (dk_at dksX4_factHere_1 6 rfl rfl)
theorem dX4_factHere_31 : decode cX4_factHere 31 = .ok (.putfield 42, 3) := dk_181 0 42 (dk_at dksX4_factHere_1 7 rfl rfl)
theorem dX4_factHere_34 : decode cX4_factHere 34 = .ok (.new 289, 3) := dk_187 1 33 (dk_at dksX4_factHere_1 10 rfl rfl)
theorem dX4_factHere_37 : decode cX4_factHere 37 = .ok (.dup, 1) := dk_89 (dk_at dksX4_factHere_1 13 rfl rfl)
theorem dX4_factHere_38 : decode cX4_factHere 38 = .ok (.aload_n 0, 1) := dk_42 (dk_at dksX4_factHere_1 14 rfl rfl)
theorem dX4_factHere_39 : decode cX4_factHere 39 = .ok (.invokevirtual 286, 3) := dk_182 1 30 (dk_at dksX4_factHere_1 15 rfl rfl)
theorem dX4_factHere_42 : decode cX4_factHere 42 = .ok (.invokespecial 291, 3) := dk_183 1 35 (dk_at dksX4_factHere_1 18 rfl rfl)
theorem dX4_factHere_45 : decode cX4_factHere 45 = .ok (.astore_n 3, 1) := dk_78 (dk_at dksX4_factHere_1 21 rfl rfl)
theorem dX4_factHere_46 : decode cX4_factHere 46 = .ok (.aload_n 0, 1) := dk_42 (dk_at dksX4_factHere_1 22 rfl rfl)
theorem dX4_factHere_47 : decode cX4_factHere 47 = .ok (.dup, 1) := dk_89 (dk_at dksX4_factHere_1 23 rfl rfl)
theorem dX4_factHere_48 : decode cX4_factHere 48 = .ok (.getfield 87, 3) := dk_180 0 87 (dk_at dksX4_factHere_2 0 rfl rfl)
theorem dX4_factHere_51 : decode cX4_factHere 51 = .ok (.iconst 1, 1) := dk_4 (dk_at dksX4_factHere_2 3 rfl rfl)
theorem dX4_factHere_52 : decode cX4_factHere 52 = .ok (.isub, 1) := dk_100 (dk_at dksX4_factHere_2 4 rfl rfl)
theorem dX4_factHere_53 : decode cX4_factHere 53 = .ok (.putfield 87, 3) := dk_181 0 87 (dk_at dksX4_factHere_2 5 rfl rfl)
theorem dX4_factHere_56 : decode cX4_factHere 56 = .ok (.aload_n 3, 1) := dk_45 (dk_at dksX4_factHere_2 8 rfl rfl)
theorem dX4_factHere_57 : decode cX4_factHere 57 = .ok (.areturn, 1) := dk_176 (dk_at dksX4_factHere_2 9 rfl rfl)
theorem dX4_factHere_58 : decode cX4_factHere 58 = .ok (.iload_n 1, 1) := dk_27 (dk_at dksX4_factHere_2 10 rfl rfl)
theorem dX4_factHere_59 : decode cX4_factHere 59 = .ok (.bipush 91, 2) := dk_16 91 (dk_at dksX4_factHere_2 11 rfl rfl)
theorem dX4_factHere_61 : decode cX4_factHere 61 = .ok (.if_icmp .ne 50, 3) := dk_160 0 50 (dk_at dksX4_factHere_2 13 rfl rfl)
theorem dX4_factHere_64 : decode cX4_factHere 64 = .ok (.aload_n 0, 1) := dk_42 (dk_at dksX4_factHere_2 16 rfl rfl)
theorem dX4_factHere_65 : decode cX4_factHere 65 = .ok (.iload_n 2, 1) := dk_28 (dk_at dksX4_factHere_2 17 rfl rfl)
theorem dX4_factHere_66 : decode cX4_factHere 66 = .ok (.invokevirtual 221, 3) := dk_182 0 221 (dk_at dksX4_factHere_2 18 rfl rfl)
theorem dX4_factHere_69 : decode cX4_factHere 69 = .ok (.aload_n 0, 1) := dk_42 (dk_at dksX4_factHere_2 21 rfl rfl)
theorem dX4_factHere_70 : decode cX4_factHere 70 = .ok (.dup, 1) := dk_89 (dk_at dksX4_factHere_2 22 rfl rfl)
theorem dX4_factHere_71 : decode cX4_factHere 71 = .ok (.getfield 42, 3) := dk_180 0 42 (dk_at dksX4_factHere_3 0 rfl rfl)
theorem dX4_factHere_74 : decode cX4_factHere 74 = .ok (.iconst 1, 1) := dk_4 (dk_at dksX4_factHere_3 3 rfl rfl)
theorem dX4_factHere_75 : decode cX4_factHere 75 = .ok (.iadd, 1) := dk_96 (dk_at dksX4_factHere_3 4 rfl rfl)
theorem dX4_factHere_76 : decode cX4_factHere 76 = .ok (.putfield 42, 3) := dk_181 0 42 (dk_at dksX4_factHere_3 5 rfl rfl)
theorem dX4_factHere_79 : decode cX4_factHere 79 = .ok (.aload_n 0, 1) := dk_42 (dk_at dksX4_factHere_3 8 rfl rfl)
theorem dX4_factHere_80 : decode cX4_factHere 80 = .ok (.invokevirtual 255, 3) := dk_182 0 255 (dk_at dksX4_factHere_3 9 rfl rfl)
theorem dX4_factHere_83 : decode cX4_factHere 83 = .ok (.astore_n 3, 1) := dk_78 (dk_at dksX4_factHere_3 12 rfl rfl)
theorem dX4_factHere_84 : decode cX4_factHere 84 = .ok (.aload_n 0, 1) := dk_42 (dk_at dksX4_factHere_3 13 rfl rfl)
theorem dX4_factHere_85 : decode cX4_factHere 85 = .ok (.aload_n 0, 1) := dk_42 (dk_at dksX4_factHere_3 14 rfl rfl)
theorem dX4_factHere_86 : decode cX4_factHere 86 = .ok (.bipush 93, 2) := dk_16 93 (dk_at dksX4_factHere_3 15 rfl rfl)
theorem dX4_factHere_88 : decode cX4_factHere 88 = .ok (.invokevirtual 191, 3) := dk_182 0 191 (dk_at dksX4_factHere_3 17 rfl rfl)
theorem dX4_factHere_91 : decode cX4_factHere 91 = .ok (.iconst 0, 1) := dk_3 (dk_at dksX4_factHere_3 20 rfl rfl)
theorem dX4_factHere_92 : decode cX4_factHere 92 = .ok (.aload_n 0, 1) := dk_42 (dk_at dksX4_factHere_3 21 rfl rfl)
theorem dX4_factHere_93 : decode cX4_factHere 93 = .ok (.getfield 42, 3) := dk_180 0 42 (dk_at dksX4_factHere_4 0 rfl rfl)
theorem dX4_factHere_96 : decode cX4_factHere 96 = .ok (.invokevirtual 76, 3) := dk_182 0 76 (dk_at dksX4_factHere_4 3 rfl rfl)
theorem dX4_factHere_99 : decode cX4_factHere 99 = .ok (.aload_n 0, 1) := dk_42 (dk_at dksX4_factHere_4 6 rfl rfl)
theorem dX4_factHere_100 : decode cX4_factHere 100 = .ok (.dup, 1) := dk_89 (dk_at dksX4_factHere_4 7 rfl rfl)
theorem dX4_factHere_101 : decode cX4_factHere 101 = .ok (.getfield 87, 3) := dk_180 0 87 (dk_at dksX4_factHere_4 8 rfl rfl)
theorem dX4_factHere_104 : decode cX4_factHere 104 = .ok (.iconst 1, 1) := dk_4 (dk_at dksX4_factHere_4 11 rfl rfl)
theorem dX4_factHere_105 : decode cX4_factHere 105 = .ok (.isub, 1) := dk_100 (dk_at dksX4_factHere_4 12 rfl rfl)
theorem dX4_factHere_106 : decode cX4_factHere 106 = .ok (.putfield 87, 3) := dk_181 0 87 (dk_at dksX4_factHere_4 13 rfl rfl)
theorem dX4_factHere_109 : decode cX4_factHere 109 = .ok (.aload_n 3, 1) := dk_45 (dk_at dksX4_factHere_4 16 rfl rfl)
theorem dX4_factHere_110 : decode cX4_factHere 110 = .ok (.areturn, 1) := dk_176 (dk_at dksX4_factHere_4 17 rfl rfl)
theorem dX4_factHere_111 : decode cX4_factHere 111 = .ok (.aload_n 0, 1) := dk_42 (dk_at dksX4_factHere_4 18 rfl rfl)
theorem dX4_factHere_112 : decode cX4_factHere 112 = .ok (.invokevirtual 246, 3) := dk_182 0 246 (dk_at dksX4_factHere_4 19 rfl rfl)
theorem dX4_factHere_115 : decode cX4_factHere 115 = .ok (.astore_n 3, 1) := dk_78 (dk_at dksX4_factHere_4 22 rfl rfl)
theorem dX4_factHere_116 : decode cX4_factHere 116 = .ok (.aload_n 0, 1) := dk_42 (dk_at dksX4_factHere_4 23 rfl rfl)
theorem dX4_factHere_117 : decode cX4_factHere 117 = .ok (.invokevirtual 52, 3) := dk_182 0 52 (dk_at dksX4_factHere_5 0 rfl rfl)
theorem dX4_factHere_120 : decode cX4_factHere 120 = .ok (.pop, 1) := dk_87 (dk_at dksX4_factHere_5 3 rfl rfl)
theorem dX4_factHere_121 : decode cX4_factHere 121 = .ok (.aload_n 0, 1) := dk_42 (dk_at dksX4_factHere_5 4 rfl rfl)
theorem dX4_factHere_122 : decode cX4_factHere 122 = .ok (.getfield 42, 3) := dk_180 0 42 (dk_at dksX4_factHere_5 5 rfl rfl)
theorem dX4_factHere_125 : decode cX4_factHere 125 = .ok (.istore 4, 2) := dk_54 4 (dk_at dksX4_factHere_5 8 rfl rfl)
theorem dX4_factHere_127 : decode cX4_factHere 127 = .ok (.aload_n 0, 1) := dk_42 (dk_at dksX4_factHere_5 10 rfl rfl)
theorem dX4_factHere_128 : decode cX4_factHere 128 = .ok (.invokevirtual 294, 3) := dk_182 1 38 (dk_at dksX4_factHere_5 11 rfl rfl)
theorem dX4_factHere_131 : decode cX4_factHere 131 = .ok (.istore 5, 2) := dk_54 5 (dk_at dksX4_factHere_5 14 rfl rfl)
theorem dX4_factHere_133 : decode cX4_factHere 133 = .ok (.aload_n 0, 1) := dk_42 (dk_at dksX4_factHere_5 16 rfl rfl)
theorem dX4_factHere_134 : decode cX4_factHere 134 = .ok (.iload 4, 2) := dk_21 4 (dk_at dksX4_factHere_5 17 rfl rfl)
theorem dX4_factHere_136 : decode cX4_factHere 136 = .ok (.invokevirtual 297, 3) := dk_182 1 41 (dk_at dksX4_factHere_5 19 rfl rfl)
theorem dX4_factHere_139 : decode cX4_factHere 139 = .ok (.new 300, 3) := dk_187 1 44 (dk_at dksX4_factHere_6 0 rfl rfl)
theorem dX4_factHere_142 : decode cX4_factHere 142 = .ok (.dup, 1) := dk_89 (dk_at dksX4_factHere_6 3 rfl rfl)
theorem dX4_factHere_143 : decode cX4_factHere 143 = .ok (.aload_n 3, 1) := dk_45 (dk_at dksX4_factHere_6 4 rfl rfl)
theorem dX4_factHere_144 : decode cX4_factHere 144 = .ok (.iload 5, 2) := dk_21 5 (dk_at dksX4_factHere_6 5 rfl rfl)
theorem dX4_factHere_146 : decode cX4_factHere 146 = .ok (.aload_n 0, 1) := dk_42 (dk_at dksX4_factHere_6 7 rfl rfl)
theorem dX4_factHere_147 : decode cX4_factHere 147 = .ok (.invokevirtual 246, 3) := dk_182 0 246 (dk_at dksX4_factHere_6 8 rfl rfl)
theorem dX4_factHere_150 : decode cX4_factHere 150 = .ok (.invokespecial 302, 3) := dk_183 1 46 (dk_at dksX4_factHere_6 11 rfl rfl)
theorem dX4_factHere_153 : decode cX4_factHere 153 = .ok (.areturn, 1) := dk_176 (dk_at dksX4_factHere_6 14 rfl rfl)
abbrev cX4_sign : ByteArray := prog_16_method_31_code
def yX4_sign : MethodName := ⟨RX4, "sign", "()I"⟩
def dkwX4_sign_5 : List UInt8 := [167, 0, 16, 3, 167, 0, 12, 28, 153, 0, 7, 6, 167, 0, 4, 7, 172]
abbrev dktX4_sign_5 : List UInt8 := dkwX4_sign_5 ++ []
def dkwX4_sign_4 : List UInt8 := [153, 0, 13, 42, 89, 180, 0, 42, 4, 96, 181, 0, 42, 27, 16, 60, 160, 0, 15, 28, 153, 0, 7, 4]
abbrev dktX4_sign_4 : List UInt8 := dkwX4_sign_4 ++ dktX4_sign_5
def dkwX4_sign_3 : List UInt8 := [180, 0, 3, 180, 0, 48, 42, 180, 0, 42, 51, 16, 61, 160, 0, 7, 4, 167, 0, 4, 3, 61, 28]
abbrev dktX4_sign_3 : List UInt8 := dkwX4_sign_3 ++ dktX4_sign_4
def dkwX4_sign_2 : List UInt8 := [16, 61, 160, 0, 5, 5, 172, 42, 180, 0, 42, 42, 180, 0, 3, 180, 0, 45, 162, 0, 24, 42]
abbrev dktX4_sign_2 : List UInt8 := dkwX4_sign_2 ++ dktX4_sign_3
def dkwX4_sign_1 : List UInt8 := [4, 167, 0, 4, 3, 3, 42, 180, 0, 42, 182, 0, 76, 42, 89, 180, 0, 42, 4, 96, 181, 0, 42, 27]
abbrev dktX4_sign_1 : List UInt8 := dkwX4_sign_1 ++ dktX4_sign_2
def dkwX4_sign_0 : List UInt8 := [42, 182, 0, 52, 60, 42, 27, 16, 60, 159, 0, 15, 27, 16, 61, 159, 0, 9, 27, 16, 62, 160, 0, 7]
abbrev dktX4_sign_0 : List UInt8 := dkwX4_sign_0 ++ dktX4_sign_1
theorem dksX4_sign_0 : cX4_sign.data.toList.drop 0 = dktX4_sign_0 := by decide +kernel
theorem dksX4_sign_1 : cX4_sign.data.toList.drop 24 = dktX4_sign_1 := dk_seg dksX4_sign_0 24 rfl rfl
theorem dksX4_sign_2 : cX4_sign.data.toList.drop 48 = dktX4_sign_2 := dk_seg dksX4_sign_1 24 rfl rfl
theorem dksX4_sign_3 : cX4_sign.data.toList.drop 70 = dktX4_sign_3 := dk_seg dksX4_sign_2 22 rfl rfl
theorem dksX4_sign_4 : cX4_sign.data.toList.drop 93 = dktX4_sign_4 := dk_seg dksX4_sign_3 23 rfl rfl
theorem dksX4_sign_5 : cX4_sign.data.toList.drop 117 = dktX4_sign_5 := dk_seg dksX4_sign_4 24 rfl rfl
theorem dX4_sign_0 : decode cX4_sign 0 = .ok (.aload_n 0, 1) := dk_42 (dk_at dksX4_sign_0 0 rfl rfl)
theorem dX4_sign_1 : decode cX4_sign 1 = .ok (.invokevirtual 52, 3) := dk_182 0 52 (dk_at dksX4_sign_0 1 rfl rfl)
theorem dX4_sign_4 : decode cX4_sign 4 = .ok (.istore_n 1, 1) := dk_60 (dk_at dksX4_sign_0 4 rfl rfl)
theorem dX4_sign_5 : decode cX4_sign 5 = .ok (.aload_n 0, 1) := dk_42 (dk_at dksX4_sign_0 5 rfl rfl)
theorem dX4_sign_6 : decode cX4_sign 6 = .ok (.iload_n 1, 1) := dk_27 (dk_at dksX4_sign_0 6 rfl rfl)
theorem dX4_sign_7 : decode cX4_sign 7 = .ok (.bipush 60, 2) := dk_16 60 (dk_at dksX4_sign_0 7 rfl rfl)
theorem dX4_sign_9 : decode cX4_sign 9 = .ok (.if_icmp .eq 15, 3) := dk_159 0 15 (dk_at dksX4_sign_0 9 rfl rfl)
theorem dX4_sign_12 : decode cX4_sign 12 = .ok (.iload_n 1, 1) := dk_27 (dk_at dksX4_sign_0 12 rfl rfl)
theorem dX4_sign_13 : decode cX4_sign 13 = .ok (.bipush 61, 2) := dk_16 61 (dk_at dksX4_sign_0 13 rfl rfl)
theorem dX4_sign_15 : decode cX4_sign 15 = .ok (.if_icmp .eq 9, 3) := dk_159 0 9 (dk_at dksX4_sign_0 15 rfl rfl)
theorem dX4_sign_18 : decode cX4_sign 18 = .ok (.iload_n 1, 1) := dk_27 (dk_at dksX4_sign_0 18 rfl rfl)
theorem dX4_sign_19 : decode cX4_sign 19 = .ok (.bipush 62, 2) := dk_16 62 (dk_at dksX4_sign_0 19 rfl rfl)
theorem dX4_sign_21 : decode cX4_sign 21 = .ok (.if_icmp .ne 7, 3) := dk_160 0 7 (dk_at dksX4_sign_0 21 rfl rfl)
theorem dX4_sign_24 : decode cX4_sign 24 = .ok (.iconst 1, 1) := dk_4 (dk_at dksX4_sign_1 0 rfl rfl)
theorem dX4_sign_25 : decode cX4_sign 25 = .ok (.goto 4, 3) := dk_167 0 4 (dk_at dksX4_sign_1 1 rfl rfl)
theorem dX4_sign_28 : decode cX4_sign 28 = .ok (.iconst 0, 1) := dk_3 (dk_at dksX4_sign_1 4 rfl rfl)
theorem dX4_sign_29 : decode cX4_sign 29 = .ok (.iconst 0, 1) := dk_3 (dk_at dksX4_sign_1 5 rfl rfl)
theorem dX4_sign_30 : decode cX4_sign 30 = .ok (.aload_n 0, 1) := dk_42 (dk_at dksX4_sign_1 6 rfl rfl)
theorem dX4_sign_31 : decode cX4_sign 31 = .ok (.getfield 42, 3) := dk_180 0 42 (dk_at dksX4_sign_1 7 rfl rfl)
theorem dX4_sign_34 : decode cX4_sign 34 = .ok (.invokevirtual 76, 3) := dk_182 0 76 (dk_at dksX4_sign_1 10 rfl rfl)
theorem dX4_sign_37 : decode cX4_sign 37 = .ok (.aload_n 0, 1) := dk_42 (dk_at dksX4_sign_1 13 rfl rfl)
theorem dX4_sign_38 : decode cX4_sign 38 = .ok (.dup, 1) := dk_89 (dk_at dksX4_sign_1 14 rfl rfl)
theorem dX4_sign_39 : decode cX4_sign 39 = .ok (.getfield 42, 3) := dk_180 0 42 (dk_at dksX4_sign_1 15 rfl rfl)
theorem dX4_sign_42 : decode cX4_sign 42 = .ok (.iconst 1, 1) := dk_4 (dk_at dksX4_sign_1 18 rfl rfl)
theorem dX4_sign_43 : decode cX4_sign 43 = .ok (.iadd, 1) := dk_96 (dk_at dksX4_sign_1 19 rfl rfl)
theorem dX4_sign_44 : decode cX4_sign 44 = .ok (.putfield 42, 3) := dk_181 0 42 (dk_at dksX4_sign_1 20 rfl rfl)
theorem dX4_sign_47 : decode cX4_sign 47 = .ok (.iload_n 1, 1) := dk_27 (dk_at dksX4_sign_1 23 rfl rfl)
theorem dX4_sign_48 : decode cX4_sign 48 = .ok (.bipush 61, 2) := dk_16 61 (dk_at dksX4_sign_2 0 rfl rfl)
theorem dX4_sign_50 : decode cX4_sign 50 = .ok (.if_icmp .ne 5, 3) := dk_160 0 5 (dk_at dksX4_sign_2 2 rfl rfl)
theorem dX4_sign_53 : decode cX4_sign 53 = .ok (.iconst 2, 1) := dk_5 (dk_at dksX4_sign_2 5 rfl rfl)
theorem dX4_sign_54 : decode cX4_sign 54 = .ok (.ireturn, 1) := dk_172 (dk_at dksX4_sign_2 6 rfl rfl)
theorem dX4_sign_55 : decode cX4_sign 55 = .ok (.aload_n 0, 1) := dk_42 (dk_at dksX4_sign_2 7 rfl rfl)
theorem dX4_sign_56 : decode cX4_sign 56 = .ok (.getfield 42, 3) := dk_180 0 42 (dk_at dksX4_sign_2 8 rfl rfl)
theorem dX4_sign_59 : decode cX4_sign 59 = .ok (.aload_n 0, 1) := dk_42 (dk_at dksX4_sign_2 11 rfl rfl)
theorem dX4_sign_60 : decode cX4_sign 60 = .ok (.getfield 3, 3) := dk_180 0 3 (dk_at dksX4_sign_2 12 rfl rfl)
theorem dX4_sign_63 : decode cX4_sign 63 = .ok (.getfield 45, 3) := dk_180 0 45 (dk_at dksX4_sign_2 15 rfl rfl)
theorem dX4_sign_66 : decode cX4_sign 66 = .ok (.if_icmp .ge 24, 3) := dk_162 0 24 (dk_at dksX4_sign_2 18 rfl rfl)
theorem dX4_sign_69 : decode cX4_sign 69 = .ok (.aload_n 0, 1) := dk_42 (dk_at dksX4_sign_2 21 rfl rfl)
theorem dX4_sign_70 : decode cX4_sign 70 = .ok (.getfield 3, 3) := dk_180 0 3 (dk_at dksX4_sign_3 0 rfl rfl)
theorem dX4_sign_73 : decode cX4_sign 73 = .ok (.getfield 48, 3) := dk_180 0 48 (dk_at dksX4_sign_3 3 rfl rfl)
theorem dX4_sign_76 : decode cX4_sign 76 = .ok (.aload_n 0, 1) := dk_42 (dk_at dksX4_sign_3 6 rfl rfl)
theorem dX4_sign_77 : decode cX4_sign 77 = .ok (.getfield 42, 3) := dk_180 0 42 (dk_at dksX4_sign_3 7 rfl rfl)
theorem dX4_sign_80 : decode cX4_sign 80 = .ok (.baload, 1) := dk_51 (dk_at dksX4_sign_3 10 rfl rfl)
theorem dX4_sign_81 : decode cX4_sign 81 = .ok (.bipush 61, 2) := dk_16 61 (dk_at dksX4_sign_3 11 rfl rfl)
theorem dX4_sign_83 : decode cX4_sign 83 = .ok (.if_icmp .ne 7, 3) := dk_160 0 7 (dk_at dksX4_sign_3 13 rfl rfl)
theorem dX4_sign_86 : decode cX4_sign 86 = .ok (.iconst 1, 1) := dk_4 (dk_at dksX4_sign_3 16 rfl rfl)
theorem dX4_sign_87 : decode cX4_sign 87 = .ok (.goto 4, 3) := dk_167 0 4 (dk_at dksX4_sign_3 17 rfl rfl)
theorem dX4_sign_90 : decode cX4_sign 90 = .ok (.iconst 0, 1) := dk_3 (dk_at dksX4_sign_3 20 rfl rfl)
theorem dX4_sign_91 : decode cX4_sign 91 = .ok (.istore_n 2, 1) := dk_61 (dk_at dksX4_sign_3 21 rfl rfl)
theorem dX4_sign_92 : decode cX4_sign 92 = .ok (.iload_n 2, 1) := dk_28 (dk_at dksX4_sign_3 22 rfl rfl)
theorem dX4_sign_93 : decode cX4_sign 93 = .ok (.ifCond .eq 13, 3) := dk_153 0 13 (dk_at dksX4_sign_4 0 rfl rfl)
theorem dX4_sign_96 : decode cX4_sign 96 = .ok (.aload_n 0, 1) := dk_42 (dk_at dksX4_sign_4 3 rfl rfl)
theorem dX4_sign_97 : decode cX4_sign 97 = .ok (.dup, 1) := dk_89 (dk_at dksX4_sign_4 4 rfl rfl)
theorem dX4_sign_98 : decode cX4_sign 98 = .ok (.getfield 42, 3) := dk_180 0 42 (dk_at dksX4_sign_4 5 rfl rfl)
theorem dX4_sign_101 : decode cX4_sign 101 = .ok (.iconst 1, 1) := dk_4 (dk_at dksX4_sign_4 8 rfl rfl)
theorem dX4_sign_102 : decode cX4_sign 102 = .ok (.iadd, 1) := dk_96 (dk_at dksX4_sign_4 9 rfl rfl)
theorem dX4_sign_103 : decode cX4_sign 103 = .ok (.putfield 42, 3) := dk_181 0 42 (dk_at dksX4_sign_4 10 rfl rfl)
theorem dX4_sign_106 : decode cX4_sign 106 = .ok (.iload_n 1, 1) := dk_27 (dk_at dksX4_sign_4 13 rfl rfl)
theorem dX4_sign_107 : decode cX4_sign 107 = .ok (.bipush 60, 2) := dk_16 60 (dk_at dksX4_sign_4 14 rfl rfl)
theorem dX4_sign_109 : decode cX4_sign 109 = .ok (.if_icmp .ne 15, 3) := dk_160 0 15 (dk_at dksX4_sign_4 16 rfl rfl)
theorem dX4_sign_112 : decode cX4_sign 112 = .ok (.iload_n 2, 1) := dk_28 (dk_at dksX4_sign_4 19 rfl rfl)
theorem dX4_sign_113 : decode cX4_sign 113 = .ok (.ifCond .eq 7, 3) := dk_153 0 7 (dk_at dksX4_sign_4 20 rfl rfl)
theorem dX4_sign_116 : decode cX4_sign 116 = .ok (.iconst 1, 1) := dk_4 (dk_at dksX4_sign_4 23 rfl rfl)
theorem dX4_sign_117 : decode cX4_sign 117 = .ok (.goto 16, 3) := dk_167 0 16 (dk_at dksX4_sign_5 0 rfl rfl)
theorem dX4_sign_120 : decode cX4_sign 120 = .ok (.iconst 0, 1) := dk_3 (dk_at dksX4_sign_5 3 rfl rfl)
theorem dX4_sign_121 : decode cX4_sign 121 = .ok (.goto 12, 3) := dk_167 0 12 (dk_at dksX4_sign_5 4 rfl rfl)
theorem dX4_sign_124 : decode cX4_sign 124 = .ok (.iload_n 2, 1) := dk_28 (dk_at dksX4_sign_5 7 rfl rfl)
theorem dX4_sign_125 : decode cX4_sign 125 = .ok (.ifCond .eq 7, 3) := dk_153 0 7 (dk_at dksX4_sign_5 8 rfl rfl)
theorem dX4_sign_128 : decode cX4_sign 128 = .ok (.iconst 3, 1) := dk_6 (dk_at dksX4_sign_5 11 rfl rfl)
theorem dX4_sign_129 : decode cX4_sign 129 = .ok (.goto 4, 3) := dk_167 0 4 (dk_at dksX4_sign_5 12 rfl rfl)
theorem dX4_sign_132 : decode cX4_sign 132 = .ok (.iconst 4, 1) := dk_7 (dk_at dksX4_sign_5 15 rfl rfl)
theorem dX4_sign_133 : decode cX4_sign 133 = .ok (.ireturn, 1) := dk_172 (dk_at dksX4_sign_5 16 rfl rfl)
theorem q163 : (Jvm.Cond.initialized "TruthBridge$Text") ∈ lw_all := lw_g (lw_at lw_m1 8 rfl) rfl
theorem q202 : (Jvm.Cond.fieldLinkNest "TruthBridge$Text" (93 : Nat) "TruthBridge$Gorge" "factMany" "I" "TruthBridge") ∈ lw_tbl := lw_at lw_m1 47 rfl
theorem q205 : (Jvm.Cond.fieldLinkNest "TruthBridge$Text" (114 : Nat) "TruthBridge$Gorge" "so" "I" "TruthBridge") ∈ lw_tbl := lw_at lw_m1 50 rfl
theorem q209 : (Jvm.Cond.fieldLinkNest "TruthBridge$Text" (98 : Nat) "TruthBridge$Gorge" "personMany" "I" "TruthBridge") ∈ lw_tbl := lw_at lw_m1 54 rfl
theorem q211 : (Jvm.Cond.fieldLinkNest "TruthBridge$Text" (101 : Nat) "TruthBridge$Gorge" "placeMany" "I" "TruthBridge") ∈ lw_tbl := lw_at lw_m1 56 rfl
theorem q214 : (Jvm.Cond.fieldLinkNest "TruthBridge$Text" (104 : Nat) "TruthBridge$Gorge" "pathMany" "I" "TruthBridge") ∈ lw_tbl := lw_at lw_m1 59 rfl
theorem q217 : (Jvm.Cond.fieldLinkNest "TruthBridge$Text" (107 : Nat) "TruthBridge$Gorge" "turnMany" "I" "TruthBridge") ∈ lw_tbl := lw_at lw_m1 62 rfl
theorem q226 : (Jvm.Cond.fieldLinkNest "TruthBridge$Text" (121 : Nat) "TruthBridge$Gorge" "side" "[I" "TruthBridge") ∈ lw_tbl := lw_at lw_m1 71 rfl
theorem q229 : (Jvm.Cond.fieldLinkNest "TruthBridge$Text" (125 : Nat) "TruthBridge$Gorge" "weight" "[I" "TruthBridge") ∈ lw_tbl := lw_at lw_m1 74 rfl
theorem q232 : (Jvm.Cond.fieldLinkNest "TruthBridge$Text" (131 : Nat) "TruthBridge$Gorge" "coins" "[I" "TruthBridge") ∈ lw_tbl := lw_at lw_m1 77 rfl
theorem q239 : (Jvm.Cond.fieldLinkNest "TruthBridge$Text" (142 : Nat) "TruthBridge$Gorge" "seen" "[I" "TruthBridge") ∈ lw_tbl := lw_at lw_m1 84 rfl
theorem q242 : (Jvm.Cond.fieldLinkNest "TruthBridge$Text" (145 : Nat) "TruthBridge$Gorge" "far" "[I" "TruthBridge") ∈ lw_tbl := lw_at lw_m1 87 rfl
theorem q245 : (Jvm.Cond.fieldLinkNest "TruthBridge$Text" (165 : Nat) "TruthBridge$Gorge" "turnFact" "[I" "TruthBridge") ∈ lw_tbl := lw_at lw_m1 90 rfl
theorem q248 : (Jvm.Cond.fieldLinkNest "TruthBridge$Text" (168 : Nat) "TruthBridge$Gorge" "turnDay" "[I" "TruthBridge") ∈ lw_tbl := lw_at lw_m1 93 rfl
theorem q357 : (Jvm.Cond.fieldLinkNest "TruthBridge$Text" (33 : Nat) "TruthBridge$Fault" "kind" "I" "TruthBridge") ∈ lw_tbl := lw_at lw_m1 202 rfl
theorem q359 : (Jvm.Cond.fieldLinkNest "TruthBridge$Text" (39 : Nat) "TruthBridge$Fault" "place" "I" "TruthBridge") ∈ lw_tbl := lw_at lw_m1 204 rfl
theorem q405 : (Jvm.Cond.fieldLinkNest "TruthBridge$Text" (22 : Nat) "TruthBridge" "reading" "LTruthBridge$Gorge;" "TruthBridge") ∈ lw_tbl := lw_at lw_m2 10 rfl
theorem q408 : (Jvm.Cond.fieldLinkNest "TruthBridge$Text" (171 : Nat) "TruthBridge" "blank" "LTruthBridge$Gorge;" "TruthBridge") ∈ lw_tbl := lw_at lw_m2 13 rfl
theorem q410 : (Jvm.Cond.fieldLinkNest "TruthBridge$Text" (29 : Nat) "TruthBridge" "fault" "LTruthBridge$Fault;" "TruthBridge") ∈ lw_tbl := lw_at lw_m2 15 rfl
theorem q412 : (Jvm.Cond.fieldLinkNest "TruthBridge$Text" (48 : Nat) "TruthBridge" "tape" "[B" "TruthBridge") ∈ lw_tbl := lw_at lw_m2 17 rfl
theorem q414 : (Jvm.Cond.fieldLinkNest "TruthBridge$Text" (45 : Nat) "TruthBridge" "taped" "I" "TruthBridge") ∈ lw_tbl := lw_at lw_m2 19 rfl
theorem q417 : (Jvm.Cond.fieldLinkNest "TruthBridge$Text" (178 : Nat) "TruthBridge" "lineWords" "[Ljava/lang/String;" "TruthBridge") ∈ lw_tbl := lw_at lw_m2 22 rfl
theorem q419 : (Jvm.Cond.fieldLinkNest "TruthBridge$Text" (266 : Nat) "TruthBridge" "clauseWords" "[Ljava/lang/String;" "TruthBridge") ∈ lw_tbl := lw_at lw_m2 24 rfl
theorem q420 : (Jvm.Cond.fieldLinkNest "TruthBridge$Text" (15 : Nat) "TruthBridge" "wordNames" "[Ljava/lang/String;" "TruthBridge") ∈ lw_tbl := lw_at lw_m2 25 rfl
theorem q516 : (Jvm.Cond.instantiable "TruthBridge$Text" (8 : Nat)) ∈ lw_all := lw_g (lw_at lw_m2 121 rfl) rfl
theorem q518 : (Jvm.Cond.instanceMethod ({ cls := "TruthBridge$Text", name := "<init>", desc := "(LTruthBridge;)V" } : Jvm.MethodName)) ∈ lw_all := lw_g (lw_at lw_m2 123 rfl) rfl
theorem q519 : (Jvm.Cond.code ({ cls := "TruthBridge$Text", name := "<init>", desc := "(LTruthBridge;)V" } : Jvm.MethodName) prog_16_method_1_code (2 : Nat) (Option.none : Option Jvm.ClassFile.FieldType)) ∈ lw_all := lw_g (lw_at lw_m2 124 rfl) rfl
theorem q520 : (Jvm.Cond.methodLink "TruthBridge$Text" (9 : Nat) ({ cls := "java/lang/Object", name := "<init>", desc := "()V" } : Jvm.MethodName)) ∈ lw_all := lw_g (lw_at lw_m2 125 rfl) rfl
theorem q521 : (Jvm.Cond.fieldLink "TruthBridge$Text" (19 : Nat) "TruthBridge$Text" "words" "[Ljava/lang/String;") ∈ lw_all := lw_g (lw_at lw_m2 126 rfl) rfl
theorem q522 : (Jvm.Cond.fieldLink "TruthBridge$Text" (26 : Nat) "TruthBridge$Text" "read" "LTruthBridge$Gorge;") ∈ lw_all := lw_g (lw_at lw_m2 127 rfl) rfl
theorem q523 : (Jvm.Cond.fieldLink "TruthBridge$Text" (42 : Nat) "TruthBridge$Text" "next" "I") ∈ lw_all := lw_g (lw_at lw_m2 128 rfl) rfl
theorem q524 : (Jvm.Cond.fieldLink "TruthBridge$Text" (87 : Nat) "TruthBridge$Text" "deep" "I") ∈ lw_all := lw_g (lw_at lw_m2 129 rfl) rfl
theorem q525 : (Jvm.Cond.fieldLink "TruthBridge$Text" (84 : Nat) "TruthBridge$Text" "made" "I") ∈ lw_all := lw_g (lw_at lw_m2 130 rfl) rfl
theorem q526 : (Jvm.Cond.fieldLink "TruthBridge$Text" (90 : Nat) "TruthBridge$Text" "many" "I") ∈ lw_all := lw_g (lw_at lw_m2 131 rfl) rfl
theorem q527 : (Jvm.Cond.fieldLink "TruthBridge$Text" (236 : Nat) "TruthBridge$Text" "lettersMany" "I") ∈ lw_all := lw_g (lw_at lw_m2 132 rfl) rfl
theorem q528 : (Jvm.Cond.fieldLink "TruthBridge$Text" (3 : Nat) "TruthBridge$Text" "this$0" "LTruthBridge;") ∈ lw_all := lw_g (lw_at lw_m2 133 rfl) rfl
theorem q529 : (Jvm.Cond.laysFinal "TruthBridge$Text" "TruthBridge$Text" "words" "[Ljava/lang/String;") ∈ lw_all := lw_g (lw_at lw_m2 134 rfl) rfl
theorem q530 : (Jvm.Cond.soleField "TruthBridge$Text" "words") ∈ lw_all := lw_g (lw_at lw_m2 135 rfl) rfl
theorem q531 : (Jvm.Cond.laysFinal "TruthBridge$Text" "TruthBridge$Text" "read" "LTruthBridge$Gorge;") ∈ lw_all := lw_g (lw_at lw_m2 136 rfl) rfl
theorem q532 : (Jvm.Cond.soleField "TruthBridge$Text" "read") ∈ lw_all := lw_g (lw_at lw_m2 137 rfl) rfl
theorem q533 : (Jvm.Cond.lays "TruthBridge$Text" "TruthBridge$Text" "next" "I") ∈ lw_all := lw_g (lw_at lw_m2 138 rfl) rfl
theorem q534 : (Jvm.Cond.soleField "TruthBridge$Text" "next") ∈ lw_all := lw_g (lw_at lw_m2 139 rfl) rfl
theorem q535 : (Jvm.Cond.lays "TruthBridge$Text" "TruthBridge$Text" "deep" "I") ∈ lw_all := lw_g (lw_at lw_m2 140 rfl) rfl
theorem q536 : (Jvm.Cond.soleField "TruthBridge$Text" "deep") ∈ lw_all := lw_g (lw_at lw_m2 141 rfl) rfl
theorem q537 : (Jvm.Cond.lays "TruthBridge$Text" "TruthBridge$Text" "made" "I") ∈ lw_all := lw_g (lw_at lw_m2 142 rfl) rfl
theorem q538 : (Jvm.Cond.soleField "TruthBridge$Text" "made") ∈ lw_all := lw_g (lw_at lw_m2 143 rfl) rfl
theorem q539 : (Jvm.Cond.lays "TruthBridge$Text" "TruthBridge$Text" "many" "I") ∈ lw_all := lw_g (lw_at lw_m2 144 rfl) rfl
theorem q540 : (Jvm.Cond.soleField "TruthBridge$Text" "many") ∈ lw_all := lw_g (lw_at lw_m2 145 rfl) rfl
theorem q541 : (Jvm.Cond.lays "TruthBridge$Text" "TruthBridge$Text" "lettersMany" "I") ∈ lw_all := lw_g (lw_at lw_m2 146 rfl) rfl
theorem q542 : (Jvm.Cond.soleField "TruthBridge$Text" "lettersMany") ∈ lw_all := lw_g (lw_at lw_m2 147 rfl) rfl
theorem q543 : (Jvm.Cond.laysFinal "TruthBridge$Text" "TruthBridge$Text" "this$0" "LTruthBridge;") ∈ lw_all := lw_g (lw_at lw_m2 148 rfl) rfl
theorem q544 : (Jvm.Cond.soleField "TruthBridge$Text" "this$0") ∈ lw_all := lw_g (lw_at lw_m2 149 rfl) rfl
theorem q545 : (Jvm.Cond.superclass "TruthBridge$Text" "java/lang/Object") ∈ lw_all := lw_g (lw_at lw_m2 150 rfl) rfl
theorem q547 : (Jvm.Cond.instanceMethod ({ cls := "TruthBridge$Text", name := "landTold", desc := "()LTruthBridge$Gorge;" } : Jvm.MethodName)) ∈ lw_all := lw_g (lw_at lw_m2 152 rfl) rfl
theorem q548 : (Jvm.Cond.selects "TruthBridge$Text" ({ cls := "TruthBridge$Text", name := "landTold", desc := "()LTruthBridge$Gorge;" } : Jvm.MethodName) ({ cls := "TruthBridge$Text", name := "landTold", desc := "()LTruthBridge$Gorge;" } : Jvm.MethodName)) ∈ lw_all := lw_g (lw_at lw_m2 153 rfl) rfl
theorem q549 : (Jvm.Cond.code ({ cls := "TruthBridge$Text", name := "landTold", desc := "()LTruthBridge$Gorge;" } : Jvm.MethodName) prog_16_method_21_code (3 : Nat) (Option.some (Jvm.ClassFile.FieldType.object "TruthBridge$Gorge"))) ∈ lw_all := lw_g (lw_at lw_m2 154 rfl) rfl
theorem q550 : (Jvm.Cond.methodLink "TruthBridge$Text" (174 : Nat) ({ cls := "TruthBridge$Gorge", name := "copies", desc := "(LTruthBridge$Gorge;)LTruthBridge$Gorge;" } : Jvm.MethodName)) ∈ lw_all := lw_g (lw_at lw_m2 155 rfl) rfl
theorem q561 : (Jvm.Cond.methodLink "TruthBridge$Text" (52 : Nat) ({ cls := "TruthBridge$Text", name := "see", desc := "()I" } : Jvm.MethodName)) ∈ lw_all := lw_g (lw_at lw_m2 166 rfl) rfl
theorem q562 : (Jvm.Cond.privateMethod ({ cls := "TruthBridge$Text", name := "see", desc := "()I" } : Jvm.MethodName)) ∈ lw_tbl := lw_at lw_m2 167 rfl
theorem q563 : (Jvm.Cond.instanceMethod ({ cls := "TruthBridge$Text", name := "see", desc := "()I" } : Jvm.MethodName)) ∈ lw_all := lw_g (lw_at lw_m2 168 rfl) rfl
theorem q564 : (Jvm.Cond.code ({ cls := "TruthBridge$Text", name := "see", desc := "()I" } : Jvm.MethodName) prog_16_method_3_code (1 : Nat) (Option.some Jvm.ClassFile.FieldType.int)) ∈ lw_all := lw_g (lw_at lw_m2 169 rfl) rfl
theorem q565 : (Jvm.Cond.methodLink "TruthBridge$Text" (181 : Nat) ({ cls := "TruthBridge$Text", name := "oneOf", desc := "([Ljava/lang/String;)I" } : Jvm.MethodName)) ∈ lw_all := lw_g (lw_at lw_m2 170 rfl) rfl
theorem q566 : (Jvm.Cond.privateMethod ({ cls := "TruthBridge$Text", name := "oneOf", desc := "([Ljava/lang/String;)I" } : Jvm.MethodName)) ∈ lw_tbl := lw_at lw_m2 171 rfl
theorem q567 : (Jvm.Cond.instanceMethod ({ cls := "TruthBridge$Text", name := "oneOf", desc := "([Ljava/lang/String;)I" } : Jvm.MethodName)) ∈ lw_all := lw_g (lw_at lw_m2 172 rfl) rfl
theorem q568 : (Jvm.Cond.code ({ cls := "TruthBridge$Text", name := "oneOf", desc := "([Ljava/lang/String;)I" } : Jvm.MethodName) prog_16_method_8_code (3 : Nat) (Option.some Jvm.ClassFile.FieldType.int)) ∈ lw_all := lw_g (lw_at lw_m2 173 rfl) rfl
theorem q569 : (Jvm.Cond.methodLink "TruthBridge$Text" (68 : Nat) ({ cls := "TruthBridge$Text", name := "isWord", desc := "(Ljava/lang/String;)Z" } : Jvm.MethodName)) ∈ lw_all := lw_g (lw_at lw_m2 174 rfl) rfl
theorem q570 : (Jvm.Cond.privateMethod ({ cls := "TruthBridge$Text", name := "isWord", desc := "(Ljava/lang/String;)Z" } : Jvm.MethodName)) ∈ lw_tbl := lw_at lw_m2 175 rfl
theorem q571 : (Jvm.Cond.instanceMethod ({ cls := "TruthBridge$Text", name := "isWord", desc := "(Ljava/lang/String;)Z" } : Jvm.MethodName)) ∈ lw_all := lw_g (lw_at lw_m2 176 rfl) rfl
theorem q572 : (Jvm.Cond.code ({ cls := "TruthBridge$Text", name := "isWord", desc := "(Ljava/lang/String;)Z" } : Jvm.MethodName) prog_16_method_6_code (5 : Nat) (Option.some Jvm.ClassFile.FieldType.boolean)) ∈ lw_all := lw_g (lw_at lw_m2 177 rfl) rfl
theorem q573 : (Jvm.Cond.methodLink "TruthBridge$Text" (56 : Nat) ({ cls := "TruthBridge$Text", name := "letters", desc := "()I" } : Jvm.MethodName)) ∈ lw_all := lw_g (lw_at lw_m2 178 rfl) rfl
theorem q574 : (Jvm.Cond.privateMethod ({ cls := "TruthBridge$Text", name := "letters", desc := "()I" } : Jvm.MethodName)) ∈ lw_tbl := lw_at lw_m2 179 rfl
theorem q575 : (Jvm.Cond.instanceMethod ({ cls := "TruthBridge$Text", name := "letters", desc := "()I" } : Jvm.MethodName)) ∈ lw_all := lw_g (lw_at lw_m2 180 rfl) rfl
theorem q576 : (Jvm.Cond.code ({ cls := "TruthBridge$Text", name := "letters", desc := "()I" } : Jvm.MethodName) prog_16_method_5_code (2 : Nat) (Option.some Jvm.ClassFile.FieldType.int)) ∈ lw_all := lw_g (lw_at lw_m2 181 rfl) rfl
theorem q577 : (Jvm.Cond.methodLink "TruthBridge$Text" (59 : Nat) ({ cls := "java/lang/String", name := "length", desc := "()I" } : Jvm.MethodName)) ∈ lw_all := lw_g (lw_at lw_m2 182 rfl) rfl
theorem q587 : (Jvm.Cond.methodLink "TruthBridge$Text" (64 : Nat) ({ cls := "java/lang/String", name := "charAt", desc := "(I)C" } : Jvm.MethodName)) ∈ lw_all := lw_g (lw_at lw_m2 192 rfl) rfl
theorem q625 : (Jvm.Cond.methodLink "TruthBridge$Text" (76 : Nat) ({ cls := "TruthBridge$Text", name := "demand", desc := "(ZII)V" } : Jvm.MethodName)) ∈ lw_all := lw_g (lw_at lw_m2 230 rfl) rfl
theorem q626 : (Jvm.Cond.privateMethod ({ cls := "TruthBridge$Text", name := "demand", desc := "(ZII)V" } : Jvm.MethodName)) ∈ lw_tbl := lw_at lw_m2 231 rfl
theorem q627 : (Jvm.Cond.instanceMethod ({ cls := "TruthBridge$Text", name := "demand", desc := "(ZII)V" } : Jvm.MethodName)) ∈ lw_all := lw_g (lw_at lw_m2 232 rfl) rfl
theorem q628 : (Jvm.Cond.code ({ cls := "TruthBridge$Text", name := "demand", desc := "(ZII)V" } : Jvm.MethodName) prog_16_method_2_code (4 : Nat) (Option.none : Option Jvm.ClassFile.FieldType)) ∈ lw_all := lw_g (lw_at lw_m2 233 rfl) rfl
theorem q629 : (Jvm.Cond.methodLink "TruthBridge$Text" (185 : Nat) ({ cls := "TruthBridge$Text", name := "canBe", desc := "(I)Z" } : Jvm.MethodName)) ∈ lw_all := lw_g (lw_at lw_m2 234 rfl) rfl
theorem q630 : (Jvm.Cond.privateMethod ({ cls := "TruthBridge$Text", name := "canBe", desc := "(I)Z" } : Jvm.MethodName)) ∈ lw_tbl := lw_at lw_m2 235 rfl
theorem q631 : (Jvm.Cond.instanceMethod ({ cls := "TruthBridge$Text", name := "canBe", desc := "(I)Z" } : Jvm.MethodName)) ∈ lw_all := lw_g (lw_at lw_m2 236 rfl) rfl
theorem q632 : (Jvm.Cond.code ({ cls := "TruthBridge$Text", name := "canBe", desc := "(I)Z" } : Jvm.MethodName) prog_16_method_14_code (2 : Nat) (Option.some Jvm.ClassFile.FieldType.boolean)) ∈ lw_all := lw_g (lw_at lw_m2 237 rfl) rfl
theorem q633 : (Jvm.Cond.methodLink "TruthBridge$Text" (188 : Nat) ({ cls := "TruthBridge$Text", name := "line", desc := "(I)V" } : Jvm.MethodName)) ∈ lw_all := lw_g (lw_at lw_m2 238 rfl) rfl
theorem q634 : (Jvm.Cond.privateMethod ({ cls := "TruthBridge$Text", name := "line", desc := "(I)V" } : Jvm.MethodName)) ∈ lw_tbl := lw_at lw_m2 239 rfl
theorem q635 : (Jvm.Cond.instanceMethod ({ cls := "TruthBridge$Text", name := "line", desc := "(I)V" } : Jvm.MethodName)) ∈ lw_all := lw_g (lw_at lw_m3 0 rfl) rfl
theorem q636 : (Jvm.Cond.code ({ cls := "TruthBridge$Text", name := "line", desc := "(I)V" } : Jvm.MethodName) prog_16_method_19_code (2 : Nat) (Option.none : Option Jvm.ClassFile.FieldType)) ∈ lw_all := lw_g (lw_at lw_m3 1 rfl) rfl
theorem q637 : (Jvm.Cond.methodLink "TruthBridge$Text" (153 : Nat) ({ cls := "TruthBridge$Text", name := "factsHere", desc := "()V" } : Jvm.MethodName)) ∈ lw_all := lw_g (lw_at lw_m3 2 rfl) rfl
theorem q638 : (Jvm.Cond.privateMethod ({ cls := "TruthBridge$Text", name := "factsHere", desc := "()V" } : Jvm.MethodName)) ∈ lw_tbl := lw_at lw_m3 3 rfl
theorem q639 : (Jvm.Cond.instanceMethod ({ cls := "TruthBridge$Text", name := "factsHere", desc := "()V" } : Jvm.MethodName)) ∈ lw_all := lw_g (lw_at lw_m3 4 rfl) rfl
theorem q640 : (Jvm.Cond.code ({ cls := "TruthBridge$Text", name := "factsHere", desc := "()V" } : Jvm.MethodName) prog_16_method_15_code (2 : Nat) (Option.none : Option Jvm.ClassFile.FieldType)) ∈ lw_all := lw_g (lw_at lw_m3 5 rfl) rfl
theorem q641 : (Jvm.Cond.methodLink "TruthBridge$Text" (110 : Nat) ({ cls := "TruthBridge$Text", name := "number", desc := "(II)I" } : Jvm.MethodName)) ∈ lw_all := lw_g (lw_at lw_m3 6 rfl) rfl
theorem q642 : (Jvm.Cond.privateMethod ({ cls := "TruthBridge$Text", name := "number", desc := "(II)I" } : Jvm.MethodName)) ∈ lw_tbl := lw_at lw_m3 7 rfl
theorem q643 : (Jvm.Cond.instanceMethod ({ cls := "TruthBridge$Text", name := "number", desc := "(II)I" } : Jvm.MethodName)) ∈ lw_all := lw_g (lw_at lw_m3 8 rfl) rfl
theorem q644 : (Jvm.Cond.code ({ cls := "TruthBridge$Text", name := "number", desc := "(II)I" } : Jvm.MethodName) prog_16_method_10_code (5 : Nat) (Option.some Jvm.ClassFile.FieldType.int)) ∈ lw_all := lw_g (lw_at lw_m3 9 rfl) rfl
theorem q645 : (Jvm.Cond.methodLink "TruthBridge$Text" (72 : Nat) ({ cls := "TruthBridge$Text", name := "isDigit", desc := "(I)Z" } : Jvm.MethodName)) ∈ lw_all := lw_g (lw_at lw_m3 10 rfl) rfl
theorem q646 : (Jvm.Cond.privateMethod ({ cls := "TruthBridge$Text", name := "isDigit", desc := "(I)Z" } : Jvm.MethodName)) ∈ lw_tbl := lw_at lw_m3 11 rfl
theorem q647 : (Jvm.Cond.instanceMethod ({ cls := "TruthBridge$Text", name := "isDigit", desc := "(I)Z" } : Jvm.MethodName)) ∈ lw_all := lw_g (lw_at lw_m3 12 rfl) rfl
theorem q648 : (Jvm.Cond.code ({ cls := "TruthBridge$Text", name := "isDigit", desc := "(I)Z" } : Jvm.MethodName) prog_16_method_9_code (2 : Nat) (Option.some Jvm.ClassFile.FieldType.boolean)) ∈ lw_all := lw_g (lw_at lw_m3 13 rfl) rfl
theorem q649 : (Jvm.Cond.methodLinkNest "TruthBridge$Text" (80 : Nat) ({ cls := "TruthBridge", name := "in", desc := "(JJJ)Z" } : Jvm.MethodName) "TruthBridge") ∈ lw_tbl := lw_at lw_m3 14 rfl
theorem q652 : (Jvm.Cond.methodLink "TruthBridge$Text" (117 : Nat) ({ cls := "TruthBridge$Gorge", name := "holdsAll", desc := "(I)V" } : Jvm.MethodName)) ∈ lw_all := lw_g (lw_at lw_m3 17 rfl) rfl
theorem q660 : (Jvm.Cond.methodLink "TruthBridge$Text" (156 : Nat) ({ cls := "TruthBridge$Text", name := "personHere", desc := "()V" } : Jvm.MethodName)) ∈ lw_all := lw_g (lw_at lw_m3 25 rfl) rfl
theorem q661 : (Jvm.Cond.privateMethod ({ cls := "TruthBridge$Text", name := "personHere", desc := "()V" } : Jvm.MethodName)) ∈ lw_tbl := lw_at lw_m3 26 rfl
theorem q662 : (Jvm.Cond.instanceMethod ({ cls := "TruthBridge$Text", name := "personHere", desc := "()V" } : Jvm.MethodName)) ∈ lw_all := lw_g (lw_at lw_m3 27 rfl) rfl
theorem q663 : (Jvm.Cond.code ({ cls := "TruthBridge$Text", name := "personHere", desc := "()V" } : Jvm.MethodName) prog_16_method_16_code (4 : Nat) (Option.none : Option Jvm.ClassFile.FieldType)) ∈ lw_all := lw_g (lw_at lw_m3 28 rfl) rfl
theorem q664 : (Jvm.Cond.methodLink "TruthBridge$Text" (128 : Nat) ({ cls := "TruthBridge$Gorge", name := "worlds", desc := "()I" } : Jvm.MethodName)) ∈ lw_all := lw_g (lw_at lw_m3 29 rfl) rfl
theorem q665 : (Jvm.Cond.methodLinkNest "TruthBridge$Text" (134 : Nat) ({ cls := "TruthBridge", name := "has", desc := "(II)Z" } : Jvm.MethodName) "TruthBridge") ∈ lw_tbl := lw_at lw_m3 30 rfl
theorem q668 : (Jvm.Cond.methodLink "TruthBridge$Text" (138 : Nat) ({ cls := "TruthBridge$Gorge", name := "isToldFact", desc := "(II)V" } : Jvm.MethodName)) ∈ lw_all := lw_g (lw_at lw_m3 33 rfl) rfl
theorem q674 : (Jvm.Cond.methodLink "TruthBridge$Text" (159 : Nat) ({ cls := "TruthBridge$Text", name := "placeHere", desc := "()V" } : Jvm.MethodName)) ∈ lw_all := lw_g (lw_at lw_m3 39 rfl) rfl
theorem q675 : (Jvm.Cond.privateMethod ({ cls := "TruthBridge$Text", name := "placeHere", desc := "()V" } : Jvm.MethodName)) ∈ lw_tbl := lw_at lw_m3 40 rfl
theorem q676 : (Jvm.Cond.instanceMethod ({ cls := "TruthBridge$Text", name := "placeHere", desc := "()V" } : Jvm.MethodName)) ∈ lw_all := lw_g (lw_at lw_m3 41 rfl) rfl
theorem q677 : (Jvm.Cond.code ({ cls := "TruthBridge$Text", name := "placeHere", desc := "()V" } : Jvm.MethodName) prog_16_method_17_code (3 : Nat) (Option.none : Option Jvm.ClassFile.FieldType)) ∈ lw_all := lw_g (lw_at lw_m3 42 rfl) rfl
theorem q678 : (Jvm.Cond.methodLink "TruthBridge$Text" (162 : Nat) ({ cls := "TruthBridge$Text", name := "pathHere", desc := "()V" } : Jvm.MethodName)) ∈ lw_all := lw_g (lw_at lw_m3 43 rfl) rfl
theorem q679 : (Jvm.Cond.privateMethod ({ cls := "TruthBridge$Text", name := "pathHere", desc := "()V" } : Jvm.MethodName)) ∈ lw_tbl := lw_at lw_m3 44 rfl
theorem q680 : (Jvm.Cond.instanceMethod ({ cls := "TruthBridge$Text", name := "pathHere", desc := "()V" } : Jvm.MethodName)) ∈ lw_all := lw_g (lw_at lw_m3 45 rfl) rfl
theorem q681 : (Jvm.Cond.code ({ cls := "TruthBridge$Text", name := "pathHere", desc := "()V" } : Jvm.MethodName) prog_16_method_18_code (5 : Nat) (Option.none : Option Jvm.ClassFile.FieldType)) ∈ lw_all := lw_g (lw_at lw_m3 46 rfl) rfl
theorem q682 : (Jvm.Cond.methodLink "TruthBridge$Text" (148 : Nat) ({ cls := "java/lang/Math", name := "min", desc := "(II)I" } : Jvm.MethodName)) ∈ lw_all := lw_g (lw_at lw_m3 47 rfl) rfl
theorem q685 : (Jvm.Cond.methodLink "TruthBridge$Text" (191 : Nat) ({ cls := "TruthBridge$Text", name := "takesSign", desc := "(I)Z" } : Jvm.MethodName)) ∈ lw_all := lw_g (lw_at lw_m3 50 rfl) rfl
theorem q686 : (Jvm.Cond.privateMethod ({ cls := "TruthBridge$Text", name := "takesSign", desc := "(I)Z" } : Jvm.MethodName)) ∈ lw_tbl := lw_at lw_m3 51 rfl
theorem q687 : (Jvm.Cond.instanceMethod ({ cls := "TruthBridge$Text", name := "takesSign", desc := "(I)Z" } : Jvm.MethodName)) ∈ lw_all := lw_g (lw_at lw_m3 52 rfl) rfl
theorem q688 : (Jvm.Cond.code ({ cls := "TruthBridge$Text", name := "takesSign", desc := "(I)Z" } : Jvm.MethodName) prog_16_method_4_code (2 : Nat) (Option.some Jvm.ClassFile.FieldType.boolean)) ∈ lw_all := lw_g (lw_at lw_m3 53 rfl) rfl
theorem q689 : (Jvm.Cond.methodLink "TruthBridge$Text" (194 : Nat) ({ cls := "TruthBridge$Text", name := "ends", desc := "()V" } : Jvm.MethodName)) ∈ lw_all := lw_g (lw_at lw_m3 54 rfl) rfl
theorem q690 : (Jvm.Cond.privateMethod ({ cls := "TruthBridge$Text", name := "ends", desc := "()V" } : Jvm.MethodName)) ∈ lw_tbl := lw_at lw_m3 55 rfl
theorem q691 : (Jvm.Cond.instanceMethod ({ cls := "TruthBridge$Text", name := "ends", desc := "()V" } : Jvm.MethodName)) ∈ lw_all := lw_g (lw_at lw_m3 56 rfl) rfl
theorem q692 : (Jvm.Cond.code ({ cls := "TruthBridge$Text", name := "ends", desc := "()V" } : Jvm.MethodName) prog_16_method_13_code (1 : Nat) (Option.none : Option Jvm.ClassFile.FieldType)) ∈ lw_all := lw_g (lw_at lw_m3 57 rfl) rfl
theorem q693 : (Jvm.Cond.methodLink "TruthBridge$Text" (197 : Nat) ({ cls := "TruthBridge$Text", name := "shortens", desc := "()V" } : Jvm.MethodName)) ∈ lw_all := lw_g (lw_at lw_m3 58 rfl) rfl
theorem q694 : (Jvm.Cond.privateMethod ({ cls := "TruthBridge$Text", name := "shortens", desc := "()V" } : Jvm.MethodName)) ∈ lw_tbl := lw_at lw_m3 59 rfl
theorem q695 : (Jvm.Cond.instanceMethod ({ cls := "TruthBridge$Text", name := "shortens", desc := "()V" } : Jvm.MethodName)) ∈ lw_all := lw_g (lw_at lw_m3 60 rfl) rfl
theorem q696 : (Jvm.Cond.code ({ cls := "TruthBridge$Text", name := "shortens", desc := "()V" } : Jvm.MethodName) prog_16_method_20_code (4 : Nat) (Option.none : Option Jvm.ClassFile.FieldType)) ∈ lw_all := lw_g (lw_at lw_m3 61 rfl) rfl
theorem q707 : (Jvm.Cond.instanceMethod ({ cls := "TruthBridge$Text", name := "sayingTold", desc := "()LTruthBridge$Form;" } : Jvm.MethodName)) ∈ lw_all := lw_g (lw_at lw_m3 72 rfl) rfl
theorem q708 : (Jvm.Cond.selects "TruthBridge$Text" ({ cls := "TruthBridge$Text", name := "sayingTold", desc := "()LTruthBridge$Form;" } : Jvm.MethodName) ({ cls := "TruthBridge$Text", name := "sayingTold", desc := "()LTruthBridge$Form;" } : Jvm.MethodName)) ∈ lw_all := lw_g (lw_at lw_m3 73 rfl) rfl
theorem q709 : (Jvm.Cond.code ({ cls := "TruthBridge$Text", name := "sayingTold", desc := "()LTruthBridge$Form;" } : Jvm.MethodName) prog_16_method_25_code (2 : Nat) (Option.some (Jvm.ClassFile.FieldType.object "TruthBridge$Form"))) ∈ lw_all := lw_g (lw_at lw_m3 74 rfl) rfl
theorem q710 : (Jvm.Cond.methodLink "TruthBridge$Text" (229 : Nat) ({ cls := "TruthBridge$Text", name := "formHere", desc := "()LTruthBridge$Form;" } : Jvm.MethodName)) ∈ lw_all := lw_g (lw_at lw_m3 75 rfl) rfl
theorem q711 : (Jvm.Cond.privateMethod ({ cls := "TruthBridge$Text", name := "formHere", desc := "()LTruthBridge$Form;" } : Jvm.MethodName)) ∈ lw_tbl := lw_at lw_m3 76 rfl
theorem q712 : (Jvm.Cond.instanceMethod ({ cls := "TruthBridge$Text", name := "formHere", desc := "()LTruthBridge$Form;" } : Jvm.MethodName)) ∈ lw_all := lw_g (lw_at lw_m3 77 rfl) rfl
theorem q713 : (Jvm.Cond.code ({ cls := "TruthBridge$Text", name := "formHere", desc := "()LTruthBridge$Form;" } : Jvm.MethodName) prog_16_method_22_code (2 : Nat) (Option.some (Jvm.ClassFile.FieldType.object "TruthBridge$Form"))) ∈ lw_all := lw_g (lw_at lw_m3 78 rfl) rfl
theorem q714 : (Jvm.Cond.methodLink "TruthBridge$Text" (200 : Nat) ({ cls := "TruthBridge$Text", name := "partOfForm", desc := "()LTruthBridge$Form;" } : Jvm.MethodName)) ∈ lw_all := lw_g (lw_at lw_m3 79 rfl) rfl
theorem q715 : (Jvm.Cond.privateMethod ({ cls := "TruthBridge$Text", name := "partOfForm", desc := "()LTruthBridge$Form;" } : Jvm.MethodName)) ∈ lw_tbl := lw_at lw_m3 80 rfl
theorem q716 : (Jvm.Cond.instanceMethod ({ cls := "TruthBridge$Text", name := "partOfForm", desc := "()LTruthBridge$Form;" } : Jvm.MethodName)) ∈ lw_all := lw_g (lw_at lw_m3 81 rfl) rfl
theorem q717 : (Jvm.Cond.code ({ cls := "TruthBridge$Text", name := "partOfForm", desc := "()LTruthBridge$Form;" } : Jvm.MethodName) prog_16_method_23_code (2 : Nat) (Option.some (Jvm.ClassFile.FieldType.object "TruthBridge$Form"))) ∈ lw_all := lw_g (lw_at lw_m3 82 rfl) rfl
theorem q718 : (Jvm.Cond.methodLink "TruthBridge$Text" (214 : Nat) ({ cls := "TruthBridge$Text", name := "leafHere", desc := "()LTruthBridge$Form;" } : Jvm.MethodName)) ∈ lw_all := lw_g (lw_at lw_m3 83 rfl) rfl
theorem q719 : (Jvm.Cond.privateMethod ({ cls := "TruthBridge$Text", name := "leafHere", desc := "()LTruthBridge$Form;" } : Jvm.MethodName)) ∈ lw_tbl := lw_at lw_m3 84 rfl
theorem q720 : (Jvm.Cond.instanceMethod ({ cls := "TruthBridge$Text", name := "leafHere", desc := "()LTruthBridge$Form;" } : Jvm.MethodName)) ∈ lw_all := lw_g (lw_at lw_m3 85 rfl) rfl
theorem q721 : (Jvm.Cond.code ({ cls := "TruthBridge$Text", name := "leafHere", desc := "()LTruthBridge$Form;" } : Jvm.MethodName) prog_16_method_24_code (4 : Nat) (Option.some (Jvm.ClassFile.FieldType.object "TruthBridge$Form"))) ∈ lw_all := lw_g (lw_at lw_m3 86 rfl) rfl
theorem q722 : (Jvm.Cond.stringRef "TruthBridge$Text" (219 : Nat) "not") ∈ lw_tbl := lw_at lw_m3 87 rfl
theorem q723 : (Jvm.Cond.methodLink "TruthBridge$Text" (221 : Nat) ({ cls := "TruthBridge$Text", name := "opens", desc := "(I)V" } : Jvm.MethodName)) ∈ lw_all := lw_g (lw_at lw_m3 88 rfl) rfl
theorem q724 : (Jvm.Cond.privateMethod ({ cls := "TruthBridge$Text", name := "opens", desc := "(I)V" } : Jvm.MethodName)) ∈ lw_tbl := lw_at lw_m3 89 rfl
theorem q725 : (Jvm.Cond.instanceMethod ({ cls := "TruthBridge$Text", name := "opens", desc := "(I)V" } : Jvm.MethodName)) ∈ lw_all := lw_g (lw_at lw_m3 90 rfl) rfl
theorem q726 : (Jvm.Cond.code ({ cls := "TruthBridge$Text", name := "opens", desc := "(I)V" } : Jvm.MethodName) prog_16_method_12_code (2 : Nat) (Option.none : Option Jvm.ClassFile.FieldType)) ∈ lw_all := lw_g (lw_at lw_m3 91 rfl) rfl
theorem q727 : (Jvm.Cond.classLink "TruthBridge$Text" (224 : Nat) "TruthBridge$Nay") ∈ lw_all := lw_g (lw_at lw_m3 92 rfl) rfl
theorem q729 : (Jvm.Cond.methodLink "TruthBridge$Text" (226 : Nat) ({ cls := "TruthBridge$Nay", name := "<init>", desc := "(LTruthBridge$Form;)V" } : Jvm.MethodName)) ∈ lw_all := lw_g (lw_at lw_m3 94 rfl) rfl
theorem q740 : (Jvm.Cond.constantLong "TruthBridge$Text" (232 : Nat) (97 : Int64)) ∈ lw_all := lw_g (lw_at lw_m3 105 rfl) rfl
theorem q741 : (Jvm.Cond.constantLong "TruthBridge$Text" (234 : Nat) (104 : Int64)) ∈ lw_all := lw_g (lw_at lw_m3 106 rfl) rfl
theorem q742 : (Jvm.Cond.classLink "TruthBridge$Text" (239 : Nat) "TruthBridge$Letter") ∈ lw_all := lw_g (lw_at lw_m3 107 rfl) rfl
theorem q744 : (Jvm.Cond.methodLink "TruthBridge$Text" (241 : Nat) ({ cls := "TruthBridge$Letter", name := "<init>", desc := "(I)V" } : Jvm.MethodName)) ∈ lw_all := lw_g (lw_at lw_m3 109 rfl) rfl
theorem q752 : (Jvm.Cond.stringRef "TruthBridge$Text" (217 : Nat) "and") ∈ lw_tbl := lw_at lw_m3 117 rfl
theorem q753 : (Jvm.Cond.methodLink "TruthBridge$Text" (206 : Nat) ({ cls := "TruthBridge$Text", name := "takesWord", desc := "(Ljava/lang/String;)Z" } : Jvm.MethodName)) ∈ lw_all := lw_g (lw_at lw_m3 118 rfl) rfl
theorem q754 : (Jvm.Cond.privateMethod ({ cls := "TruthBridge$Text", name := "takesWord", desc := "(Ljava/lang/String;)Z" } : Jvm.MethodName)) ∈ lw_tbl := lw_at lw_m3 119 rfl
theorem q755 : (Jvm.Cond.instanceMethod ({ cls := "TruthBridge$Text", name := "takesWord", desc := "(Ljava/lang/String;)Z" } : Jvm.MethodName)) ∈ lw_all := lw_g (lw_at lw_m3 120 rfl) rfl
theorem q756 : (Jvm.Cond.code ({ cls := "TruthBridge$Text", name := "takesWord", desc := "(Ljava/lang/String;)Z" } : Jvm.MethodName) prog_16_method_7_code (2 : Nat) (Option.some Jvm.ClassFile.FieldType.boolean)) ∈ lw_all := lw_g (lw_at lw_m3 121 rfl) rfl
theorem q757 : (Jvm.Cond.classLink "TruthBridge$Text" (209 : Nat) "TruthBridge$Two") ∈ lw_all := lw_g (lw_at lw_m3 122 rfl) rfl
theorem q759 : (Jvm.Cond.methodLink "TruthBridge$Text" (211 : Nat) ({ cls := "TruthBridge$Two", name := "<init>", desc := "(LTruthBridge$Form;ZLTruthBridge$Form;)V" } : Jvm.MethodName)) ∈ lw_all := lw_g (lw_at lw_m3 124 rfl) rfl
theorem q773 : (Jvm.Cond.stringRef "TruthBridge$Text" (204 : Nat) "or") ∈ lw_tbl := lw_at lw_m3 138 rfl
theorem q798 : (Jvm.Cond.instanceMethod ({ cls := "TruthBridge$Text", name := "ruleTold", desc := "()LTruthBridge$Rule;" } : Jvm.MethodName)) ∈ lw_all := lw_g (lw_at lw_m3 163 rfl) rfl
theorem q799 : (Jvm.Cond.selects "TruthBridge$Text" ({ cls := "TruthBridge$Text", name := "ruleTold", desc := "()LTruthBridge$Rule;" } : Jvm.MethodName) ({ cls := "TruthBridge$Text", name := "ruleTold", desc := "()LTruthBridge$Rule;" } : Jvm.MethodName)) ∈ lw_all := lw_g (lw_at lw_m3 164 rfl) rfl
theorem q800 : (Jvm.Cond.code ({ cls := "TruthBridge$Text", name := "ruleTold", desc := "()LTruthBridge$Rule;" } : Jvm.MethodName) prog_16_method_27_code (3 : Nat) (Option.some (Jvm.ClassFile.FieldType.object "TruthBridge$Rule"))) ∈ lw_all := lw_g (lw_at lw_m3 165 rfl) rfl
theorem q801 : (Jvm.Cond.classLink "TruthBridge$Text" (263 : Nat) "TruthBridge$Rule") ∈ lw_all := lw_g (lw_at lw_m3 166 rfl) rfl
theorem q803 : (Jvm.Cond.methodLinkNest "TruthBridge$Text" (265 : Nat) ({ cls := "TruthBridge$Rule", name := "<init>", desc := "()V" } : Jvm.MethodName) "TruthBridge") ∈ lw_tbl := lw_at lw_m3 168 rfl
theorem q810 : (Jvm.Cond.fieldLinkNest "TruthBridge$Text" (269 : Nat) "TruthBridge$Rule" "clauses" "[LTruthBridge$Clause;" "TruthBridge") ∈ lw_tbl := lw_at lw_m3 175 rfl
theorem q812 : (Jvm.Cond.fieldLinkNest "TruthBridge$Text" (273 : Nat) "TruthBridge$Rule" "many" "I" "TruthBridge") ∈ lw_tbl := lw_at lw_m3 177 rfl
theorem q818 : (Jvm.Cond.methodLink "TruthBridge$Text" (274 : Nat) ({ cls := "TruthBridge$Text", name := "clauseHere", desc := "()LTruthBridge$Clause;" } : Jvm.MethodName)) ∈ lw_all := lw_g (lw_at lw_m3 183 rfl) rfl
theorem q819 : (Jvm.Cond.privateMethod ({ cls := "TruthBridge$Text", name := "clauseHere", desc := "()LTruthBridge$Clause;" } : Jvm.MethodName)) ∈ lw_tbl := lw_at lw_m3 184 rfl
theorem q820 : (Jvm.Cond.instanceMethod ({ cls := "TruthBridge$Text", name := "clauseHere", desc := "()LTruthBridge$Clause;" } : Jvm.MethodName)) ∈ lw_all := lw_g (lw_at lw_m3 185 rfl) rfl
theorem q821 : (Jvm.Cond.code ({ cls := "TruthBridge$Text", name := "clauseHere", desc := "()LTruthBridge$Clause;" } : Jvm.MethodName) prog_16_method_26_code (2 : Nat) (Option.some (Jvm.ClassFile.FieldType.object "TruthBridge$Clause"))) ∈ lw_all := lw_g (lw_at lw_m3 186 rfl) rfl
theorem q822 : (Jvm.Cond.classLink "TruthBridge$Text" (243 : Nat) "TruthBridge$Clause") ∈ lw_all := lw_g (lw_at lw_m3 187 rfl) rfl
theorem q824 : (Jvm.Cond.methodLinkNest "TruthBridge$Text" (245 : Nat) ({ cls := "TruthBridge$Clause", name := "<init>", desc := "()V" } : Jvm.MethodName) "TruthBridge") ∈ lw_tbl := lw_at lw_m3 189 rfl
theorem q829 : (Jvm.Cond.fieldLinkNest "TruthBridge$Text" (250 : Nat) "TruthBridge$Clause" "sum" "LTruthBridge$Value;" "TruthBridge") ∈ lw_tbl := lw_at lw_m3 194 rfl
theorem q831 : (Jvm.Cond.fieldLinkNest "TruthBridge$Text" (259 : Nat) "TruthBridge$Clause" "test" "LTruthBridge$Test;" "TruthBridge") ∈ lw_tbl := lw_at lw_m3 196 rfl
theorem q837 : (Jvm.Cond.methodLink "TruthBridge$Text" (246 : Nat) ({ cls := "TruthBridge$Text", name := "sum", desc := "()LTruthBridge$Value;" } : Jvm.MethodName)) ∈ lw_all := lw_g (lw_at lw_m3 202 rfl) rfl
theorem q838 : (Jvm.Cond.privateMethod ({ cls := "TruthBridge$Text", name := "sum", desc := "()LTruthBridge$Value;" } : Jvm.MethodName)) ∈ lw_tbl := lw_at lw_m3 203 rfl
theorem q839 : (Jvm.Cond.instanceMethod ({ cls := "TruthBridge$Text", name := "sum", desc := "()LTruthBridge$Value;" } : Jvm.MethodName)) ∈ lw_all := lw_g (lw_at lw_m3 204 rfl) rfl
theorem q840 : (Jvm.Cond.code ({ cls := "TruthBridge$Text", name := "sum", desc := "()LTruthBridge$Value;" } : Jvm.MethodName) prog_16_method_32_code (3 : Nat) (Option.some (Jvm.ClassFile.FieldType.object "TruthBridge$Value"))) ∈ lw_all := lw_g (lw_at lw_m3 205 rfl) rfl
theorem q841 : (Jvm.Cond.methodLink "TruthBridge$Text" (305 : Nat) ({ cls := "TruthBridge$Text", name := "term", desc := "()LTruthBridge$Value;" } : Jvm.MethodName)) ∈ lw_all := lw_g (lw_at lw_m3 206 rfl) rfl
theorem q842 : (Jvm.Cond.privateMethod ({ cls := "TruthBridge$Text", name := "term", desc := "()LTruthBridge$Value;" } : Jvm.MethodName)) ∈ lw_tbl := lw_at lw_m3 207 rfl
theorem q843 : (Jvm.Cond.instanceMethod ({ cls := "TruthBridge$Text", name := "term", desc := "()LTruthBridge$Value;" } : Jvm.MethodName)) ∈ lw_all := lw_g (lw_at lw_m3 208 rfl) rfl
theorem q844 : (Jvm.Cond.code ({ cls := "TruthBridge$Text", name := "term", desc := "()LTruthBridge$Value;" } : Jvm.MethodName) prog_16_method_33_code (3 : Nat) (Option.some (Jvm.ClassFile.FieldType.object "TruthBridge$Value"))) ∈ lw_all := lw_g (lw_at lw_m3 209 rfl) rfl
theorem q845 : (Jvm.Cond.methodLink "TruthBridge$Text" (311 : Nat) ({ cls := "TruthBridge$Text", name := "value", desc := "()LTruthBridge$Value;" } : Jvm.MethodName)) ∈ lw_all := lw_g (lw_at lw_m3 210 rfl) rfl
theorem q846 : (Jvm.Cond.privateMethod ({ cls := "TruthBridge$Text", name := "value", desc := "()LTruthBridge$Value;" } : Jvm.MethodName)) ∈ lw_tbl := lw_at lw_m3 211 rfl
theorem q847 : (Jvm.Cond.instanceMethod ({ cls := "TruthBridge$Text", name := "value", desc := "()LTruthBridge$Value;" } : Jvm.MethodName)) ∈ lw_all := lw_g (lw_at lw_m3 212 rfl) rfl
theorem q848 : (Jvm.Cond.code ({ cls := "TruthBridge$Text", name := "value", desc := "()LTruthBridge$Value;" } : Jvm.MethodName) prog_16_method_34_code (3 : Nat) (Option.some (Jvm.ClassFile.FieldType.object "TruthBridge$Value"))) ∈ lw_all := lw_g (lw_at lw_m3 213 rfl) rfl
theorem q849 : (Jvm.Cond.constant "TruthBridge$Text" (314 : Nat) (99999 : Int32)) ∈ lw_all := lw_g (lw_at lw_m3 214 rfl) rfl
theorem q850 : (Jvm.Cond.methodLink "TruthBridge$Text" (297 : Nat) ({ cls := "TruthBridge$Text", name := "makes", desc := "(I)V" } : Jvm.MethodName)) ∈ lw_all := lw_g (lw_at lw_m3 215 rfl) rfl
theorem q851 : (Jvm.Cond.privateMethod ({ cls := "TruthBridge$Text", name := "makes", desc := "(I)V" } : Jvm.MethodName)) ∈ lw_tbl := lw_at lw_m3 216 rfl
theorem q852 : (Jvm.Cond.instanceMethod ({ cls := "TruthBridge$Text", name := "makes", desc := "(I)V" } : Jvm.MethodName)) ∈ lw_all := lw_g (lw_at lw_m3 217 rfl) rfl
theorem q853 : (Jvm.Cond.code ({ cls := "TruthBridge$Text", name := "makes", desc := "(I)V" } : Jvm.MethodName) prog_16_method_11_code (2 : Nat) (Option.none : Option Jvm.ClassFile.FieldType)) ∈ lw_all := lw_g (lw_at lw_m3 218 rfl) rfl
theorem q854 : (Jvm.Cond.classLink "TruthBridge$Text" (315 : Nat) "TruthBridge$Number") ∈ lw_all := lw_g (lw_at lw_m3 219 rfl) rfl
theorem q856 : (Jvm.Cond.methodLink "TruthBridge$Text" (317 : Nat) ({ cls := "TruthBridge$Number", name := "<init>", desc := "(J)V" } : Jvm.MethodName)) ∈ lw_all := lw_g (lw_at lw_m3 221 rfl) rfl
theorem q867 : (Jvm.Cond.classLink "TruthBridge$Text" (320 : Nat) "TruthBridge$Word") ∈ lw_all := lw_g (lw_at lw_m3 232 rfl) rfl
theorem q869 : (Jvm.Cond.methodLink "TruthBridge$Text" (322 : Nat) ({ cls := "TruthBridge$Word", name := "<init>", desc := "(I)V" } : Jvm.MethodName)) ∈ lw_all := lw_g (lw_at lw_m3 234 rfl) rfl
theorem q877 : (Jvm.Cond.classLink "TruthBridge$Text" (308 : Nat) "TruthBridge$Pair") ∈ lw_all := lw_g (lw_at lw_m4 2 rfl) rfl
theorem q879 : (Jvm.Cond.methodLink "TruthBridge$Text" (310 : Nat) ({ cls := "TruthBridge$Pair", name := "<init>", desc := "(LTruthBridge$Value;ILTruthBridge$Value;)V" } : Jvm.MethodName)) ∈ lw_all := lw_g (lw_at lw_m4 4 rfl) rfl
theorem q893 : (Jvm.Cond.stringRef "TruthBridge$Text" (253 : Nat) "if") ∈ lw_tbl := lw_at lw_m4 18 rfl
theorem q894 : (Jvm.Cond.methodLink "TruthBridge$Text" (255 : Nat) ({ cls := "TruthBridge$Text", name := "tested", desc := "()LTruthBridge$Test;" } : Jvm.MethodName)) ∈ lw_all := lw_g (lw_at lw_m4 19 rfl) rfl
theorem q895 : (Jvm.Cond.privateMethod ({ cls := "TruthBridge$Text", name := "tested", desc := "()LTruthBridge$Test;" } : Jvm.MethodName)) ∈ lw_tbl := lw_at lw_m4 20 rfl
theorem q896 : (Jvm.Cond.instanceMethod ({ cls := "TruthBridge$Text", name := "tested", desc := "()LTruthBridge$Test;" } : Jvm.MethodName)) ∈ lw_all := lw_g (lw_at lw_m4 21 rfl) rfl
theorem q897 : (Jvm.Cond.code ({ cls := "TruthBridge$Text", name := "tested", desc := "()LTruthBridge$Test;" } : Jvm.MethodName) prog_16_method_28_code (2 : Nat) (Option.some (Jvm.ClassFile.FieldType.object "TruthBridge$Test"))) ∈ lw_all := lw_g (lw_at lw_m4 22 rfl) rfl
theorem q898 : (Jvm.Cond.methodLink "TruthBridge$Text" (278 : Nat) ({ cls := "TruthBridge$Text", name := "parted", desc := "()LTruthBridge$Test;" } : Jvm.MethodName)) ∈ lw_all := lw_g (lw_at lw_m4 23 rfl) rfl
theorem q899 : (Jvm.Cond.privateMethod ({ cls := "TruthBridge$Text", name := "parted", desc := "()LTruthBridge$Test;" } : Jvm.MethodName)) ∈ lw_tbl := lw_at lw_m4 24 rfl
theorem q900 : (Jvm.Cond.instanceMethod ({ cls := "TruthBridge$Text", name := "parted", desc := "()LTruthBridge$Test;" } : Jvm.MethodName)) ∈ lw_all := lw_g (lw_at lw_m4 25 rfl) rfl
theorem q901 : (Jvm.Cond.code ({ cls := "TruthBridge$Text", name := "parted", desc := "()LTruthBridge$Test;" } : Jvm.MethodName) prog_16_method_29_code (2 : Nat) (Option.some (Jvm.ClassFile.FieldType.object "TruthBridge$Test"))) ∈ lw_all := lw_g (lw_at lw_m4 26 rfl) rfl
theorem q902 : (Jvm.Cond.methodLink "TruthBridge$Text" (286 : Nat) ({ cls := "TruthBridge$Text", name := "factHere", desc := "()LTruthBridge$Test;" } : Jvm.MethodName)) ∈ lw_all := lw_g (lw_at lw_m4 27 rfl) rfl
theorem q903 : (Jvm.Cond.privateMethod ({ cls := "TruthBridge$Text", name := "factHere", desc := "()LTruthBridge$Test;" } : Jvm.MethodName)) ∈ lw_tbl := lw_at lw_m4 28 rfl
theorem q904 : (Jvm.Cond.instanceMethod ({ cls := "TruthBridge$Text", name := "factHere", desc := "()LTruthBridge$Test;" } : Jvm.MethodName)) ∈ lw_all := lw_g (lw_at lw_m4 29 rfl) rfl
theorem q905 : (Jvm.Cond.code ({ cls := "TruthBridge$Text", name := "factHere", desc := "()LTruthBridge$Test;" } : Jvm.MethodName) prog_16_method_30_code (6 : Nat) (Option.some (Jvm.ClassFile.FieldType.object "TruthBridge$Test"))) ∈ lw_all := lw_g (lw_at lw_m4 30 rfl) rfl
theorem q906 : (Jvm.Cond.classLink "TruthBridge$Text" (289 : Nat) "TruthBridge$Not") ∈ lw_all := lw_g (lw_at lw_m4 31 rfl) rfl
theorem q908 : (Jvm.Cond.methodLink "TruthBridge$Text" (291 : Nat) ({ cls := "TruthBridge$Not", name := "<init>", desc := "(LTruthBridge$Test;)V" } : Jvm.MethodName)) ∈ lw_all := lw_g (lw_at lw_m4 33 rfl) rfl
theorem q919 : (Jvm.Cond.methodLink "TruthBridge$Text" (294 : Nat) ({ cls := "TruthBridge$Text", name := "sign", desc := "()I" } : Jvm.MethodName)) ∈ lw_all := lw_g (lw_at lw_m4 44 rfl) rfl
theorem q920 : (Jvm.Cond.privateMethod ({ cls := "TruthBridge$Text", name := "sign", desc := "()I" } : Jvm.MethodName)) ∈ lw_tbl := lw_at lw_m4 45 rfl
theorem q921 : (Jvm.Cond.instanceMethod ({ cls := "TruthBridge$Text", name := "sign", desc := "()I" } : Jvm.MethodName)) ∈ lw_all := lw_g (lw_at lw_m4 46 rfl) rfl
theorem q922 : (Jvm.Cond.code ({ cls := "TruthBridge$Text", name := "sign", desc := "()I" } : Jvm.MethodName) prog_16_method_31_code (3 : Nat) (Option.some Jvm.ClassFile.FieldType.int)) ∈ lw_all := lw_g (lw_at lw_m4 47 rfl) rfl
theorem q923 : (Jvm.Cond.classLink "TruthBridge$Text" (300 : Nat) "TruthBridge$Compare") ∈ lw_all := lw_g (lw_at lw_m4 48 rfl) rfl
theorem q925 : (Jvm.Cond.methodLink "TruthBridge$Text" (302 : Nat) ({ cls := "TruthBridge$Compare", name := "<init>", desc := "(LTruthBridge$Value;ILTruthBridge$Value;)V" } : Jvm.MethodName)) ∈ lw_all := lw_g (lw_at lw_m4 50 rfl) rfl
theorem q939 : (Jvm.Cond.classLink "TruthBridge$Text" (281 : Nat) "TruthBridge$Both") ∈ lw_all := lw_g (lw_at lw_m4 64 rfl) rfl
theorem q941 : (Jvm.Cond.methodLink "TruthBridge$Text" (283 : Nat) ({ cls := "TruthBridge$Both", name := "<init>", desc := "(LTruthBridge$Test;ZLTruthBridge$Test;)V" } : Jvm.MethodName)) ∈ lw_all := lw_g (lw_at lw_m4 66 rfl) rfl
theorem in_X4 : ∀ w ∈ wsX40, w ∈ lw_all := lw_in wsX40 [529, 531, 533, 535, 537, 539, 541, 543] (by decide +kernel) (by decide +kernel)
