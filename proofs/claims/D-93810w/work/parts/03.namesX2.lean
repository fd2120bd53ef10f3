/-! PointsForAllModel -/
set_option maxRecDepth 100000
def RX2 : String := "PointsForAllModel"
def TX2 : u_T := fun k => match k with
  | 0 => ("PointsForAllModel", "may", "[I", true)
  | 1 => ("PointsForAllModel", "changeAt", "[I", true)
  | 2 => ("PointsForAllModel", "changeWas", "[I", true)
  | 3 => ("PointsForAllModel", "changeIs", "[I", true)
  | 4 => ("PointsForAllModel", "keptMany", "I", false)
  | 5 => ("PointsForAllModel", "done", "I", false)
  | 6 => ("PointsForAllModel", "things", "I", false)
  | 7 => ("PointsForAllModel", "madeAt", "[I", true)
  | 8 => ("PointsForAllModel", "sorts", "I", false)
  | 9 => ("PointsForAllModel", "heads", "[I", true)
  | 10 => ("PointsForAllModel", "babies", "[I", true)
  | 11 => ("PointsForAllModel", "wantOf", "[I", true)
  | 12 => ("PointsForAllModel", "told", "[I", true)
  | 13 => ("PointsForAllModel", "tape", "[I", true)
  | 14 => ("PointsForAllModel", "tapeMany", "I", false)
  | 15 => ("PointsForAllModel", "wants", "I", false)
  | 16 => ("PointsForAllModel", "text", "[I", true)
  | 17 => ("PointsForAllModel", "textMany", "[I", true)
  | 18 => ("PointsForAllModel", "base", "I", false)
  | 19 => ("PointsForAllModel", "at", "I", false)
  | 20 => ("PointsForAllModel", "ends", "I", false)
  | 21 => ("PointsForAllModel", "fault", "I", false)
  | 22 => ("PointsForAllModel", "opened", "I", false)
  | 23 => ("PointsForAllModel", "names", "[I", true)
  | 24 => ("PointsForAllModel", "worths", "[I", true)
  | 25 => ("PointsForAllModel", "inBasket", "[I", true)
  | 26 => ("PointsForAllModel", "basketWorth", "I", false)
  | 27 => ("PointsForAllModel", "basketCoin", "I", false)
  | 28 => ("PointsForAllModel", "basketPoints", "I", false)
  | 29 => ("PointsForAllModel", "dearer", "I", false)
  | 30 => ("PointsForAllModel", "bestWorth", "I", false)
  | 31 => ("PointsForAllModel", "bestCoin", "I", false)
  | 32 => ("PointsForAllModel", "bestPoints", "I", false)
  | 33 => ("PointsForAllModel", "wanted", "[I", true)
  | 34 => ("PointsForAllModel", "takes", "[I", true)
  | 35 => ("PointsForAllModel", "movedRounds", "I", false)
  | 36 => ("PointsForAllModel", "bothThen", "I", false)
  | 37 => ("PointsForAllModel", "leastBoth", "I", false)
  | 38 => ("PointsForAllModel", "leastRound", "I", false)
  | 39 => ("PointsForAllModel", "pointsThen", "[I", true)
  | 40 => ("PointsForAllModel", "pointsBest", "[I", true)
  | 41 => ("PointsForAllModel", "pointsWas", "[I", true)
  | 42 => ("PointsForAllModel", "changedWorth", "I", false)
  | 43 => ("PointsForAllModel", "changedPoints", "I", false)
  | 44 => ("PointsForAllModel", "worthBy", "[I", true)
  | 45 => ("PointsForAllModel", "bodies", "I", false)
  | 46 => ("PointsForAllModel", "bodyKind", "[I", true)
  | 47 => ("PointsForAllModel", "trace", "[I", true)
  | 48 => ("PointsForAllModel", "ran", "I", false)
  | 49 => ("PointsForAllModel", "ownKind", "I", false)
  | 50 => ("PointsForAllModel", "ownNumber", "I", false)
  | 51 => ("PointsForAllModel", "shelf", "[I", true)
  | 52 => ("PointsForAllModel", "many", "[I", true)
  | 53 => ("PointsForAllModel", "items", "[J", true)
  | _ => ("PointsForAllModel", "carried", "[J", true)
def tyX2 : Nat → FieldType := fun k => match k with
  | 0 => .array .int
  | 1 => .array .int
  | 2 => .array .int
  | 3 => .array .int
  | 4 => .int
  | 5 => .int
  | 6 => .int
  | 7 => .array .int
  | 8 => .int
  | 9 => .array .int
  | 10 => .array .int
  | 11 => .array .int
  | 12 => .array .int
  | 13 => .array .int
  | 14 => .int
  | 15 => .int
  | 16 => .array .int
  | 17 => .array .int
  | 18 => .int
  | 19 => .int
  | 20 => .int
  | 21 => .int
  | 22 => .int
  | 23 => .array .int
  | 24 => .array .int
  | 25 => .array .int
  | 26 => .int
  | 27 => .int
  | 28 => .int
  | 29 => .int
  | 30 => .int
  | 31 => .int
  | 32 => .int
  | 33 => .array .int
  | 34 => .array .int
  | 35 => .int
  | 36 => .int
  | 37 => .int
  | 38 => .int
  | 39 => .array .int
  | 40 => .array .int
  | 41 => .array .int
  | 42 => .int
  | 43 => .int
  | 44 => .array .int
  | 45 => .int
  | 46 => .array .int
  | 47 => .array .int
  | 48 => .int
  | 49 => .int
  | 50 => .int
  | 51 => .array .int
  | 52 => .array .int
  | 53 => .array .long
  | _ => .array .long
abbrev wsX20 : List Cond := u_ws RX2 TX2 55
set_option maxRecDepth 100000 in
theorem nmX2 : ∀ a, a < 55 → ∀ b, b < 55 → a ≠ b → (TX2 a).2.1 ≠ (TX2 b).2.1 := by decide +kernel
set_option maxRecDepth 100000 in
theorem tyX2_ok : ∀ k, k < 55 → parseFieldDescriptor (TX2 k).2.2.1 = some (tyX2 k) := by decide +kernel
abbrev cX2_init : ByteArray := prog_32_method_3_code
def yX2_init : MethodName := ⟨RX2, "<init>", "()V"⟩
def dkwX2_init_10 : List UInt8 := [42, 180, 0, 83, 27, 2, 79, 132, 1, 1, 167, 255, 240, 177]
abbrev dktX2_init_10 : List UInt8 := dkwX2_init_10 ++ []
def dkwX2_init_9 : List UInt8 := [17, 1, 104, 188, 11, 181, 0, 89, 42, 16, 60, 188, 11, 181, 0, 93, 3, 60, 27, 16, 6, 162, 0, 16]
abbrev dktX2_init_9 : List UInt8 := dkwX2_init_9 ++ dktX2_init_10
def dkwX2_init_8 : List UInt8 := [188, 10, 181, 0, 80, 42, 16, 6, 188, 10, 181, 0, 83, 42, 16, 6, 188, 10, 181, 0, 86, 42]
abbrev dktX2_init_8 : List UInt8 := dkwX2_init_8 ++ dktX2_init_9
def dkwX2_init_7 : List UInt8 := [181, 0, 71, 42, 17, 6, 247, 188, 10, 181, 0, 74, 42, 16, 50, 188, 10, 181, 0, 77, 42, 16, 24]
abbrev dktX2_init_7 : List UInt8 := dkwX2_init_7 ++ dktX2_init_8
def dkwX2_init_6 : List UInt8 := [181, 0, 62, 42, 16, 6, 188, 10, 181, 0, 65, 42, 16, 6, 188, 10, 181, 0, 68, 42, 16, 6, 188, 10]
abbrev dktX2_init_6 : List UInt8 := dkwX2_init_6 ++ dktX2_init_7
def dkwX2_init_5 : List UInt8 := [181, 0, 52, 42, 16, 100, 181, 0, 55, 42, 16, 6, 188, 10, 181, 0, 59, 42, 16, 30, 188, 10]
abbrev dktX2_init_5 : List UInt8 := dkwX2_init_5 ++ dktX2_init_6
def dkwX2_init_4 : List UInt8 := [181, 0, 43, 42, 16, 7, 188, 10, 181, 0, 46, 42, 16, 24, 188, 10, 181, 0, 49, 42, 16, 6, 188, 10]
abbrev dktX2_init_4 : List UInt8 := dkwX2_init_4 ++ dktX2_init_5
def dkwX2_init_3 : List UInt8 := [181, 0, 34, 42, 16, 120, 188, 10, 181, 0, 37, 42, 17, 1, 224, 188, 10, 181, 0, 40, 42, 7, 188, 10]
abbrev dktX2_init_3 : List UInt8 := dkwX2_init_3 ++ dktX2_init_4
def dkwX2_init_2 : List UInt8 := [188, 10, 181, 0, 25, 42, 8, 188, 10, 181, 0, 28, 42, 8, 188, 10, 181, 0, 31, 42, 8, 188, 10]
abbrev dktX2_init_2 : List UInt8 := dkwX2_init_2 ++ dktX2_init_3
def dkwX2_init_1 : List UInt8 := [188, 10, 181, 0, 16, 42, 16, 40, 188, 10, 181, 0, 19, 42, 16, 6, 188, 10, 181, 0, 22, 42, 8]
abbrev dktX2_init_1 : List UInt8 := dkwX2_init_1 ++ dktX2_init_2
def dkwX2_init_0 : List UInt8 := [42, 183, 0, 3, 42, 16, 28, 188, 10, 181, 0, 9, 42, 16, 40, 188, 10, 181, 0, 13, 42, 16, 40]
abbrev dktX2_init_0 : List UInt8 := dkwX2_init_0 ++ dktX2_init_1
theorem dksX2_init_0 : cX2_init.data.toList.drop 0 = dktX2_init_0 := by decide +kernel
theorem dksX2_init_1 : cX2_init.data.toList.drop 23 = dktX2_init_1 := dk_seg dksX2_init_0 23 rfl rfl
theorem dksX2_init_2 : cX2_init.data.toList.drop 46 = dktX2_init_2 := dk_seg dksX2_init_1 23 rfl rfl
theorem dksX2_init_3 : cX2_init.data.toList.drop 69 = dktX2_init_3 := dk_seg dksX2_init_2 23 rfl rfl
theorem dksX2_init_4 : cX2_init.data.toList.drop 93 = dktX2_init_4 := dk_seg dksX2_init_3 24 rfl rfl
theorem dksX2_init_5 : cX2_init.data.toList.drop 117 = dktX2_init_5 := dk_seg dksX2_init_4 24 rfl rfl
theorem dksX2_init_6 : cX2_init.data.toList.drop 139 = dktX2_init_6 := dk_seg dksX2_init_5 22 rfl rfl
theorem dksX2_init_7 : cX2_init.data.toList.drop 163 = dktX2_init_7 := dk_seg dksX2_init_6 24 rfl rfl
theorem dksX2_init_8 : cX2_init.data.toList.drop 186 = dktX2_init_8 := dk_seg dksX2_init_7 23 rfl rfl
theorem dksX2_init_9 : cX2_init.data.toList.drop 208 = dktX2_init_9 := dk_seg dksX2_init_8 22 rfl rfl
theorem dksX2_init_10 : cX2_init.data.toList.drop 232 = dktX2_init_10 := dk_seg dksX2_init_9 24 rfl rfl
theorem dX2_init_0 : decode cX2_init 0 = .ok (.aload_n 0, 1) := dk_42 (dk_at dksX2_init_0 0 rfl rfl)
theorem dX2_init_1 : decode cX2_init 1 = .ok (.invokespecial 3, 3) := dk_183 0 3 (dk_at dksX2_init_0 1 rfl rfl)
theorem dX2_init_4 : decode cX2_init 4 = .ok (.aload_n 0, 1) := dk_42 (dk_at dksX2_init_0 4 rfl rfl)
theorem dX2_init_5 : decode cX2_init 5 = .ok (.bipush 28, 2) := dk_16 28 (dk_at dksX2_init_0 5 rfl rfl)
theorem dX2_init_7 : decode cX2_init 7 = .ok (.newarray .int, 2) := dk_188_10 (dk_at dksX2_init_0 7 rfl rfl)
theorem dX2_init_9 : decode cX2_init 9 = .ok (.putfield 9, 3) := dk_181 0 9 (dk_at dksX2_init_0 9 rfl rfl)
theorem dX2_init_12 : decode cX2_init 12 = .ok (.aload_n 0, 1) := dk_42 (dk_at dksX2_init_0 12 rfl rfl)
theorem dX2_init_13 : decode cX2_init 13 = .ok (.bipush 40, 2) := dk_16 40 (dk_at dksX2_init_0 13 rfl rfl)
theorem dX2_init_15 : decode cX2_init 15 = .ok (.newarray .int, 2) := dk_188_10 (dk_at dksX2_init_0 15 rfl rfl)
theorem dX2_init_17 : decode cX2_init 17 = .ok (.putfield 13, 3) := dk_181 0 13 (dk_at dksX2_init_0 17 rfl rfl)
theorem dX2_init_20 : decode cX2_init 20 = .ok (.aload_n 0, 1) := dk_42 (dk_at dksX2_init_0 20 rfl rfl)
theorem dX2_init_21 : decode cX2_init 21 = .ok (.bipush 40, 2) := dk_16 40 (dk_at dksX2_init_0 21 rfl rfl)
theorem dX2_init_23 : decode cX2_init 23 = .ok (.newarray .int, 2) := dk_188_10 (dk_at dksX2_init_1 0 rfl rfl)
theorem dX2_init_25 : decode cX2_init 25 = .ok (.putfield 16, 3) := dk_181 0 16 (dk_at dksX2_init_1 2 rfl rfl)
theorem dX2_init_28 : decode cX2_init 28 = .ok (.aload_n 0, 1) := dk_42 (dk_at dksX2_init_1 5 rfl rfl)
theorem dX2_init_29 : decode cX2_init 29 = .ok (.bipush 40, 2) := dk_16 40 (dk_at dksX2_init_1 6 rfl rfl)
theorem dX2_init_31 : decode cX2_init 31 = .ok (.newarray .int, 2) := dk_188_10 (dk_at dksX2_init_1 8 rfl rfl)
theorem dX2_init_33 : decode cX2_init 33 = .ok (.putfield 19, 3) := dk_181 0 19 (dk_at dksX2_init_1 10 rfl rfl)
theorem dX2_init_36 : decode cX2_init 36 = .ok (.aload_n 0, 1) := dk_42 (dk_at dksX2_init_1 13 rfl rfl)
theorem dX2_init_37 : decode cX2_init 37 = .ok (.bipush 6, 2) := dk_16 6 (dk_at dksX2_init_1 14 rfl rfl)
theorem dX2_init_39 : decode cX2_init 39 = .ok (.newarray .int, 2) := dk_188_10 (dk_at dksX2_init_1 16 rfl rfl)
theorem dX2_init_41 : decode cX2_init 41 = .ok (.putfield 22, 3) := dk_181 0 22 (dk_at dksX2_init_1 18 rfl rfl)
theorem dX2_init_44 : decode cX2_init 44 = .ok (.aload_n 0, 1) := dk_42 (dk_at dksX2_init_1 21 rfl rfl)
theorem dX2_init_45 : decode cX2_init 45 = .ok (.iconst 5, 1) := dk_8 (dk_at dksX2_init_1 22 rfl rfl)
theorem dX2_init_46 : decode cX2_init 46 = .ok (.newarray .int, 2) := dk_188_10 (dk_at dksX2_init_2 0 rfl rfl)
theorem dX2_init_48 : decode cX2_init 48 = .ok (.putfield 25, 3) := dk_181 0 25 (dk_at dksX2_init_2 2 rfl rfl)
theorem dX2_init_51 : decode cX2_init 51 = .ok (.aload_n 0, 1) := dk_42 (dk_at dksX2_init_2 5 rfl rfl)
theorem dX2_init_52 : decode cX2_init 52 = .ok (.iconst 5, 1) := dk_8 (dk_at dksX2_init_2 6 rfl rfl)
theorem dX2_init_53 : decode cX2_init 53 = .ok (.newarray .int, 2) := dk_188_10 (dk_at dksX2_init_2 7 rfl rfl)
theorem dX2_init_55 : decode cX2_init 55 = .ok (.putfield 28, 3) := dk_181 0 28 (dk_at dksX2_init_2 9 rfl rfl)
theorem dX2_init_58 : decode cX2_init 58 = .ok (.aload_n 0, 1) := dk_42 (dk_at dksX2_init_2 12 rfl rfl)
theorem dX2_init_59 : decode cX2_init 59 = .ok (.iconst 5, 1) := dk_8 (dk_at dksX2_init_2 13 rfl rfl)
theorem dX2_init_60 : decode cX2_init 60 = .ok (.newarray .int, 2) := dk_188_10 (dk_at dksX2_init_2 14 rfl rfl)
theorem dX2_init_62 : decode cX2_init 62 = .ok (.putfield 31, 3) := dk_181 0 31 (dk_at dksX2_init_2 16 rfl rfl)
theorem dX2_init_65 : decode cX2_init 65 = .ok (.aload_n 0, 1) := dk_42 (dk_at dksX2_init_2 19 rfl rfl)
theorem dX2_init_66 : decode cX2_init 66 = .ok (.iconst 5, 1) := dk_8 (dk_at dksX2_init_2 20 rfl rfl)
theorem dX2_init_67 : decode cX2_init 67 = .ok (.newarray .int, 2) := dk_188_10 (dk_at dksX2_init_2 21 rfl rfl)
theorem dX2_init_69 : decode cX2_init 69 = .ok (.putfield 34, 3) := dk_181 0 34 (dk_at dksX2_init_3 0 rfl rfl)
theorem dX2_init_72 : decode cX2_init 72 = .ok (.aload_n 0, 1) := dk_42 (dk_at dksX2_init_3 3 rfl rfl)
theorem dX2_init_73 : decode cX2_init 73 = .ok (.bipush 120, 2) := dk_16 120 (dk_at dksX2_init_3 4 rfl rfl)
theorem dX2_init_75 : decode cX2_init 75 = .ok (.newarray .int, 2) := dk_188_10 (dk_at dksX2_init_3 6 rfl rfl)
theorem dX2_init_77 : decode cX2_init 77 = .ok (.putfield 37, 3) := dk_181 0 37 (dk_at dksX2_init_3 8 rfl rfl)
theorem dX2_init_80 : decode cX2_init 80 = .ok (.aload_n 0, 1) := dk_42 (dk_at dksX2_init_3 11 rfl rfl)
theorem dX2_init_81 : decode cX2_init 81 = .ok (.sipush 480, 3) := dk_17 1 224 (dk_at dksX2_init_3 12 rfl rfl)
theorem dX2_init_84 : decode cX2_init 84 = .ok (.newarray .int, 2) := dk_188_10 (dk_at dksX2_init_3 15 rfl rfl)
theorem dX2_init_86 : decode cX2_init 86 = .ok (.putfield 40, 3) := dk_181 0 40 (dk_at dksX2_init_3 17 rfl rfl)
theorem dX2_init_89 : decode cX2_init 89 = .ok (.aload_n 0, 1) := dk_42 (dk_at dksX2_init_3 20 rfl rfl)
theorem dX2_init_90 : decode cX2_init 90 = .ok (.iconst 4, 1) := dk_7 (dk_at dksX2_init_3 21 rfl rfl)
theorem dX2_init_91 : decode cX2_init 91 = .ok (.newarray .int, 2) := dk_188_10 (dk_at dksX2_init_3 22 rfl rfl)
theorem dX2_init_93 : decode cX2_init 93 = .ok (.putfield 43, 3) := dk_181 0 43 (dk_at dksX2_init_4 0 rfl rfl)
theorem dX2_init_96 : decode cX2_init 96 = .ok (.aload_n 0, 1) := dk_42 (dk_at dksX2_init_4 3 rfl rfl)
theorem dX2_init_97 : decode cX2_init 97 = .ok (.bipush 7, 2) := dk_16 7 (dk_at dksX2_init_4 4 rfl rfl)
theorem dX2_init_99 : decode cX2_init 99 = .ok (.newarray .int, 2) := dk_188_10 (dk_at dksX2_init_4 6 rfl rfl)
theorem dX2_init_101 : decode cX2_init 101 = .ok (.putfield 46, 3) := dk_181 0 46 (dk_at dksX2_init_4 8 rfl rfl)
theorem dX2_init_104 : decode cX2_init 104 = .ok (.aload_n 0, 1) := dk_42 (dk_at dksX2_init_4 11 rfl rfl)
theorem dX2_init_105 : decode cX2_init 105 = .ok (.bipush 24, 2) := dk_16 24 (dk_at dksX2_init_4 12 rfl rfl)
theorem dX2_init_107 : decode cX2_init 107 = .ok (.newarray .int, 2) := dk_188_10 (dk_at dksX2_init_4 14 rfl rfl)
theorem dX2_init_109 : decode cX2_init 109 = .ok (.putfield 49, 3) := dk_181 0 49 (dk_at dksX2_init_4 16 rfl rfl)
theorem dX2_init_112 : decode cX2_init 112 = .ok (.aload_n 0, 1) := dk_42 (dk_at dksX2_init_4 19 rfl rfl)
theorem dX2_init_113 : decode cX2_init 113 = .ok (.bipush 6, 2) := dk_16 6 (dk_at dksX2_init_4 20 rfl rfl)
theorem dX2_init_115 : decode cX2_init 115 = .ok (.newarray .int, 2) := dk_188_10 (dk_at dksX2_init_4 22 rfl rfl)
theorem dX2_init_117 : decode cX2_init 117 = .ok (.putfield 52, 3) := dk_181 0 52 (dk_at dksX2_init_5 0 rfl rfl)
theorem dX2_init_120 : decode cX2_init 120 = .ok (.aload_n 0, 1) := dk_42 (dk_at dksX2_init_5 3 rfl rfl)
theorem dX2_init_121 : decode cX2_init 121 = .ok (.bipush 100, 2) := dk_16 100 (dk_at dksX2_init_5 4 rfl rfl)
theorem dX2_init_123 : decode cX2_init 123 = .ok (.putfield 55, 3) := dk_181 0 55 (dk_at dksX2_init_5 6 rfl rfl)
theorem dX2_init_126 : decode cX2_init 126 = .ok (.aload_n 0, 1) := dk_42 (dk_at dksX2_init_5 9 rfl rfl)
theorem dX2_init_127 : decode cX2_init 127 = .ok (.bipush 6, 2) := dk_16 6 (dk_at dksX2_init_5 10 rfl rfl)
theorem dX2_init_129 : decode cX2_init 129 = .ok (.newarray .int, 2) := dk_188_10 (dk_at dksX2_init_5 12 rfl rfl)
theorem dX2_init_131 : decode cX2_init 131 = .ok (.putfield 59, 3) := dk_181 0 59 (dk_at dksX2_init_5 14 rfl rfl)
theorem dX2_init_134 : decode cX2_init 134 = .ok (.aload_n 0, 1) := dk_42 (dk_at dksX2_init_5 17 rfl rfl)
theorem dX2_init_135 : decode cX2_init 135 = .ok (.bipush 30, 2) := dk_16 30 (dk_at dksX2_init_5 18 rfl rfl)
theorem dX2_init_137 : decode cX2_init 137 = .ok (.newarray .int, 2) := dk_188_10 (dk_at dksX2_init_5 20 rfl rfl)
theorem dX2_init_139 : decode cX2_init 139 = .ok (.putfield 62, 3) := dk_181 0 62 (dk_at dksX2_init_6 0 rfl rfl)
theorem dX2_init_142 : decode cX2_init 142 = .ok (.aload_n 0, 1) := dk_42 (dk_at dksX2_init_6 3 rfl rfl)
theorem dX2_init_143 : decode cX2_init 143 = .ok (.bipush 6, 2) := dk_16 6 (dk_at dksX2_init_6 4 rfl rfl)
theorem dX2_init_145 : decode cX2_init 145 = .ok (.newarray .int, 2) := dk_188_10 (dk_at dksX2_init_6 6 rfl rfl)
theorem dX2_init_147 : decode cX2_init 147 = .ok (.putfield 65, 3) := dk_181 0 65 (dk_at dksX2_init_6 8 rfl rfl)
theorem dX2_init_150 : decode cX2_init 150 = .ok (.aload_n 0, 1) := dk_42 (dk_at dksX2_init_6 11 rfl rfl)
theorem dX2_init_151 : decode cX2_init 151 = .ok (.bipush 6, 2) := dk_16 6 (dk_at dksX2_init_6 12 rfl rfl)
theorem dX2_init_153 : decode cX2_init 153 = .ok (.newarray .int, 2) := dk_188_10 (dk_at dksX2_init_6 14 rfl rfl)
theorem dX2_init_155 : decode cX2_init 155 = .ok (.putfield 68, 3) := dk_181 0 68 (dk_at dksX2_init_6 16 rfl rfl)
theorem dX2_init_158 : decode cX2_init 158 = .ok (.aload_n 0, 1) := dk_42 (dk_at dksX2_init_6 19 rfl rfl)
theorem dX2_init_159 : decode cX2_init 159 = .ok (.bipush 6, 2) := dk_16 6 (dk_at dksX2_init_6 20 rfl rfl)
theorem dX2_init_161 : decode cX2_init 161 = .ok (.newarray .int, 2) := dk_188_10 (dk_at dksX2_init_6 22 rfl rfl)
theorem dX2_init_163 : decode cX2_init 163 = .ok (.putfield 71, 3) := dk_181 0 71 (dk_at dksX2_init_7 0 rfl rfl)
theorem dX2_init_166 : decode cX2_init 166 = .ok (.aload_n 0, 1) := dk_42 (dk_at dksX2_init_7 3 rfl rfl)
theorem dX2_init_167 : decode cX2_init 167 = .ok (.sipush 1783, 3) := dk_17 6 247 (dk_at dksX2_init_7 4 rfl rfl)
theorem dX2_init_170 : decode cX2_init 170 = .ok (.newarray .int, 2) := dk_188_10 (dk_at dksX2_init_7 7 rfl rfl)
theorem dX2_init_172 : decode cX2_init 172 = .ok (.putfield 74, 3) := dk_181 0 74 (dk_at dksX2_init_7 9 rfl rfl)
theorem dX2_init_175 : decode cX2_init 175 = .ok (.aload_n 0, 1) := dk_42 (dk_at dksX2_init_7 12 rfl rfl)
theorem dX2_init_176 : decode cX2_init 176 = .ok (.bipush 50, 2) := dk_16 50 (dk_at dksX2_init_7 13 rfl rfl)
theorem dX2_init_178 : decode cX2_init 178 = .ok (.newarray .int, 2) := dk_188_10 (dk_at dksX2_init_7 15 rfl rfl)
theorem dX2_init_180 : decode cX2_init 180 = .ok (.putfield 77, 3) := dk_181 0 77 (dk_at dksX2_init_7 17 rfl rfl)
theorem dX2_init_183 : decode cX2_init 183 = .ok (.aload_n 0, 1) := dk_42 (dk_at dksX2_init_7 20 rfl rfl)
theorem dX2_init_184 : decode cX2_init 184 = .ok (.bipush 24, 2) := dk_16 24 (dk_at dksX2_init_7 21 rfl rfl)
theorem dX2_init_186 : decode cX2_init 186 = .ok (.newarray .int, 2) := dk_188_10 (dk_at dksX2_init_8 0 rfl rfl)
theorem dX2_init_188 : decode cX2_init 188 = .ok (.putfield 80, 3) := dk_181 0 80 (dk_at dksX2_init_8 2 rfl rfl)
theorem dX2_init_191 : decode cX2_init 191 = .ok (.aload_n 0, 1) := dk_42 (dk_at dksX2_init_8 5 rfl rfl)
theorem dX2_init_192 : decode cX2_init 192 = .ok (.bipush 6, 2) := dk_16 6 (dk_at dksX2_init_8 6 rfl rfl)
theorem dX2_init_194 : decode cX2_init 194 = .ok (.newarray .int, 2) := dk_188_10 (dk_at dksX2_init_8 8 rfl rfl)
theorem dX2_init_196 : decode cX2_init 196 = .ok (.putfield 83, 3) := dk_181 0 83 (dk_at dksX2_init_8 10 rfl rfl)
theorem dX2_init_199 : decode cX2_init 199 = .ok (.aload_n 0, 1) := dk_42 (dk_at dksX2_init_8 13 rfl rfl)
theorem dX2_init_200 : decode cX2_init 200 = .ok (.bipush 6, 2) := dk_16 6 (dk_at dksX2_init_8 14 rfl rfl)
theorem dX2_init_202 : decode cX2_init 202 = .ok (.newarray .int, 2) := dk_188_10 (dk_at dksX2_init_8 16 rfl rfl)
theorem dX2_init_204 : decode cX2_init 204 = .ok (.putfield 86, 3) := dk_181 0 86 (dk_at dksX2_init_8 18 rfl rfl)
theorem dX2_init_207 : decode cX2_init 207 = .ok (.aload_n 0, 1) := dk_42 (dk_at dksX2_init_8 21 rfl rfl)
theorem dX2_init_208 : decode cX2_init 208 = .ok (.sipush 360, 3) := dk_17 1 104 (dk_at dksX2_init_9 0 rfl rfl)
theorem dX2_init_211 : decode cX2_init 211 = .ok (.newarray .long, 2) := dk_188_11 (dk_at dksX2_init_9 3 rfl rfl)
theorem dX2_init_213 : decode cX2_init 213 = .ok (.putfield 89, 3) := dk_181 0 89 (dk_at dksX2_init_9 5 rfl rfl)
theorem dX2_init_216 : decode cX2_init 216 = .ok (.aload_n 0, 1) := dk_42 (dk_at dksX2_init_9 8 rfl rfl)
theorem dX2_init_217 : decode cX2_init 217 = .ok (.bipush 60, 2) := dk_16 60 (dk_at dksX2_init_9 9 rfl rfl)
theorem dX2_init_219 : decode cX2_init 219 = .ok (.newarray .long, 2) := dk_188_11 (dk_at dksX2_init_9 11 rfl rfl)
theorem dX2_init_221 : decode cX2_init 221 = .ok (.putfield 93, 3) := dk_181 0 93 (dk_at dksX2_init_9 13 rfl rfl)
theorem dX2_init_224 : decode cX2_init 224 = .ok (.iconst 0, 1) := dk_3 (dk_at dksX2_init_9 16 rfl rfl)
theorem dX2_init_225 : decode cX2_init 225 = .ok (.istore_n 1, 1) := dk_60 (dk_at dksX2_init_9 17 rfl rfl)
theorem dX2_init_226 : decode cX2_init 226 = .ok (.iload_n 1, 1) := dk_27 (dk_at dksX2_init_9 18 rfl rfl)
theorem dX2_init_227 : decode cX2_init 227 = .ok (.bipush 6, 2) := dk_16 6 (dk_at dksX2_init_9 19 rfl rfl)
theorem dX2_init_229 : decode cX2_init 229 = .ok (.if_icmp .ge 16, 3) := dk_162 0 16 (dk_at dksX2_init_9 21 rfl rfl)
theorem dX2_init_232 : decode cX2_init 232 = .ok (.aload_n 0, 1) := dk_42 (dk_at dksX2_init_10 0 rfl rfl)
theorem dX2_init_233 : decode cX2_init 233 = .ok (.getfield 83, 3) := dk_180 0 83 (dk_at dksX2_init_10 1 rfl rfl)
theorem dX2_init_236 : decode cX2_init 236 = .ok (.iload_n 1, 1) := dk_27 (dk_at dksX2_init_10 4 rfl rfl)
theorem dX2_init_237 : decode cX2_init 237 = .ok (.iconst (-1), 1) := dk_2 (dk_at dksX2_init_10 5 rfl rfl)
theorem dX2_init_238 : decode cX2_init 238 = .ok (.iastore, 1) := dk_79 (dk_at dksX2_init_10 6 rfl rfl)
theorem dX2_init_239 : decode cX2_init 239 = .ok (.iinc 1 1, 3) := dk_132 1 1 (dk_at dksX2_init_10 7 rfl rfl)
theorem dX2_init_242 : decode cX2_init 242 = .ok (.goto (-16), 3) := dk_167 255 240 (dk_at dksX2_init_10 10 rfl rfl)
theorem dX2_init_245 : decode cX2_init 245 = .ok (.return_, 1) := dk_177 (dk_at dksX2_init_10 13 rfl rfl)
abbrev cX2_undo : ByteArray := prog_32_method_5_code
def yX2_undo : MethodName := ⟨RX2, "undo", "()I"⟩
def dkwX2_undo_1 : List UInt8 := [42, 180, 0, 13, 42, 180, 0, 96, 46, 42, 180, 0, 16, 42, 180, 0, 96, 46, 79, 42, 180, 0, 96, 172]
abbrev dktX2_undo_1 : List UInt8 := dkwX2_undo_1 ++ []
def dkwX2_undo_0 : List UInt8 := [42, 180, 0, 96, 154, 0, 6, 16, 251, 172, 42, 89, 180, 0, 96, 4, 100, 181, 0, 96, 42, 180, 0, 9]
abbrev dktX2_undo_0 : List UInt8 := dkwX2_undo_0 ++ dktX2_undo_1
theorem dksX2_undo_0 : cX2_undo.data.toList.drop 0 = dktX2_undo_0 := by decide +kernel
theorem dksX2_undo_1 : cX2_undo.data.toList.drop 24 = dktX2_undo_1 := dk_seg dksX2_undo_0 24 rfl rfl
theorem dX2_undo_0 : decode cX2_undo 0 = .ok (.aload_n 0, 1) := dk_42 (dk_at dksX2_undo_0 0 rfl rfl)
theorem dX2_undo_1 : decode cX2_undo 1 = .ok (.getfield 96, 3) := dk_180 0 96 (dk_at dksX2_undo_0 1 rfl rfl)
theorem dX2_undo_4 : decode cX2_undo 4 = .ok (.ifCond .ne 6, 3) := dk_154 0 6 (dk_at dksX2_undo_0 4 rfl rfl)
theorem dX2_undo_7 : decode cX2_undo 7 = .ok (.bipush (-5), 2) := dk_16 251 (dk_at dksX2_undo_0 7 rfl rfl)
theorem dX2_undo_9 : decode cX2_undo 9 = .ok (.ireturn, 1) := dk_172 (dk_at dksX2_undo_0 9 rfl rfl)
theorem dX2_undo_10 : decode cX2_undo 10 = .ok (.aload_n 0, 1) := dk_42 (dk_at dksX2_undo_0 10 rfl rfl)
theorem dX2_undo_11 : decode cX2_undo 11 = .ok (.dup, 1) := dk_89 (dk_at dksX2_undo_0 11 rfl rfl)
theorem dX2_undo_12 : decode cX2_undo 12 = .ok (.getfield 96, 3) := dk_180 0 96 (dk_at dksX2_undo_0 12 rfl rfl)
theorem dX2_undo_15 : decode cX2_undo 15 = .ok (.iconst 1, 1) := dk_4 (dk_at dksX2_undo_0 15 rfl rfl)
theorem dX2_undo_16 : decode cX2_undo 16 = .ok (.isub, 1) := dk_100 (dk_at dksX2_undo_0 16 rfl rfl)
theorem dX2_undo_17 : decode cX2_undo 17 = .ok (.putfield 96, 3) := dk_181 0 96 (dk_at dksX2_undo_0 17 rfl rfl)
theorem dX2_undo_20 : decode cX2_undo 20 = .ok (.aload_n 0, 1) := dk_42 (dk_at dksX2_undo_0 20 rfl rfl)
theorem dX2_undo_21 : decode cX2_undo 21 = .ok (.getfield 9, 3) := dk_180 0 9 (dk_at dksX2_undo_0 21 rfl rfl)
theorem dX2_undo_24 : decode cX2_undo 24 = .ok (.aload_n 0, 1) := dk_42 (dk_at dksX2_undo_1 0 rfl rfl)
theorem dX2_undo_25 : decode cX2_undo 25 = .ok (.getfield 13, 3) := dk_180 0 13 (dk_at dksX2_undo_1 1 rfl rfl)
theorem dX2_undo_28 : decode cX2_undo 28 = .ok (.aload_n 0, 1) := dk_42 (dk_at dksX2_undo_1 4 rfl rfl)
theorem dX2_undo_29 : decode cX2_undo 29 = .ok (.getfield 96, 3) := dk_180 0 96 (dk_at dksX2_undo_1 5 rfl rfl)
theorem dX2_undo_32 : decode cX2_undo 32 = .ok (.iaload, 1) := dk_46 (dk_at dksX2_undo_1 8 rfl rfl)
theorem dX2_undo_33 : decode cX2_undo 33 = .ok (.aload_n 0, 1) := dk_42 (dk_at dksX2_undo_1 9 rfl rfl)
theorem dX2_undo_34 : decode cX2_undo 34 = .ok (.getfield 16, 3) := dk_180 0 16 (dk_at dksX2_undo_1 10 rfl rfl)
theorem dX2_undo_37 : decode cX2_undo 37 = .ok (.aload_n 0, 1) := dk_42 (dk_at dksX2_undo_1 13 rfl rfl)
theorem dX2_undo_38 : decode cX2_undo 38 = .ok (.getfield 96, 3) := dk_180 0 96 (dk_at dksX2_undo_1 14 rfl rfl)
theorem dX2_undo_41 : decode cX2_undo 41 = .ok (.iaload, 1) := dk_46 (dk_at dksX2_undo_1 17 rfl rfl)
theorem dX2_undo_42 : decode cX2_undo 42 = .ok (.iastore, 1) := dk_79 (dk_at dksX2_undo_1 18 rfl rfl)
theorem dX2_undo_43 : decode cX2_undo 43 = .ok (.aload_n 0, 1) := dk_42 (dk_at dksX2_undo_1 19 rfl rfl)
theorem dX2_undo_44 : decode cX2_undo 44 = .ok (.getfield 96, 3) := dk_180 0 96 (dk_at dksX2_undo_1 20 rfl rfl)
theorem dX2_undo_47 : decode cX2_undo 47 = .ok (.ireturn, 1) := dk_172 (dk_at dksX2_undo_1 23 rfl rfl)
abbrev cX2_redo : ByteArray := prog_32_method_6_code
def yX2_redo : MethodName := ⟨RX2, "redo", "()I"⟩
def dkwX2_redo_2 : List UInt8 := [42, 180, 0, 99, 42, 180, 0, 96, 100, 172]
abbrev dktX2_redo_2 : List UInt8 := dkwX2_redo_2 ++ []
def dkwX2_redo_1 : List UInt8 := [180, 0, 96, 46, 42, 180, 0, 19, 42, 180, 0, 96, 46, 79, 42, 89, 180, 0, 96, 4, 96, 181, 0, 96]
abbrev dktX2_redo_1 : List UInt8 := dkwX2_redo_1 ++ dktX2_redo_2
def dkwX2_redo_0 : List UInt8 := [42, 180, 0, 96, 42, 180, 0, 99, 160, 0, 6, 16, 251, 172, 42, 180, 0, 9, 42, 180, 0, 13, 42]
abbrev dktX2_redo_0 : List UInt8 := dkwX2_redo_0 ++ dktX2_redo_1
theorem dksX2_redo_0 : cX2_redo.data.toList.drop 0 = dktX2_redo_0 := by decide +kernel
theorem dksX2_redo_1 : cX2_redo.data.toList.drop 23 = dktX2_redo_1 := dk_seg dksX2_redo_0 23 rfl rfl
theorem dksX2_redo_2 : cX2_redo.data.toList.drop 47 = dktX2_redo_2 := dk_seg dksX2_redo_1 24 rfl rfl
theorem dX2_redo_0 : decode cX2_redo 0 = .ok (.aload_n 0, 1) := dk_42 (dk_at dksX2_redo_0 0 rfl rfl)
theorem dX2_redo_1 : decode cX2_redo 1 = .ok (.getfield 96, 3) := dk_180 0 96 (dk_at dksX2_redo_0 1 rfl rfl)
theorem dX2_redo_4 : decode cX2_redo 4 = .ok (.aload_n 0, 1) := dk_42 (dk_at dksX2_redo_0 4 rfl rfl)
theorem dX2_redo_5 : decode cX2_redo 5 = .ok (.getfield 99, 3) := dk_180 0 99 (dk_at dksX2_redo_0 5 rfl rfl)
theorem dX2_redo_8 : decode cX2_redo 8 = .ok (.if_icmp .ne 6, 3) := dk_160 0 6 (dk_at dksX2_redo_0 8 rfl rfl)
theorem dX2_redo_11 : decode cX2_redo 11 = .ok (.bipush (-5), 2) := dk_16 251 (dk_at dksX2_redo_0 11 rfl rfl)
theorem dX2_redo_13 : decode cX2_redo 13 = .ok (.ireturn, 1) := dk_172 (dk_at dksX2_redo_0 13 rfl rfl)
theorem dX2_redo_14 : decode cX2_redo 14 = .ok (.aload_n 0, 1) := dk_42 (dk_at dksX2_redo_0 14 rfl rfl)
theorem dX2_redo_15 : decode cX2_redo 15 = .ok (.getfield 9, 3) := dk_180 0 9 (dk_at dksX2_redo_0 15 rfl rfl)
theorem dX2_redo_18 : decode cX2_redo 18 = .ok (.aload_n 0, 1) := dk_42 (dk_at dksX2_redo_0 18 rfl rfl)
theorem dX2_redo_19 : decode cX2_redo 19 = .ok (.getfield 13, 3) := dk_180 0 13 (dk_at dksX2_redo_0 19 rfl rfl)
theorem dX2_redo_22 : decode cX2_redo 22 = .ok (.aload_n 0, 1) := dk_42 (dk_at dksX2_redo_0 22 rfl rfl)
theorem dX2_redo_23 : decode cX2_redo 23 = .ok (.getfield 96, 3) := dk_180 0 96 (dk_at dksX2_redo_1 0 rfl rfl)
theorem dX2_redo_26 : decode cX2_redo 26 = .ok (.iaload, 1) := dk_46 (dk_at dksX2_redo_1 3 rfl rfl)
theorem dX2_redo_27 : decode cX2_redo 27 = .ok (.aload_n 0, 1) := dk_42 (dk_at dksX2_redo_1 4 rfl rfl)
theorem dX2_redo_28 : decode cX2_redo 28 = .ok (.getfield 19, 3) := dk_180 0 19 (dk_at dksX2_redo_1 5 rfl rfl)
theorem dX2_redo_31 : decode cX2_redo 31 = .ok (.aload_n 0, 1) := dk_42 (dk_at dksX2_redo_1 8 rfl rfl)
theorem dX2_redo_32 : decode cX2_redo 32 = .ok (.getfield 96, 3) := dk_180 0 96 (dk_at dksX2_redo_1 9 rfl rfl)
theorem dX2_redo_35 : decode cX2_redo 35 = .ok (.iaload, 1) := dk_46 (dk_at dksX2_redo_1 12 rfl rfl)
theorem dX2_redo_36 : decode cX2_redo 36 = .ok (.iastore, 1) := dk_79 (dk_at dksX2_redo_1 13 rfl rfl)
theorem dX2_redo_37 : decode cX2_redo 37 = .ok (.aload_n 0, 1) := dk_42 (dk_at dksX2_redo_1 14 rfl rfl)
theorem dX2_redo_38 : decode cX2_redo 38 = .ok (.dup, 1) := dk_89 (dk_at dksX2_redo_1 15 rfl rfl)
theorem dX2_redo_39 : decode cX2_redo 39 = .ok (.getfield 96, 3) := dk_180 0 96 (dk_at dksX2_redo_1 16 rfl rfl)
theorem dX2_redo_42 : decode cX2_redo 42 = .ok (.iconst 1, 1) := dk_4 (dk_at dksX2_redo_1 19 rfl rfl)
theorem dX2_redo_43 : decode cX2_redo 43 = .ok (.iadd, 1) := dk_96 (dk_at dksX2_redo_1 20 rfl rfl)
theorem dX2_redo_44 : decode cX2_redo 44 = .ok (.putfield 96, 3) := dk_181 0 96 (dk_at dksX2_redo_1 21 rfl rfl)
theorem dX2_redo_47 : decode cX2_redo 47 = .ok (.aload_n 0, 1) := dk_42 (dk_at dksX2_redo_2 0 rfl rfl)
theorem dX2_redo_48 : decode cX2_redo 48 = .ok (.getfield 99, 3) := dk_180 0 99 (dk_at dksX2_redo_2 1 rfl rfl)
theorem dX2_redo_51 : decode cX2_redo 51 = .ok (.aload_n 0, 1) := dk_42 (dk_at dksX2_redo_2 4 rfl rfl)
theorem dX2_redo_52 : decode cX2_redo 52 = .ok (.getfield 96, 3) := dk_180 0 96 (dk_at dksX2_redo_2 5 rfl rfl)
theorem dX2_redo_55 : decode cX2_redo 55 = .ok (.isub, 1) := dk_100 (dk_at dksX2_redo_2 8 rfl rfl)
theorem dX2_redo_56 : decode cX2_redo 56 = .ok (.ireturn, 1) := dk_172 (dk_at dksX2_redo_2 9 rfl rfl)
abbrev cX2_thing : ByteArray := prog_32_method_11_code
def yX2_thing : MethodName := ⟨RX2, "thing", "(III)I"⟩
def dkwX2_thing_2 : List UInt8 := [28, 16, 100, 108, 28, 16, 100, 112, 29, 182, 0, 122, 42, 180, 0, 102, 4, 100, 172]
abbrev dktX2_thing_2 : List UInt8 := dkwX2_thing_2 ++ []
def dkwX2_thing_1 : List UInt8 := [29, 133, 184, 0, 118, 154, 0, 5, 2, 172, 42, 180, 0, 102, 16, 6, 160, 0, 6, 16, 253, 172, 42, 27]
abbrev dktX2_thing_1 : List UInt8 := dkwX2_thing_1 ++ dktX2_thing_2
def dkwX2_thing_0 : List UInt8 := [27, 133, 9, 20, 0, 114, 184, 0, 105, 153, 0, 23, 28, 133, 9, 20, 0, 116, 184, 0, 105, 153, 0, 11]
abbrev dktX2_thing_0 : List UInt8 := dkwX2_thing_0 ++ dktX2_thing_1
theorem dksX2_thing_0 : cX2_thing.data.toList.drop 0 = dktX2_thing_0 := by decide +kernel
theorem dksX2_thing_1 : cX2_thing.data.toList.drop 24 = dktX2_thing_1 := dk_seg dksX2_thing_0 24 rfl rfl
theorem dksX2_thing_2 : cX2_thing.data.toList.drop 48 = dktX2_thing_2 := dk_seg dksX2_thing_1 24 rfl rfl
theorem dX2_thing_0 : decode cX2_thing 0 = .ok (.iload_n 1, 1) := dk_27 (dk_at dksX2_thing_0 0 rfl rfl)
theorem dX2_thing_1 : decode cX2_thing 1 = .ok (.i2l, 1) := dk_133 (dk_at dksX2_thing_0 1 rfl rfl)
theorem dX2_thing_2 : decode cX2_thing 2 = .ok (.lconst 0, 1) := dk_9 (dk_at dksX2_thing_0 2 rfl rfl)
theorem dX2_thing_3 : decode cX2_thing 3 = .ok (.ldc2_w 114, 3) := dk_20 0 114 (dk_at dksX2_thing_0 3 rfl rfl)
theorem dX2_thing_6 : decode cX2_thing 6 = .ok (.invokestatic 105, 3) := dk_184 0 105 (dk_at dksX2_thing_0 6 rfl rfl)
theorem dX2_thing_9 : decode cX2_thing 9 = .ok (.ifCond .eq 23, 3) := dk_153 0 23 (dk_at dksX2_thing_0 9 rfl rfl)
theorem dX2_thing_12 : decode cX2_thing 12 = .ok (.iload_n 2, 1) := dk_28 (dk_at dksX2_thing_0 12 rfl rfl)
theorem dX2_thing_13 : decode cX2_thing 13 = .ok (.i2l, 1) := dk_133 (dk_at dksX2_thing_0 13 rfl rfl)
theorem dX2_thing_14 : decode cX2_thing 14 = .ok (.lconst 0, 1) := dk_9 (dk_at dksX2_thing_0 14 rfl rfl)
theorem dX2_thing_15 : decode cX2_thing 15 = .ok (.ldc2_w 116, 3) := dk_20 0 116 (dk_at dksX2_thing_0 15 rfl rfl)
theorem dX2_thing_18 : decode cX2_thing 18 = .ok (.invokestatic 105, 3) := dk_184 0 105 (dk_at dksX2_thing_0 18 rfl rfl)
theorem dX2_thing_21 : decode cX2_thing 21 = .ok (.ifCond .eq 11, 3) := dk_153 0 11 (dk_at dksX2_thing_0 21 rfl rfl)
theorem dX2_thing_24 : decode cX2_thing 24 = .ok (.iload_n 3, 1) := dk_29 (dk_at dksX2_thing_1 0 rfl rfl)
theorem dX2_thing_25 : decode cX2_thing 25 = .ok (.i2l, 1) := dk_133 (dk_at dksX2_thing_1 1 rfl rfl)
theorem dX2_thing_26 : decode cX2_thing 26 = .ok (.invokestatic 118, 3) := dk_184 0 118 (dk_at dksX2_thing_1 2 rfl rfl)
theorem dX2_thing_29 : decode cX2_thing 29 = .ok (.ifCond .ne 5, 3) := dk_154 0 5 (dk_at dksX2_thing_1 5 rfl rfl)
theorem dX2_thing_32 : decode cX2_thing 32 = .ok (.iconst (-1), 1) := dk_2 (dk_at dksX2_thing_1 8 rfl rfl)
theorem dX2_thing_33 : decode cX2_thing 33 = .ok (.ireturn, 1) := dk_172 (dk_at dksX2_thing_1 9 rfl rfl)
theorem dX2_thing_34 : decode cX2_thing 34 = .ok (.aload_n 0, 1) := dk_42 (dk_at dksX2_thing_1 10 rfl rfl)
theorem dX2_thing_35 : decode cX2_thing 35 = .ok (.getfield 102, 3) := dk_180 0 102 (dk_at dksX2_thing_1 11 rfl rfl)
theorem dX2_thing_38 : decode cX2_thing 38 = .ok (.bipush 6, 2) := dk_16 6 (dk_at dksX2_thing_1 14 rfl rfl)
theorem dX2_thing_40 : decode cX2_thing 40 = .ok (.if_icmp .ne 6, 3) := dk_160 0 6 (dk_at dksX2_thing_1 16 rfl rfl)
theorem dX2_thing_43 : decode cX2_thing 43 = .ok (.bipush (-3), 2) := dk_16 253 (dk_at dksX2_thing_1 19 rfl rfl)
theorem dX2_thing_45 : decode cX2_thing 45 = .ok (.ireturn, 1) := dk_172 (dk_at dksX2_thing_1 21 rfl rfl)
theorem dX2_thing_46 : decode cX2_thing 46 = .ok (.aload_n 0, 1) := dk_42 (dk_at dksX2_thing_1 22 rfl rfl)
theorem dX2_thing_47 : decode cX2_thing 47 = .ok (.iload_n 1, 1) := dk_27 (dk_at dksX2_thing_1 23 rfl rfl)
theorem dX2_thing_48 : decode cX2_thing 48 = .ok (.iload_n 2, 1) := dk_28 (dk_at dksX2_thing_2 0 rfl rfl)
theorem dX2_thing_49 : decode cX2_thing 49 = .ok (.bipush 100, 2) := dk_16 100 (dk_at dksX2_thing_2 1 rfl rfl)
theorem dX2_thing_51 : decode cX2_thing 51 = .ok (.idiv, 1) := dk_108 (dk_at dksX2_thing_2 3 rfl rfl)
theorem dX2_thing_52 : decode cX2_thing 52 = .ok (.iload_n 2, 1) := dk_28 (dk_at dksX2_thing_2 4 rfl rfl)
theorem dX2_thing_53 : decode cX2_thing 53 = .ok (.bipush 100, 2) := dk_16 100 (dk_at dksX2_thing_2 5 rfl rfl)
theorem dX2_thing_55 : decode cX2_thing 55 = .ok (.irem, 1) := dk_112 (dk_at dksX2_thing_2 7 rfl rfl)
theorem dX2_thing_56 : decode cX2_thing 56 = .ok (.iload_n 3, 1) := dk_29 (dk_at dksX2_thing_2 8 rfl rfl)
theorem dX2_thing_57 : decode cX2_thing 57 = .ok (.invokevirtual 122, 3) := dk_182 0 122 (dk_at dksX2_thing_2 9 rfl rfl)
theorem dX2_thing_60 : decode cX2_thing 60 = .ok (.aload_n 0, 1) := dk_42 (dk_at dksX2_thing_2 12 rfl rfl)
theorem dX2_thing_61 : decode cX2_thing 61 = .ok (.getfield 102, 3) := dk_180 0 102 (dk_at dksX2_thing_2 13 rfl rfl)
theorem dX2_thing_64 : decode cX2_thing 64 = .ok (.iconst 1, 1) := dk_4 (dk_at dksX2_thing_2 16 rfl rfl)
theorem dX2_thing_65 : decode cX2_thing 65 = .ok (.isub, 1) := dk_100 (dk_at dksX2_thing_2 17 rfl rfl)
theorem dX2_thing_66 : decode cX2_thing 66 = .ok (.ireturn, 1) := dk_172 (dk_at dksX2_thing_2 18 rfl rfl)
abbrev cX2_within : ByteArray := prog_32_method_1_code
def yX2_within : MethodName := ⟨RX2, "within", "(JJJ)Z"⟩
def dkwX2_within_0 : List UInt8 := [30, 32, 148, 155, 0, 14, 30, 22, 4, 148, 157, 0, 7, 4, 167, 0, 4, 3, 172]
abbrev dktX2_within_0 : List UInt8 := dkwX2_within_0 ++ []
theorem dksX2_within_0 : cX2_within.data.toList.drop 0 = dktX2_within_0 := by decide +kernel
theorem dX2_within_0 : decode cX2_within 0 = .ok (.lload_n 0, 1) := dk_30 (dk_at dksX2_within_0 0 rfl rfl)
theorem dX2_within_1 : decode cX2_within 1 = .ok (.lload_n 2, 1) := dk_32 (dk_at dksX2_within_0 1 rfl rfl)
theorem dX2_within_2 : decode cX2_within 2 = .ok (.lcmp, 1) := dk_148 (dk_at dksX2_within_0 2 rfl rfl)
theorem dX2_within_3 : decode cX2_within 3 = .ok (.ifCond .lt 14, 3) := dk_155 0 14 (dk_at dksX2_within_0 3 rfl rfl)
theorem dX2_within_6 : decode cX2_within 6 = .ok (.lload_n 0, 1) := dk_30 (dk_at dksX2_within_0 6 rfl rfl)
theorem dX2_within_7 : decode cX2_within 7 = .ok (.lload 4, 2) := dk_22 4 (dk_at dksX2_within_0 7 rfl rfl)
theorem dX2_within_9 : decode cX2_within 9 = .ok (.lcmp, 1) := dk_148 (dk_at dksX2_within_0 9 rfl rfl)
theorem dX2_within_10 : decode cX2_within 10 = .ok (.ifCond .gt 7, 3) := dk_157 0 7 (dk_at dksX2_within_0 10 rfl rfl)
theorem dX2_within_13 : decode cX2_within 13 = .ok (.iconst 1, 1) := dk_4 (dk_at dksX2_within_0 13 rfl rfl)
theorem dX2_within_14 : decode cX2_within 14 = .ok (.goto 4, 3) := dk_167 0 4 (dk_at dksX2_within_0 14 rfl rfl)
theorem dX2_within_17 : decode cX2_within 17 = .ok (.iconst 0, 1) := dk_3 (dk_at dksX2_within_0 17 rfl rfl)
theorem dX2_within_18 : decode cX2_within 18 = .ok (.ireturn, 1) := dk_172 (dk_at dksX2_within_0 18 rfl rfl)
abbrev cX2_isTwo : ByteArray := prog_32_method_9_code
def yX2_isTwo : MethodName := ⟨RX2, "isTwo", "(J)Z"⟩
def dkwX2_isTwo_0 : List UInt8 := [30, 9, 20, 0, 112, 184, 0, 105, 172]
abbrev dktX2_isTwo_0 : List UInt8 := dkwX2_isTwo_0 ++ []
theorem dksX2_isTwo_0 : cX2_isTwo.data.toList.drop 0 = dktX2_isTwo_0 := by decide +kernel
theorem dX2_isTwo_0 : decode cX2_isTwo 0 = .ok (.lload_n 0, 1) := dk_30 (dk_at dksX2_isTwo_0 0 rfl rfl)
theorem dX2_isTwo_1 : decode cX2_isTwo 1 = .ok (.lconst 0, 1) := dk_9 (dk_at dksX2_isTwo_0 1 rfl rfl)
theorem dX2_isTwo_2 : decode cX2_isTwo 2 = .ok (.ldc2_w 112, 3) := dk_20 0 112 (dk_at dksX2_isTwo_0 2 rfl rfl)
theorem dX2_isTwo_5 : decode cX2_isTwo 5 = .ok (.invokestatic 105, 3) := dk_184 0 105 (dk_at dksX2_isTwo_0 5 rfl rfl)
theorem dX2_isTwo_8 : decode cX2_isTwo 8 = .ok (.ireturn, 1) := dk_172 (dk_at dksX2_isTwo_0 8 rfl rfl)
abbrev cX2_adds : ByteArray := prog_32_method_10_code
def yX2_adds : MethodName := ⟨RX2, "adds", "(IIII)V"⟩
def dkwX2_adds_2 : List UInt8 := [89, 180, 0, 102, 4, 96, 181, 0, 102, 177]
abbrev dktX2_adds_2 : List UInt8 := dkwX2_adds_2 ++ []
def dkwX2_adds_1 : List UInt8 := [180, 0, 9, 16, 12, 42, 180, 0, 102, 96, 29, 79, 42, 180, 0, 22, 42, 180, 0, 102, 21, 4, 79, 42]
abbrev dktX2_adds_1 : List UInt8 := dkwX2_adds_1 ++ dktX2_adds_2
def dkwX2_adds_0 : List UInt8 := [42, 180, 0, 9, 42, 180, 0, 102, 27, 79, 42, 180, 0, 9, 16, 6, 42, 180, 0, 102, 96, 28, 79, 42]
abbrev dktX2_adds_0 : List UInt8 := dkwX2_adds_0 ++ dktX2_adds_1
theorem dksX2_adds_0 : cX2_adds.data.toList.drop 0 = dktX2_adds_0 := by decide +kernel
theorem dksX2_adds_1 : cX2_adds.data.toList.drop 24 = dktX2_adds_1 := dk_seg dksX2_adds_0 24 rfl rfl
theorem dksX2_adds_2 : cX2_adds.data.toList.drop 48 = dktX2_adds_2 := dk_seg dksX2_adds_1 24 rfl rfl
theorem dX2_adds_0 : decode cX2_adds 0 = .ok (.aload_n 0, 1) := dk_42 (dk_at dksX2_adds_0 0 rfl rfl)
theorem dX2_adds_1 : decode cX2_adds 1 = .ok (.getfield 9, 3) := dk_180 0 9 (dk_at dksX2_adds_0 1 rfl rfl)
theorem dX2_adds_4 : decode cX2_adds 4 = .ok (.aload_n 0, 1) := dk_42 (dk_at dksX2_adds_0 4 rfl rfl)
theorem dX2_adds_5 : decode cX2_adds 5 = .ok (.getfield 102, 3) := dk_180 0 102 (dk_at dksX2_adds_0 5 rfl rfl)
theorem dX2_adds_8 : decode cX2_adds 8 = .ok (.iload_n 1, 1) := dk_27 (dk_at dksX2_adds_0 8 rfl rfl)
theorem dX2_adds_9 : decode cX2_adds 9 = .ok (.iastore, 1) := dk_79 (dk_at dksX2_adds_0 9 rfl rfl)
theorem dX2_adds_10 : decode cX2_adds 10 = .ok (.aload_n 0, 1) := dk_42 (dk_at dksX2_adds_0 10 rfl rfl)
theorem dX2_adds_11 : decode cX2_adds 11 = .ok (.getfield 9, 3) := dk_180 0 9 (dk_at dksX2_adds_0 11 rfl rfl)
theorem dX2_adds_14 : decode cX2_adds 14 = .ok (.bipush 6, 2) := dk_16 6 (dk_at dksX2_adds_0 14 rfl rfl)
theorem dX2_adds_16 : decode cX2_adds 16 = .ok (.aload_n 0, 1) := dk_42 (dk_at dksX2_adds_0 16 rfl rfl)
theorem dX2_adds_17 : decode cX2_adds 17 = .ok (.getfield 102, 3) := dk_180 0 102 (dk_at dksX2_adds_0 17 rfl rfl)
theorem dX2_adds_20 : decode cX2_adds 20 = .ok (.iadd, 1) := dk_96 (dk_at dksX2_adds_0 20 rfl rfl)
theorem dX2_adds_21 : decode cX2_adds 21 = .ok (.iload_n 2, 1) := dk_28 (dk_at dksX2_adds_0 21 rfl rfl)
theorem dX2_adds_22 : decode cX2_adds 22 = .ok (.iastore, 1) := dk_79 (dk_at dksX2_adds_0 22 rfl rfl)
theorem dX2_adds_23 : decode cX2_adds 23 = .ok (.aload_n 0, 1) := dk_42 (dk_at dksX2_adds_0 23 rfl rfl)
theorem dX2_adds_24 : decode cX2_adds 24 = .ok (.getfield 9, 3) := dk_180 0 9 (dk_at dksX2_adds_1 0 rfl rfl)
theorem dX2_adds_27 : decode cX2_adds 27 = .ok (.bipush 12, 2) := dk_16 12 (dk_at dksX2_adds_1 3 rfl rfl)
theorem dX2_adds_29 : decode cX2_adds 29 = .ok (.aload_n 0, 1) := dk_42 (dk_at dksX2_adds_1 5 rfl rfl)
theorem dX2_adds_30 : decode cX2_adds 30 = .ok (.getfield 102, 3) := dk_180 0 102 (dk_at dksX2_adds_1 6 rfl rfl)
theorem dX2_adds_33 : decode cX2_adds 33 = .ok (.iadd, 1) := dk_96 (dk_at dksX2_adds_1 9 rfl rfl)
theorem dX2_adds_34 : decode cX2_adds 34 = .ok (.iload_n 3, 1) := dk_29 (dk_at dksX2_adds_1 10 rfl rfl)
theorem dX2_adds_35 : decode cX2_adds 35 = .ok (.iastore, 1) := dk_79 (dk_at dksX2_adds_1 11 rfl rfl)
theorem dX2_adds_36 : decode cX2_adds 36 = .ok (.aload_n 0, 1) := dk_42 (dk_at dksX2_adds_1 12 rfl rfl)
theorem dX2_adds_37 : decode cX2_adds 37 = .ok (.getfield 22, 3) := dk_180 0 22 (dk_at dksX2_adds_1 13 rfl rfl)
theorem dX2_adds_40 : decode cX2_adds 40 = .ok (.aload_n 0, 1) := dk_42 (dk_at dksX2_adds_1 16 rfl rfl)
theorem dX2_adds_41 : decode cX2_adds 41 = .ok (.getfield 102, 3) := dk_180 0 102 (dk_at dksX2_adds_1 17 rfl rfl)
theorem dX2_adds_44 : decode cX2_adds 44 = .ok (.iload 4, 2) := dk_21 4 (dk_at dksX2_adds_1 20 rfl rfl)
theorem dX2_adds_46 : decode cX2_adds 46 = .ok (.iastore, 1) := dk_79 (dk_at dksX2_adds_1 22 rfl rfl)
theorem dX2_adds_47 : decode cX2_adds 47 = .ok (.aload_n 0, 1) := dk_42 (dk_at dksX2_adds_1 23 rfl rfl)
theorem dX2_adds_48 : decode cX2_adds 48 = .ok (.dup, 1) := dk_89 (dk_at dksX2_adds_2 0 rfl rfl)
theorem dX2_adds_49 : decode cX2_adds 49 = .ok (.getfield 102, 3) := dk_180 0 102 (dk_at dksX2_adds_2 1 rfl rfl)
theorem dX2_adds_52 : decode cX2_adds 52 = .ok (.iconst 1, 1) := dk_4 (dk_at dksX2_adds_2 4 rfl rfl)
theorem dX2_adds_53 : decode cX2_adds 53 = .ok (.iadd, 1) := dk_96 (dk_at dksX2_adds_2 5 rfl rfl)
theorem dX2_adds_54 : decode cX2_adds 54 = .ok (.putfield 102, 3) := dk_181 0 102 (dk_at dksX2_adds_2 6 rfl rfl)
theorem dX2_adds_57 : decode cX2_adds 57 = .ok (.return_, 1) := dk_177 (dk_at dksX2_adds_2 9 rfl rfl)
abbrev cX2_things : ByteArray := prog_32_method_12_code
def yX2_things : MethodName := ⟨RX2, "things", "(III)I"⟩
def dkwX2_things_10 : List UInt8 := [42, 180, 0, 89, 21, 6, 6, 96, 47, 136, 182, 0, 122, 132, 4, 1, 167, 255, 75, 21, 4, 172]
abbrev dktX2_things_10 : List UInt8 := dkwX2_things_10 ++ []
def dkwX2_things_9 : List UInt8 := [21, 6, 47, 136, 42, 180, 0, 89, 21, 6, 4, 96, 47, 136, 42, 180, 0, 89, 21, 6, 5, 96, 47, 136]
abbrev dktX2_things_9 : List UInt8 := dkwX2_things_9 ++ dktX2_things_10
def dkwX2_things_8 : List UInt8 := [184, 0, 118, 153, 0, 7, 4, 167, 0, 4, 3, 54, 5, 21, 5, 153, 0, 48, 42, 42, 180, 0, 89]
abbrev dktX2_things_8 : List UInt8 := dkwX2_things_8 ++ dktX2_things_9
def dkwX2_things_7 : List UInt8 := [42, 180, 0, 89, 21, 6, 5, 96, 47, 184, 0, 118, 153, 0, 22, 42, 180, 0, 89, 21, 6, 6, 96, 47]
abbrev dktX2_things_7 : List UInt8 := dkwX2_things_7 ++ dktX2_things_8
def dkwX2_things_6 : List UInt8 := [20, 0, 114, 184, 0, 105, 153, 0, 52, 42, 180, 0, 89, 21, 6, 4, 96, 47, 184, 0, 118, 153, 0, 37]
abbrev dktX2_things_6 : List UInt8 := dkwX2_things_6 ++ dktX2_things_7
def dkwX2_things_5 : List UInt8 := [28, 96, 7, 21, 4, 104, 96, 54, 6, 21, 5, 153, 0, 69, 42, 180, 0, 89, 21, 6, 47, 9]
abbrev dktX2_things_5 : List UInt8 := dkwX2_things_5 ++ dktX2_things_6
def dkwX2_things_4 : List UInt8 := [100, 163, 0, 16, 42, 180, 0, 102, 16, 6, 162, 0, 7, 4, 167, 0, 4, 3, 54, 5, 16, 60, 27, 104]
abbrev dktX2_things_4 : List UInt8 := dkwX2_things_4 ++ dktX2_things_5
def dkwX2_things_3 : List UInt8 := [21, 5, 153, 0, 182, 21, 4, 29, 162, 0, 176, 28, 42, 180, 0, 86, 27, 46, 7, 100, 7, 21, 4, 104]
abbrev dktX2_things_3 : List UInt8 := dkwX2_things_3 ++ dktX2_things_4
def dkwX2_things_2 : List UInt8 := [54, 4, 42, 180, 0, 83, 27, 46, 16, 51, 160, 0, 11, 28, 155, 0, 7, 4, 167, 0, 4, 3, 54, 5]
abbrev dktX2_things_2 : List UInt8 := dkwX2_things_2 ++ dktX2_things_3
def dkwX2_things_1 : List UInt8 := [180, 0, 83, 27, 46, 155, 0, 17, 42, 180, 0, 83, 27, 46, 16, 51, 159, 0, 6, 16, 244, 172, 3]
abbrev dktX2_things_1 : List UInt8 := dkwX2_things_1 ++ dktX2_things_2
def dkwX2_things_0 : List UInt8 := [27, 184, 0, 126, 153, 0, 15, 29, 133, 10, 20, 0, 130, 184, 0, 105, 154, 0, 5, 2, 172, 42]
abbrev dktX2_things_0 : List UInt8 := dkwX2_things_0 ++ dktX2_things_1
theorem dksX2_things_0 : cX2_things.data.toList.drop 0 = dktX2_things_0 := by decide +kernel
theorem dksX2_things_1 : cX2_things.data.toList.drop 22 = dktX2_things_1 := dk_seg dksX2_things_0 22 rfl rfl
theorem dksX2_things_2 : cX2_things.data.toList.drop 45 = dktX2_things_2 := dk_seg dksX2_things_1 23 rfl rfl
theorem dksX2_things_3 : cX2_things.data.toList.drop 69 = dktX2_things_3 := dk_seg dksX2_things_2 24 rfl rfl
theorem dksX2_things_4 : cX2_things.data.toList.drop 93 = dktX2_things_4 := dk_seg dksX2_things_3 24 rfl rfl
theorem dksX2_things_5 : cX2_things.data.toList.drop 117 = dktX2_things_5 := dk_seg dksX2_things_4 24 rfl rfl
theorem dksX2_things_6 : cX2_things.data.toList.drop 139 = dktX2_things_6 := dk_seg dksX2_things_5 22 rfl rfl
theorem dksX2_things_7 : cX2_things.data.toList.drop 163 = dktX2_things_7 := dk_seg dksX2_things_6 24 rfl rfl
theorem dksX2_things_8 : cX2_things.data.toList.drop 187 = dktX2_things_8 := dk_seg dksX2_things_7 24 rfl rfl
theorem dksX2_things_9 : cX2_things.data.toList.drop 210 = dktX2_things_9 := dk_seg dksX2_things_8 23 rfl rfl
theorem dksX2_things_10 : cX2_things.data.toList.drop 234 = dktX2_things_10 := dk_seg dksX2_things_9 24 rfl rfl
theorem dX2_things_0 : decode cX2_things 0 = .ok (.iload_n 1, 1) := dk_27 (dk_at dksX2_things_0 0 rfl rfl)
theorem dX2_things_1 : decode cX2_things 1 = .ok (.invokestatic 126, 3) := dk_184 0 126 (dk_at dksX2_things_0 1 rfl rfl)
theorem dX2_things_4 : decode cX2_things 4 = .ok (.ifCond .eq 15, 3) := dk_153 0 15 (dk_at dksX2_things_0 4 rfl rfl)
theorem dX2_things_7 : decode cX2_things 7 = .ok (.iload_n 3, 1) := dk_29 (dk_at dksX2_things_0 7 rfl rfl)
theorem dX2_things_8 : decode cX2_things 8 = .ok (.i2l, 1) := dk_133 (dk_at dksX2_things_0 8 rfl rfl)
theorem dX2_things_9 : decode cX2_things 9 = .ok (.lconst 1, 1) := dk_10 (dk_at dksX2_things_0 9 rfl rfl)
theorem dX2_things_10 : decode cX2_things 10 = .ok (.ldc2_w 130, 3) := dk_20 0 130 (dk_at dksX2_things_0 10 rfl rfl)
theorem dX2_things_13 : decode cX2_things 13 = .ok (.invokestatic 105, 3) := dk_184 0 105 (dk_at dksX2_things_0 13 rfl rfl)
theorem dX2_things_16 : decode cX2_things 16 = .ok (.ifCond .ne 5, 3) := dk_154 0 5 (dk_at dksX2_things_0 16 rfl rfl)
theorem dX2_things_19 : decode cX2_things 19 = .ok (.iconst (-1), 1) := dk_2 (dk_at dksX2_things_0 19 rfl rfl)
theorem dX2_things_20 : decode cX2_things 20 = .ok (.ireturn, 1) := dk_172 (dk_at dksX2_things_0 20 rfl rfl)
theorem dX2_things_21 : decode cX2_things 21 = .ok (.aload_n 0, 1) := dk_42 (dk_at dksX2_things_0 21 rfl rfl)
theorem dX2_things_22 : decode cX2_things 22 = .ok (.getfield 83, 3) := dk_180 0 83 (dk_at dksX2_things_1 0 rfl rfl)
theorem dX2_things_25 : decode cX2_things 25 = .ok (.iload_n 1, 1) := dk_27 (dk_at dksX2_things_1 3 rfl rfl)
theorem dX2_things_26 : decode cX2_things 26 = .ok (.iaload, 1) := dk_46 (dk_at dksX2_things_1 4 rfl rfl)
theorem dX2_things_27 : decode cX2_things 27 = .ok (.ifCond .lt 17, 3) := dk_155 0 17 (dk_at dksX2_things_1 5 rfl rfl)
theorem dX2_things_30 : decode cX2_things 30 = .ok (.aload_n 0, 1) := dk_42 (dk_at dksX2_things_1 8 rfl rfl)
theorem dX2_things_31 : decode cX2_things 31 = .ok (.getfield 83, 3) := dk_180 0 83 (dk_at dksX2_things_1 9 rfl rfl)
theorem dX2_things_34 : decode cX2_things 34 = .ok (.iload_n 1, 1) := dk_27 (dk_at dksX2_things_1 12 rfl rfl)
theorem dX2_things_35 : decode cX2_things 35 = .ok (.iaload, 1) := dk_46 (dk_at dksX2_things_1 13 rfl rfl)
theorem dX2_things_36 : decode cX2_things 36 = .ok (.bipush 51, 2) := dk_16 51 (dk_at dksX2_things_1 14 rfl rfl)
theorem dX2_things_38 : decode cX2_things 38 = .ok (.if_icmp .eq 6, 3) := dk_159 0 6 (dk_at dksX2_things_1 16 rfl rfl)
theorem dX2_things_41 : decode cX2_things 41 = .ok (.bipush (-12), 2) := dk_16 244 (dk_at dksX2_things_1 19 rfl rfl)
theorem dX2_things_43 : decode cX2_things 43 = .ok (.ireturn, 1) := dk_172 (dk_at dksX2_things_1 21 rfl rfl)
theorem dX2_things_44 : decode cX2_things 44 = .ok (.iconst 0, 1) := dk_3 (dk_at dksX2_things_1 22 rfl rfl)
theorem dX2_things_45 : decode cX2_things 45 = .ok (.istore 4, 2) := dk_54 4 (dk_at dksX2_things_2 0 rfl rfl)
theorem dX2_things_47 : decode cX2_things 47 = .ok (.aload_n 0, 1) := dk_42 (dk_at dksX2_things_2 2 rfl rfl)
theorem dX2_things_48 : decode cX2_things 48 = .ok (.getfield 83, 3) := dk_180 0 83 (dk_at dksX2_things_2 3 rfl rfl)
theorem dX2_things_51 : decode cX2_things 51 = .ok (.iload_n 1, 1) := dk_27 (dk_at dksX2_things_2 6 rfl rfl)
theorem dX2_things_52 : decode cX2_things 52 = .ok (.iaload, 1) := dk_46 (dk_at dksX2_things_2 7 rfl rfl)
theorem dX2_things_53 : decode cX2_things 53 = .ok (.bipush 51, 2) := dk_16 51 (dk_at dksX2_things_2 8 rfl rfl)
theorem dX2_things_55 : decode cX2_things 55 = .ok (.if_icmp .ne 11, 3) := dk_160 0 11 (dk_at dksX2_things_2 10 rfl rfl)
theorem dX2_things_58 : decode cX2_things 58 = .ok (.iload_n 2, 1) := dk_28 (dk_at dksX2_things_2 13 rfl rfl)
theorem dX2_things_59 : decode cX2_things 59 = .ok (.ifCond .lt 7, 3) := dk_155 0 7 (dk_at dksX2_things_2 14 rfl rfl)
theorem dX2_things_62 : decode cX2_things 62 = .ok (.iconst 1, 1) := dk_4 (dk_at dksX2_things_2 17 rfl rfl)
theorem dX2_things_63 : decode cX2_things 63 = .ok (.goto 4, 3) := dk_167 0 4 (dk_at dksX2_things_2 18 rfl rfl)
theorem dX2_things_66 : decode cX2_things 66 = .ok (.iconst 0, 1) := dk_3 (dk_at dksX2_things_2 21 rfl rfl)
theorem dX2_things_67 : decode cX2_things 67 = .ok (.istore 5, 2) := dk_54 5 (dk_at dksX2_things_2 22 rfl rfl)
theorem dX2_things_69 : decode cX2_things 69 = .ok (.iload 5, 2) := dk_21 5 (dk_at dksX2_things_3 0 rfl rfl)
theorem dX2_things_71 : decode cX2_things 71 = .ok (.ifCond .eq 182, 3) := dk_153 0 182 (dk_at dksX2_things_3 2 rfl rfl)
theorem dX2_things_74 : decode cX2_things 74 = .ok (.iload 4, 2) := dk_21 4 (dk_at dksX2_things_3 5 rfl rfl)
theorem dX2_things_76 : decode cX2_things 76 = .ok (.iload_n 3, 1) := dk_29 (dk_at dksX2_things_3 7 rfl rfl)
theorem dX2_things_77 : decode cX2_things 77 = .ok (.if_icmp .ge 176, 3) := dk_162 0 176 (dk_at dksX2_things_3 8 rfl rfl)
theorem dX2_things_80 : decode cX2_things 80 = .ok (.iload_n 2, 1) := dk_28 (dk_at dksX2_things_3 11 rfl rfl)
theorem dX2_things_81 : decode cX2_things 81 = .ok (.aload_n 0, 1) := dk_42 (dk_at dksX2_things_3 12 rfl rfl)
theorem dX2_things_82 : decode cX2_things 82 = .ok (.getfield 86, 3) := dk_180 0 86 (dk_at dksX2_things_3 13 rfl rfl)
theorem dX2_things_85 : decode cX2_things 85 = .ok (.iload_n 1, 1) := dk_27 (dk_at dksX2_things_3 16 rfl rfl)
theorem dX2_things_86 : decode cX2_things 86 = .ok (.iaload, 1) := dk_46 (dk_at dksX2_things_3 17 rfl rfl)
theorem dX2_things_87 : decode cX2_things 87 = .ok (.iconst 4, 1) := dk_7 (dk_at dksX2_things_3 18 rfl rfl)
theorem dX2_things_88 : decode cX2_things 88 = .ok (.isub, 1) := dk_100 (dk_at dksX2_things_3 19 rfl rfl)
theorem dX2_things_89 : decode cX2_things 89 = .ok (.iconst 4, 1) := dk_7 (dk_at dksX2_things_3 20 rfl rfl)
theorem dX2_things_90 : decode cX2_things 90 = .ok (.iload 4, 2) := dk_21 4 (dk_at dksX2_things_3 21 rfl rfl)
theorem dX2_things_92 : decode cX2_things 92 = .ok (.imul, 1) := dk_104 (dk_at dksX2_things_3 23 rfl rfl)
theorem dX2_things_93 : decode cX2_things 93 = .ok (.isub, 1) := dk_100 (dk_at dksX2_things_4 0 rfl rfl)
theorem dX2_things_94 : decode cX2_things 94 = .ok (.if_icmp .gt 16, 3) := dk_163 0 16 (dk_at dksX2_things_4 1 rfl rfl)
theorem dX2_things_97 : decode cX2_things 97 = .ok (.aload_n 0, 1) := dk_42 (dk_at dksX2_things_4 4 rfl rfl)
theorem dX2_things_98 : decode cX2_things 98 = .ok (.getfield 102, 3) := dk_180 0 102 (dk_at dksX2_things_4 5 rfl rfl)
theorem dX2_things_101 : decode cX2_things 101 = .ok (.bipush 6, 2) := dk_16 6 (dk_at dksX2_things_4 8 rfl rfl)
theorem dX2_things_103 : decode cX2_things 103 = .ok (.if_icmp .ge 7, 3) := dk_162 0 7 (dk_at dksX2_things_4 10 rfl rfl)
theorem dX2_things_106 : decode cX2_things 106 = .ok (.iconst 1, 1) := dk_4 (dk_at dksX2_things_4 13 rfl rfl)
theorem dX2_things_107 : decode cX2_things 107 = .ok (.goto 4, 3) := dk_167 0 4 (dk_at dksX2_things_4 14 rfl rfl)
theorem dX2_things_110 : decode cX2_things 110 = .ok (.iconst 0, 1) := dk_3 (dk_at dksX2_things_4 17 rfl rfl)
theorem dX2_things_111 : decode cX2_things 111 = .ok (.istore 5, 2) := dk_54 5 (dk_at dksX2_things_4 18 rfl rfl)
theorem dX2_things_113 : decode cX2_things 113 = .ok (.bipush 60, 2) := dk_16 60 (dk_at dksX2_things_4 20 rfl rfl)
theorem dX2_things_115 : decode cX2_things 115 = .ok (.iload_n 1, 1) := dk_27 (dk_at dksX2_things_4 22 rfl rfl)
theorem dX2_things_116 : decode cX2_things 116 = .ok (.imul, 1) := dk_104 (dk_at dksX2_things_4 23 rfl rfl)
theorem dX2_things_117 : decode cX2_things 117 = .ok (.iload_n 2, 1) := dk_28 (dk_at dksX2_things_5 0 rfl rfl)
theorem dX2_things_118 : decode cX2_things 118 = .ok (.iadd, 1) := dk_96 (dk_at dksX2_things_5 1 rfl rfl)
theorem dX2_things_119 : decode cX2_things 119 = .ok (.iconst 4, 1) := dk_7 (dk_at dksX2_things_5 2 rfl rfl)
theorem dX2_things_120 : decode cX2_things 120 = .ok (.iload 4, 2) := dk_21 4 (dk_at dksX2_things_5 3 rfl rfl)
theorem dX2_things_122 : decode cX2_things 122 = .ok (.imul, 1) := dk_104 (dk_at dksX2_things_5 5 rfl rfl)
theorem dX2_things_123 : decode cX2_things 123 = .ok (.iadd, 1) := dk_96 (dk_at dksX2_things_5 6 rfl rfl)
theorem dX2_things_124 : decode cX2_things 124 = .ok (.istore 6, 2) := dk_54 6 (dk_at dksX2_things_5 7 rfl rfl)
theorem dX2_things_126 : decode cX2_things 126 = .ok (.iload 5, 2) := dk_21 5 (dk_at dksX2_things_5 9 rfl rfl)
theorem dX2_things_128 : decode cX2_things 128 = .ok (.ifCond .eq 69, 3) := dk_153 0 69 (dk_at dksX2_things_5 11 rfl rfl)
theorem dX2_things_131 : decode cX2_things 131 = .ok (.aload_n 0, 1) := dk_42 (dk_at dksX2_things_5 14 rfl rfl)
theorem dX2_things_132 : decode cX2_things 132 = .ok (.getfield 89, 3) := dk_180 0 89 (dk_at dksX2_things_5 15 rfl rfl)
theorem dX2_things_135 : decode cX2_things 135 = .ok (.iload 6, 2) := dk_21 6 (dk_at dksX2_things_5 18 rfl rfl)
theorem dX2_things_137 : decode cX2_things 137 = .ok (.laload, 1) := dk_47 (dk_at dksX2_things_5 20 rfl rfl)
theorem dX2_things_138 : decode cX2_things 138 = .ok (.lconst 0, 1) := dk_9 (dk_at dksX2_things_5 21 rfl rfl)
theorem dX2_things_139 : decode cX2_things 139 = .ok (.ldc2_w 114, 3) := dk_20 0 114 (dk_at dksX2_things_6 0 rfl rfl)
theorem dX2_things_142 : decode cX2_things 142 = .ok (.invokestatic 105, 3) := dk_184 0 105 (dk_at dksX2_things_6 3 rfl rfl)
theorem dX2_things_145 : decode cX2_things 145 = .ok (.ifCond .eq 52, 3) := dk_153 0 52 (dk_at dksX2_things_6 6 rfl rfl)
theorem dX2_things_148 : decode cX2_things 148 = .ok (.aload_n 0, 1) := dk_42 (dk_at dksX2_things_6 9 rfl rfl)
theorem dX2_things_149 : decode cX2_things 149 = .ok (.getfield 89, 3) := dk_180 0 89 (dk_at dksX2_things_6 10 rfl rfl)
theorem dX2_things_152 : decode cX2_things 152 = .ok (.iload 6, 2) := dk_21 6 (dk_at dksX2_things_6 13 rfl rfl)
theorem dX2_things_154 : decode cX2_things 154 = .ok (.iconst 1, 1) := dk_4 (dk_at dksX2_things_6 15 rfl rfl)
theorem dX2_things_155 : decode cX2_things 155 = .ok (.iadd, 1) := dk_96 (dk_at dksX2_things_6 16 rfl rfl)
theorem dX2_things_156 : decode cX2_things 156 = .ok (.laload, 1) := dk_47 (dk_at dksX2_things_6 17 rfl rfl)
theorem dX2_things_157 : decode cX2_things 157 = .ok (.invokestatic 118, 3) := dk_184 0 118 (dk_at dksX2_things_6 18 rfl rfl)
theorem dX2_things_160 : decode cX2_things 160 = .ok (.ifCond .eq 37, 3) := dk_153 0 37 (dk_at dksX2_things_6 21 rfl rfl)
theorem dX2_things_163 : decode cX2_things 163 = .ok (.aload_n 0, 1) := dk_42 (dk_at dksX2_things_7 0 rfl rfl)
theorem dX2_things_164 : decode cX2_things 164 = .ok (.getfield 89, 3) := dk_180 0 89 (dk_at dksX2_things_7 1 rfl rfl)
theorem dX2_things_167 : decode cX2_things 167 = .ok (.iload 6, 2) := dk_21 6 (dk_at dksX2_things_7 4 rfl rfl)
theorem dX2_things_169 : decode cX2_things 169 = .ok (.iconst 2, 1) := dk_5 (dk_at dksX2_things_7 6 rfl rfl)
theorem dX2_things_170 : decode cX2_things 170 = .ok (.iadd, 1) := dk_96 (dk_at dksX2_things_7 7 rfl rfl)
theorem dX2_things_171 : decode cX2_things 171 = .ok (.laload, 1) := dk_47 (dk_at dksX2_things_7 8 rfl rfl)
theorem dX2_things_172 : decode cX2_things 172 = .ok (.invokestatic 118, 3) := dk_184 0 118 (dk_at dksX2_things_7 9 rfl rfl)
theorem dX2_things_175 : decode cX2_things 175 = .ok (.ifCond .eq 22, 3) := dk_153 0 22 (dk_at dksX2_things_7 12 rfl rfl)
theorem dX2_things_178 : decode cX2_things 178 = .ok (.aload_n 0, 1) := dk_42 (dk_at dksX2_things_7 15 rfl rfl)
theorem dX2_things_179 : decode cX2_things 179 = .ok (.getfield 89, 3) := dk_180 0 89 (dk_at dksX2_things_7 16 rfl rfl)
theorem dX2_things_182 : decode cX2_things 182 = .ok (.iload 6, 2) := dk_21 6 (dk_at dksX2_things_7 19 rfl rfl)
theorem dX2_things_184 : decode cX2_things 184 = .ok (.iconst 3, 1) := dk_6 (dk_at dksX2_things_7 21 rfl rfl)
theorem dX2_things_185 : decode cX2_things 185 = .ok (.iadd, 1) := dk_96 (dk_at dksX2_things_7 22 rfl rfl)
theorem dX2_things_186 : decode cX2_things 186 = .ok (.laload, 1) := dk_47 (dk_at dksX2_things_7 23 rfl rfl)
theorem dX2_things_187 : decode cX2_things 187 = .ok (.invokestatic 118, 3) := dk_184 0 118 (dk_at dksX2_things_8 0 rfl rfl)
theorem dX2_things_190 : decode cX2_things 190 = .ok (.ifCond .eq 7, 3) := dk_153 0 7 (dk_at dksX2_things_8 3 rfl rfl)
theorem dX2_things_193 : decode cX2_things 193 = .ok (.iconst 1, 1) := dk_4 (dk_at dksX2_things_8 6 rfl rfl)
theorem dX2_things_194 : decode cX2_things 194 = .ok (.goto 4, 3) := dk_167 0 4 (dk_at dksX2_things_8 7 rfl rfl)
theorem dX2_things_197 : decode cX2_things 197 = .ok (.iconst 0, 1) := dk_3 (dk_at dksX2_things_8 10 rfl rfl)
theorem dX2_things_198 : decode cX2_things 198 = .ok (.istore 5, 2) := dk_54 5 (dk_at dksX2_things_8 11 rfl rfl)
theorem dX2_things_200 : decode cX2_things 200 = .ok (.iload 5, 2) := dk_21 5 (dk_at dksX2_things_8 13 rfl rfl)
theorem dX2_things_202 : decode cX2_things 202 = .ok (.ifCond .eq 48, 3) := dk_153 0 48 (dk_at dksX2_things_8 15 rfl rfl)
theorem dX2_things_205 : decode cX2_things 205 = .ok (.aload_n 0, 1) := dk_42 (dk_at dksX2_things_8 18 rfl rfl)
theorem dX2_things_206 : decode cX2_things 206 = .ok (.aload_n 0, 1) := dk_42 (dk_at dksX2_things_8 19 rfl rfl)
theorem dX2_things_207 : decode cX2_things 207 = .ok (.getfield 89, 3) := dk_180 0 89 (dk_at dksX2_things_8 20 rfl rfl)
theorem dX2_things_210 : decode cX2_things 210 = .ok (.iload 6, 2) := dk_21 6 (dk_at dksX2_things_9 0 rfl rfl)
theorem dX2_things_212 : decode cX2_things 212 = .ok (.laload, 1) := dk_47 (dk_at dksX2_things_9 2 rfl rfl)
theorem dX2_things_213 : decode cX2_things 213 = .ok (.l2i, 1) := dk_136 (dk_at dksX2_things_9 3 rfl rfl)
theorem dX2_things_214 : decode cX2_things 214 = .ok (.aload_n 0, 1) := dk_42 (dk_at dksX2_things_9 4 rfl rfl)
theorem dX2_things_215 : decode cX2_things 215 = .ok (.getfield 89, 3) := dk_180 0 89 (dk_at dksX2_things_9 5 rfl rfl)
theorem dX2_things_218 : decode cX2_things 218 = .ok (.iload 6, 2) := dk_21 6 (dk_at dksX2_things_9 8 rfl rfl)
theorem dX2_things_220 : decode cX2_things 220 = .ok (.iconst 1, 1) := dk_4 (dk_at dksX2_things_9 10 rfl rfl)
theorem dX2_things_221 : decode cX2_things 221 = .ok (.iadd, 1) := dk_96 (dk_at dksX2_things_9 11 rfl rfl)
theorem dX2_things_222 : decode cX2_things 222 = .ok (.laload, 1) := dk_47 (dk_at dksX2_things_9 12 rfl rfl)
theorem dX2_things_223 : decode cX2_things 223 = .ok (.l2i, 1) := dk_136 (dk_at dksX2_things_9 13 rfl rfl)
theorem dX2_things_224 : decode cX2_things 224 = .ok (.aload_n 0, 1) := dk_42 (dk_at dksX2_things_9 14 rfl rfl)
theorem dX2_things_225 : decode cX2_things 225 = .ok (.getfield 89, 3) := dk_180 0 89 (dk_at dksX2_things_9 15 rfl rfl)
theorem dX2_things_228 : decode cX2_things 228 = .ok (.iload 6, 2) := dk_21 6 (dk_at dksX2_things_9 18 rfl rfl)
theorem dX2_things_230 : decode cX2_things 230 = .ok (.iconst 2, 1) := dk_5 (dk_at dksX2_things_9 20 rfl rfl)
theorem dX2_things_231 : decode cX2_things 231 = .ok (.iadd, 1) := dk_96 (dk_at dksX2_things_9 21 rfl rfl)
theorem dX2_things_232 : decode cX2_things 232 = .ok (.laload, 1) := dk_47 (dk_at dksX2_things_9 22 rfl rfl)
theorem dX2_things_233 : decode cX2_things 233 = .ok (.l2i, 1) := dk_136 (dk_at dksX2_things_9 23 rfl rfl)
theorem dX2_things_234 : decode cX2_things 234 = .ok (.aload_n 0, 1) := dk_42 (dk_at dksX2_things_10 0 rfl rfl)
theorem dX2_things_235 : decode cX2_things 235 = .ok (.getfield 89, 3) := dk_180 0 89 (dk_at dksX2_things_10 1 rfl rfl)
theorem dX2_things_238 : decode cX2_things 238 = .ok (.iload 6, 2) := dk_21 6 (dk_at dksX2_things_10 4 rfl rfl)
theorem dX2_things_240 : decode cX2_things 240 = .ok (.iconst 3, 1) := dk_6 (dk_at dksX2_things_10 6 rfl rfl)
theorem dX2_things_241 : decode cX2_things 241 = .ok (.iadd, 1) := dk_96 (dk_at dksX2_things_10 7 rfl rfl)
theorem dX2_things_242 : decode cX2_things 242 = .ok (.laload, 1) := dk_47 (dk_at dksX2_things_10 8 rfl rfl)
theorem dX2_things_243 : decode cX2_things 243 = .ok (.l2i, 1) := dk_136 (dk_at dksX2_things_10 9 rfl rfl)
theorem dX2_things_244 : decode cX2_things 244 = .ok (.invokevirtual 122, 3) := dk_182 0 122 (dk_at dksX2_things_10 10 rfl rfl)
theorem dX2_things_247 : decode cX2_things 247 = .ok (.iinc 4 1, 3) := dk_132 4 1 (dk_at dksX2_things_10 13 rfl rfl)
theorem dX2_things_250 : decode cX2_things 250 = .ok (.goto (-181), 3) := dk_167 255 75 (dk_at dksX2_things_10 16 rfl rfl)
theorem dX2_things_253 : decode cX2_things 253 = .ok (.iload 4, 2) := dk_21 4 (dk_at dksX2_things_10 19 rfl rfl)
theorem dX2_things_255 : decode cX2_things 255 = .ok (.ireturn, 1) := dk_172 (dk_at dksX2_things_10 21 rfl rfl)
abbrev cX2_isShelf : ByteArray := prog_32_method_83_code
def yX2_isShelf : MethodName := ⟨RX2, "isShelf", "(I)Z"⟩
def dkwX2_isShelf_0 : List UInt8 := [26, 133, 9, 20, 1, 103, 184, 0, 105, 172]
abbrev dktX2_isShelf_0 : List UInt8 := dkwX2_isShelf_0 ++ []
theorem dksX2_isShelf_0 : cX2_isShelf.data.toList.drop 0 = dktX2_isShelf_0 := by decide +kernel
theorem dX2_isShelf_0 : decode cX2_isShelf 0 = .ok (.iload_n 0, 1) := dk_26 (dk_at dksX2_isShelf_0 0 rfl rfl)
theorem dX2_isShelf_1 : decode cX2_isShelf 1 = .ok (.i2l, 1) := dk_133 (dk_at dksX2_isShelf_0 1 rfl rfl)
theorem dX2_isShelf_2 : decode cX2_isShelf 2 = .ok (.lconst 0, 1) := dk_9 (dk_at dksX2_isShelf_0 2 rfl rfl)
theorem dX2_isShelf_3 : decode cX2_isShelf 3 = .ok (.ldc2_w 359, 3) := dk_20 1 103 (dk_at dksX2_isShelf_0 3 rfl rfl)
theorem dX2_isShelf_6 : decode cX2_isShelf 6 = .ok (.invokestatic 105, 3) := dk_184 0 105 (dk_at dksX2_isShelf_0 6 rfl rfl)
theorem dX2_isShelf_9 : decode cX2_isShelf 9 = .ok (.ireturn, 1) := dk_172 (dk_at dksX2_isShelf_0 9 rfl rfl)
abbrev cX2_mend : ByteArray := prog_32_method_13_code
def yX2_mend : MethodName := ⟨RX2, "mend", "(III)I"⟩
def dkwX2_mend_2 : List UInt8 := [96, 29, 182, 0, 137, 167, 0, 4, 2, 172]
abbrev dktX2_mend_2 : List UInt8 := dkwX2_mend_2 ++ []
def dkwX2_mend_1 : List UInt8 := [154, 0, 9, 20, 0, 114, 167, 0, 6, 20, 0, 112, 184, 0, 105, 153, 0, 17, 42, 16, 6, 28, 104, 27]
abbrev dktX2_mend_1 : List UInt8 := dkwX2_mend_1 ++ dktX2_mend_2
def dkwX2_mend_0 : List UInt8 := [42, 27, 182, 0, 132, 153, 0, 51, 28, 133, 9, 20, 0, 135, 184, 0, 105, 153, 0, 39, 29, 133, 9, 28]
abbrev dktX2_mend_0 : List UInt8 := dkwX2_mend_0 ++ dktX2_mend_1
theorem dksX2_mend_0 : cX2_mend.data.toList.drop 0 = dktX2_mend_0 := by decide +kernel
theorem dksX2_mend_1 : cX2_mend.data.toList.drop 24 = dktX2_mend_1 := dk_seg dksX2_mend_0 24 rfl rfl
theorem dksX2_mend_2 : cX2_mend.data.toList.drop 48 = dktX2_mend_2 := dk_seg dksX2_mend_1 24 rfl rfl
theorem dX2_mend_0 : decode cX2_mend 0 = .ok (.aload_n 0, 1) := dk_42 (dk_at dksX2_mend_0 0 rfl rfl)
theorem dX2_mend_1 : decode cX2_mend 1 = .ok (.iload_n 1, 1) := dk_27 (dk_at dksX2_mend_0 1 rfl rfl)
theorem dX2_mend_2 : decode cX2_mend 2 = .ok (.invokevirtual 132, 3) := dk_182 0 132 (dk_at dksX2_mend_0 2 rfl rfl)
theorem dX2_mend_5 : decode cX2_mend 5 = .ok (.ifCond .eq 51, 3) := dk_153 0 51 (dk_at dksX2_mend_0 5 rfl rfl)
theorem dX2_mend_8 : decode cX2_mend 8 = .ok (.iload_n 2, 1) := dk_28 (dk_at dksX2_mend_0 8 rfl rfl)
theorem dX2_mend_9 : decode cX2_mend 9 = .ok (.i2l, 1) := dk_133 (dk_at dksX2_mend_0 9 rfl rfl)
theorem dX2_mend_10 : decode cX2_mend 10 = .ok (.lconst 0, 1) := dk_9 (dk_at dksX2_mend_0 10 rfl rfl)
theorem dX2_mend_11 : decode cX2_mend 11 = .ok (.ldc2_w 135, 3) := dk_20 0 135 (dk_at dksX2_mend_0 11 rfl rfl)
theorem dX2_mend_14 : decode cX2_mend 14 = .ok (.invokestatic 105, 3) := dk_184 0 105 (dk_at dksX2_mend_0 14 rfl rfl)
theorem dX2_mend_17 : decode cX2_mend 17 = .ok (.ifCond .eq 39, 3) := dk_153 0 39 (dk_at dksX2_mend_0 17 rfl rfl)
theorem dX2_mend_20 : decode cX2_mend 20 = .ok (.iload_n 3, 1) := dk_29 (dk_at dksX2_mend_0 20 rfl rfl)
theorem dX2_mend_21 : decode cX2_mend 21 = .ok (.i2l, 1) := dk_133 (dk_at dksX2_mend_0 21 rfl rfl)
theorem dX2_mend_22 : decode cX2_mend 22 = .ok (.lconst 0, 1) := dk_9 (dk_at dksX2_mend_0 22 rfl rfl)
theorem dX2_mend_23 : decode cX2_mend 23 = .ok (.iload_n 2, 1) := dk_28 (dk_at dksX2_mend_0 23 rfl rfl)
theorem dX2_mend_24 : decode cX2_mend 24 = .ok (.ifCond .ne 9, 3) := dk_154 0 9 (dk_at dksX2_mend_1 0 rfl rfl)
theorem dX2_mend_27 : decode cX2_mend 27 = .ok (.ldc2_w 114, 3) := dk_20 0 114 (dk_at dksX2_mend_1 3 rfl rfl)
theorem dX2_mend_30 : decode cX2_mend 30 = .ok (.goto 6, 3) := dk_167 0 6 (dk_at dksX2_mend_1 6 rfl rfl)
theorem dX2_mend_33 : decode cX2_mend 33 = .ok (.ldc2_w 112, 3) := dk_20 0 112 (dk_at dksX2_mend_1 9 rfl rfl)
theorem dX2_mend_36 : decode cX2_mend 36 = .ok (.invokestatic 105, 3) := dk_184 0 105 (dk_at dksX2_mend_1 12 rfl rfl)
theorem dX2_mend_39 : decode cX2_mend 39 = .ok (.ifCond .eq 17, 3) := dk_153 0 17 (dk_at dksX2_mend_1 15 rfl rfl)
theorem dX2_mend_42 : decode cX2_mend 42 = .ok (.aload_n 0, 1) := dk_42 (dk_at dksX2_mend_1 18 rfl rfl)
theorem dX2_mend_43 : decode cX2_mend 43 = .ok (.bipush 6, 2) := dk_16 6 (dk_at dksX2_mend_1 19 rfl rfl)
theorem dX2_mend_45 : decode cX2_mend 45 = .ok (.iload_n 2, 1) := dk_28 (dk_at dksX2_mend_1 21 rfl rfl)
theorem dX2_mend_46 : decode cX2_mend 46 = .ok (.imul, 1) := dk_104 (dk_at dksX2_mend_1 22 rfl rfl)
theorem dX2_mend_47 : decode cX2_mend 47 = .ok (.iload_n 1, 1) := dk_27 (dk_at dksX2_mend_1 23 rfl rfl)
theorem dX2_mend_48 : decode cX2_mend 48 = .ok (.iadd, 1) := dk_96 (dk_at dksX2_mend_2 0 rfl rfl)
theorem dX2_mend_49 : decode cX2_mend 49 = .ok (.iload_n 3, 1) := dk_29 (dk_at dksX2_mend_2 1 rfl rfl)
theorem dX2_mend_50 : decode cX2_mend 50 = .ok (.invokevirtual 137, 3) := dk_182 0 137 (dk_at dksX2_mend_2 2 rfl rfl)
theorem dX2_mend_53 : decode cX2_mend 53 = .ok (.goto 4, 3) := dk_167 0 4 (dk_at dksX2_mend_2 5 rfl rfl)
theorem dX2_mend_56 : decode cX2_mend 56 = .ok (.iconst (-1), 1) := dk_2 (dk_at dksX2_mend_2 8 rfl rfl)
theorem dX2_mend_57 : decode cX2_mend 57 = .ok (.ireturn, 1) := dk_172 (dk_at dksX2_mend_2 9 rfl rfl)
abbrev cX2_isThing : ByteArray := prog_32_method_7_code
def yX2_isThing : MethodName := ⟨RX2, "isThing", "(I)Z"⟩
def dkwX2_isThing_0 : List UInt8 := [27, 133, 9, 42, 180, 0, 102, 4, 100, 133, 184, 0, 105, 172]
abbrev dktX2_isThing_0 : List UInt8 := dkwX2_isThing_0 ++ []
theorem dksX2_isThing_0 : cX2_isThing.data.toList.drop 0 = dktX2_isThing_0 := by decide +kernel
theorem dX2_isThing_0 : decode cX2_isThing 0 = .ok (.iload_n 1, 1) := dk_27 (dk_at dksX2_isThing_0 0 rfl rfl)
theorem dX2_isThing_1 : decode cX2_isThing 1 = .ok (.i2l, 1) := dk_133 (dk_at dksX2_isThing_0 1 rfl rfl)
theorem dX2_isThing_2 : decode cX2_isThing 2 = .ok (.lconst 0, 1) := dk_9 (dk_at dksX2_isThing_0 2 rfl rfl)
theorem dX2_isThing_3 : decode cX2_isThing 3 = .ok (.aload_n 0, 1) := dk_42 (dk_at dksX2_isThing_0 3 rfl rfl)
theorem dX2_isThing_4 : decode cX2_isThing 4 = .ok (.getfield 102, 3) := dk_180 0 102 (dk_at dksX2_isThing_0 4 rfl rfl)
theorem dX2_isThing_7 : decode cX2_isThing 7 = .ok (.iconst 1, 1) := dk_4 (dk_at dksX2_isThing_0 7 rfl rfl)
theorem dX2_isThing_8 : decode cX2_isThing 8 = .ok (.isub, 1) := dk_100 (dk_at dksX2_isThing_0 8 rfl rfl)
theorem dX2_isThing_9 : decode cX2_isThing 9 = .ok (.i2l, 1) := dk_133 (dk_at dksX2_isThing_0 9 rfl rfl)
theorem dX2_isThing_10 : decode cX2_isThing 10 = .ok (.invokestatic 105, 3) := dk_184 0 105 (dk_at dksX2_isThing_0 10 rfl rfl)
theorem dX2_isThing_13 : decode cX2_isThing 13 = .ok (.ireturn, 1) := dk_172 (dk_at dksX2_isThing_0 13 rfl rfl)
abbrev cX2_becomes : ByteArray := prog_32_method_4_code
def yX2_becomes : MethodName := ⟨RX2, "becomes", "(II)I"⟩
def dkwX2_becomes_6 : List UInt8 := [181, 0, 99, 42, 180, 0, 9, 27, 28, 79, 29, 172]
abbrev dktX2_becomes_6 : List UInt8 := dkwX2_becomes_6 ++ []
def dkwX2_becomes_5 : List UInt8 := [180, 0, 19, 42, 180, 0, 96, 28, 79, 42, 89, 180, 0, 96, 4, 96, 181, 0, 96, 42, 42, 180, 0, 96]
abbrev dktX2_becomes_5 : List UInt8 := dkwX2_becomes_5 ++ dktX2_becomes_6
def dkwX2_becomes_4 : List UInt8 := [181, 0, 96, 42, 180, 0, 13, 42, 180, 0, 96, 27, 79, 42, 180, 0, 16, 42, 180, 0, 96, 29, 79, 42]
abbrev dktX2_becomes_4 : List UInt8 := dkwX2_becomes_4 ++ dktX2_becomes_5
def dkwX2_becomes_3 : List UInt8 := [100, 42, 180, 0, 19, 21, 4, 46, 79, 132, 4, 1, 167, 255, 198, 42, 89, 180, 0, 96, 4, 100]
abbrev dktX2_becomes_3 : List UInt8 := dkwX2_becomes_3 ++ dktX2_becomes_4
def dkwX2_becomes_2 : List UInt8 := [79, 42, 180, 0, 16, 21, 4, 4, 100, 42, 180, 0, 16, 21, 4, 46, 79, 42, 180, 0, 19, 21, 4, 4]
abbrev dktX2_becomes_2 : List UInt8 := dkwX2_becomes_2 ++ dktX2_becomes_3
def dkwX2_becomes_1 : List UInt8 := [54, 4, 21, 4, 16, 40, 162, 0, 57, 42, 180, 0, 13, 21, 4, 4, 100, 42, 180, 0, 13, 21, 4, 46]
abbrev dktX2_becomes_1 : List UInt8 := dkwX2_becomes_1 ++ dktX2_becomes_2
def dkwX2_becomes_0 : List UInt8 := [42, 180, 0, 9, 27, 46, 62, 29, 28, 160, 0, 5, 29, 172, 42, 180, 0, 96, 16, 40, 160, 0, 77, 4]
abbrev dktX2_becomes_0 : List UInt8 := dkwX2_becomes_0 ++ dktX2_becomes_1
theorem dksX2_becomes_0 : cX2_becomes.data.toList.drop 0 = dktX2_becomes_0 := by decide +kernel
theorem dksX2_becomes_1 : cX2_becomes.data.toList.drop 24 = dktX2_becomes_1 := dk_seg dksX2_becomes_0 24 rfl rfl
theorem dksX2_becomes_2 : cX2_becomes.data.toList.drop 48 = dktX2_becomes_2 := dk_seg dksX2_becomes_1 24 rfl rfl
theorem dksX2_becomes_3 : cX2_becomes.data.toList.drop 72 = dktX2_becomes_3 := dk_seg dksX2_becomes_2 24 rfl rfl
theorem dksX2_becomes_4 : cX2_becomes.data.toList.drop 94 = dktX2_becomes_4 := dk_seg dksX2_becomes_3 22 rfl rfl
theorem dksX2_becomes_5 : cX2_becomes.data.toList.drop 118 = dktX2_becomes_5 := dk_seg dksX2_becomes_4 24 rfl rfl
theorem dksX2_becomes_6 : cX2_becomes.data.toList.drop 142 = dktX2_becomes_6 := dk_seg dksX2_becomes_5 24 rfl rfl
theorem dX2_becomes_0 : decode cX2_becomes 0 = .ok (.aload_n 0, 1) := dk_42 (dk_at dksX2_becomes_0 0 rfl rfl)
theorem dX2_becomes_1 : decode cX2_becomes 1 = .ok (.getfield 9, 3) := dk_180 0 9 (dk_at dksX2_becomes_0 1 rfl rfl)
theorem dX2_becomes_4 : decode cX2_becomes 4 = .ok (.iload_n 1, 1) := dk_27 (dk_at dksX2_becomes_0 4 rfl rfl)
theorem dX2_becomes_5 : decode cX2_becomes 5 = .ok (.iaload, 1) := dk_46 (dk_at dksX2_becomes_0 5 rfl rfl)
theorem dX2_becomes_6 : decode cX2_becomes 6 = .ok (.istore_n 3, 1) := dk_62 (dk_at dksX2_becomes_0 6 rfl rfl)
theorem dX2_becomes_7 : decode cX2_becomes 7 = .ok (.iload_n 3, 1) := dk_29 (dk_at dksX2_becomes_0 7 rfl rfl)
theorem dX2_becomes_8 : decode cX2_becomes 8 = .ok (.iload_n 2, 1) := dk_28 (dk_at dksX2_becomes_0 8 rfl rfl)
theorem dX2_becomes_9 : decode cX2_becomes 9 = .ok (.if_icmp .ne 5, 3) := dk_160 0 5 (dk_at dksX2_becomes_0 9 rfl rfl)
theorem dX2_becomes_12 : decode cX2_becomes 12 = .ok (.iload_n 3, 1) := dk_29 (dk_at dksX2_becomes_0 12 rfl rfl)
theorem dX2_becomes_13 : decode cX2_becomes 13 = .ok (.ireturn, 1) := dk_172 (dk_at dksX2_becomes_0 13 rfl rfl)
theorem dX2_becomes_14 : decode cX2_becomes 14 = .ok (.aload_n 0, 1) := dk_42 (dk_at dksX2_becomes_0 14 rfl rfl)
theorem dX2_becomes_15 : decode cX2_becomes 15 = .ok (.getfield 96, 3) := dk_180 0 96 (dk_at dksX2_becomes_0 15 rfl rfl)
theorem dX2_becomes_18 : decode cX2_becomes 18 = .ok (.bipush 40, 2) := dk_16 40 (dk_at dksX2_becomes_0 18 rfl rfl)
theorem dX2_becomes_20 : decode cX2_becomes 20 = .ok (.if_icmp .ne 77, 3) := dk_160 0 77 (dk_at dksX2_becomes_0 20 rfl rfl)
theorem dX2_becomes_23 : decode cX2_becomes 23 = .ok (.iconst 1, 1) := dk_4 (dk_at dksX2_becomes_0 23 rfl rfl)
theorem dX2_becomes_24 : decode cX2_becomes 24 = .ok (.istore 4, 2) := dk_54 4 (dk_at dksX2_becomes_1 0 rfl rfl)
theorem dX2_becomes_26 : decode cX2_becomes 26 = .ok (.iload 4, 2) := dk_21 4 (dk_at dksX2_becomes_1 2 rfl rfl)
theorem dX2_becomes_28 : decode cX2_becomes 28 = .ok (.bipush 40, 2) := dk_16 40 (dk_at dksX2_becomes_1 4 rfl rfl)
theorem dX2_becomes_30 : decode cX2_becomes 30 = .ok (.if_icmp .ge 57, 3) := dk_162 0 57 (dk_at dksX2_becomes_1 6 rfl rfl)
theorem dX2_becomes_33 : decode cX2_becomes 33 = .ok (.aload_n 0, 1) := dk_42 (dk_at dksX2_becomes_1 9 rfl rfl)
theorem dX2_becomes_34 : decode cX2_becomes 34 = .ok (.getfield 13, 3) := dk_180 0 13 (dk_at dksX2_becomes_1 10 rfl rfl)
theorem dX2_becomes_37 : decode cX2_becomes 37 = .ok (.iload 4, 2) := dk_21 4 (dk_at dksX2_becomes_1 13 rfl rfl)
theorem dX2_becomes_39 : decode cX2_becomes 39 = .ok (.iconst 1, 1) := dk_4 (dk_at dksX2_becomes_1 15 rfl rfl)
theorem dX2_becomes_40 : decode cX2_becomes 40 = .ok (.isub, 1) := dk_100 (dk_at dksX2_becomes_1 16 rfl rfl)
theorem dX2_becomes_41 : decode cX2_becomes 41 = .ok (.aload_n 0, 1) := dk_42 (dk_at dksX2_becomes_1 17 rfl rfl)
theorem dX2_becomes_42 : decode cX2_becomes 42 = .ok (.getfield 13, 3) := dk_180 0 13 (dk_at dksX2_becomes_1 18 rfl rfl)
theorem dX2_becomes_45 : decode cX2_becomes 45 = .ok (.iload 4, 2) := dk_21 4 (dk_at dksX2_becomes_1 21 rfl rfl)
theorem dX2_becomes_47 : decode cX2_becomes 47 = .ok (.iaload, 1) := dk_46 (dk_at dksX2_becomes_1 23 rfl rfl)
theorem dX2_becomes_48 : decode cX2_becomes 48 = .ok (.iastore, 1) := dk_79 (dk_at dksX2_becomes_2 0 rfl rfl)
theorem dX2_becomes_49 : decode cX2_becomes 49 = .ok (.aload_n 0, 1) := dk_42 (dk_at dksX2_becomes_2 1 rfl rfl)
theorem dX2_becomes_50 : decode cX2_becomes 50 = .ok (.getfield 16, 3) := dk_180 0 16 (dk_at dksX2_becomes_2 2 rfl rfl)
theorem dX2_becomes_53 : decode cX2_becomes 53 = .ok (.iload 4, 2) := dk_21 4 (dk_at dksX2_becomes_2 5 rfl rfl)
theorem dX2_becomes_55 : decode cX2_becomes 55 = .ok (.iconst 1, 1) := dk_4 (dk_at dksX2_becomes_2 7 rfl rfl)
theorem dX2_becomes_56 : decode cX2_becomes 56 = .ok (.isub, 1) := dk_100 (dk_at dksX2_becomes_2 8 rfl rfl)
theorem dX2_becomes_57 : decode cX2_becomes 57 = .ok (.aload_n 0, 1) := dk_42 (dk_at dksX2_becomes_2 9 rfl rfl)
theorem dX2_becomes_58 : decode cX2_becomes 58 = .ok (.getfield 16, 3) := dk_180 0 16 (dk_at dksX2_becomes_2 10 rfl rfl)
theorem dX2_becomes_61 : decode cX2_becomes 61 = .ok (.iload 4, 2) := dk_21 4 (dk_at dksX2_becomes_2 13 rfl rfl)
theorem dX2_becomes_63 : decode cX2_becomes 63 = .ok (.iaload, 1) := dk_46 (dk_at dksX2_becomes_2 15 rfl rfl)
theorem dX2_becomes_64 : decode cX2_becomes 64 = .ok (.iastore, 1) := dk_79 (dk_at dksX2_becomes_2 16 rfl rfl)
theorem dX2_becomes_65 : decode cX2_becomes 65 = .ok (.aload_n 0, 1) := dk_42 (dk_at dksX2_becomes_2 17 rfl rfl)
theorem dX2_becomes_66 : decode cX2_becomes 66 = .ok (.getfield 19, 3) := dk_180 0 19 (dk_at dksX2_becomes_2 18 rfl rfl)
theorem dX2_becomes_69 : decode cX2_becomes 69 = .ok (.iload 4, 2) := dk_21 4 (dk_at dksX2_becomes_2 21 rfl rfl)
theorem dX2_becomes_71 : decode cX2_becomes 71 = .ok (.iconst 1, 1) := dk_4 (dk_at dksX2_becomes_2 23 rfl rfl)
theorem dX2_becomes_72 : decode cX2_becomes 72 = .ok (.isub, 1) := dk_100 (dk_at dksX2_becomes_3 0 rfl rfl)
theorem dX2_becomes_73 : decode cX2_becomes 73 = .ok (.aload_n 0, 1) := dk_42 (dk_at dksX2_becomes_3 1 rfl rfl)
theorem dX2_becomes_74 : decode cX2_becomes 74 = .ok (.getfield 19, 3) := dk_180 0 19 (dk_at dksX2_becomes_3 2 rfl rfl)
theorem dX2_becomes_77 : decode cX2_becomes 77 = .ok (.iload 4, 2) := dk_21 4 (dk_at dksX2_becomes_3 5 rfl rfl)
theorem dX2_becomes_79 : decode cX2_becomes 79 = .ok (.iaload, 1) := dk_46 (dk_at dksX2_becomes_3 7 rfl rfl)
theorem dX2_becomes_80 : decode cX2_becomes 80 = .ok (.iastore, 1) := dk_79 (dk_at dksX2_becomes_3 8 rfl rfl)
theorem dX2_becomes_81 : decode cX2_becomes 81 = .ok (.iinc 4 1, 3) := dk_132 4 1 (dk_at dksX2_becomes_3 9 rfl rfl)
theorem dX2_becomes_84 : decode cX2_becomes 84 = .ok (.goto (-58), 3) := dk_167 255 198 (dk_at dksX2_becomes_3 12 rfl rfl)
theorem dX2_becomes_87 : decode cX2_becomes 87 = .ok (.aload_n 0, 1) := dk_42 (dk_at dksX2_becomes_3 15 rfl rfl)
theorem dX2_becomes_88 : decode cX2_becomes 88 = .ok (.dup, 1) := dk_89 (dk_at dksX2_becomes_3 16 rfl rfl)
theorem dX2_becomes_89 : decode cX2_becomes 89 = .ok (.getfield 96, 3) := dk_180 0 96 (dk_at dksX2_becomes_3 17 rfl rfl)
theorem dX2_becomes_92 : decode cX2_becomes 92 = .ok (.iconst 1, 1) := dk_4 (dk_at dksX2_becomes_3 20 rfl rfl)
theorem dX2_becomes_93 : decode cX2_becomes 93 = .ok (.isub, 1) := dk_100 (dk_at dksX2_becomes_3 21 rfl rfl)
theorem dX2_becomes_94 : decode cX2_becomes 94 = .ok (.putfield 96, 3) := dk_181 0 96 (dk_at dksX2_becomes_4 0 rfl rfl)
theorem dX2_becomes_97 : decode cX2_becomes 97 = .ok (.aload_n 0, 1) := dk_42 (dk_at dksX2_becomes_4 3 rfl rfl)
theorem dX2_becomes_98 : decode cX2_becomes 98 = .ok (.getfield 13, 3) := dk_180 0 13 (dk_at dksX2_becomes_4 4 rfl rfl)
theorem dX2_becomes_101 : decode cX2_becomes 101 = .ok (.aload_n 0, 1) := dk_42 (dk_at dksX2_becomes_4 7 rfl rfl)
theorem dX2_becomes_102 : decode cX2_becomes 102 = .ok (.getfield 96, 3) := dk_180 0 96 (dk_at dksX2_becomes_4 8 rfl rfl)
theorem dX2_becomes_105 : decode cX2_becomes 105 = .ok (.iload_n 1, 1) := dk_27 (dk_at dksX2_becomes_4 11 rfl rfl)
theorem dX2_becomes_106 : decode cX2_becomes 106 = .ok (.iastore, 1) := dk_79 (dk_at dksX2_becomes_4 12 rfl rfl)
theorem dX2_becomes_107 : decode cX2_becomes 107 = .ok (.aload_n 0, 1) := dk_42 (dk_at dksX2_becomes_4 13 rfl rfl)
theorem dX2_becomes_108 : decode cX2_becomes 108 = .ok (.getfield 16, 3) := dk_180 0 16 (dk_at dksX2_becomes_4 14 rfl rfl)
theorem dX2_becomes_111 : decode cX2_becomes 111 = .ok (.aload_n 0, 1) := dk_42 (dk_at dksX2_becomes_4 17 rfl rfl)
theorem dX2_becomes_112 : decode cX2_becomes 112 = .ok (.getfield 96, 3) := dk_180 0 96 (dk_at dksX2_becomes_4 18 rfl rfl)
theorem dX2_becomes_115 : decode cX2_becomes 115 = .ok (.iload_n 3, 1) := dk_29 (dk_at dksX2_becomes_4 21 rfl rfl)
theorem dX2_becomes_116 : decode cX2_becomes 116 = .ok (.iastore, 1) := dk_79 (dk_at dksX2_becomes_4 22 rfl rfl)
theorem dX2_becomes_117 : decode cX2_becomes 117 = .ok (.aload_n 0, 1) := dk_42 (dk_at dksX2_becomes_4 23 rfl rfl)
theorem dX2_becomes_118 : decode cX2_becomes 118 = .ok (.getfield 19, 3) := dk_180 0 19 (dk_at dksX2_becomes_5 0 rfl rfl)
theorem dX2_becomes_121 : decode cX2_becomes 121 = .ok (.aload_n 0, 1) := dk_42 (dk_at dksX2_becomes_5 3 rfl rfl)
theorem dX2_becomes_122 : decode cX2_becomes 122 = .ok (.getfield 96, 3) := dk_180 0 96 (dk_at dksX2_becomes_5 4 rfl rfl)
theorem dX2_becomes_125 : decode cX2_becomes 125 = .ok (.iload_n 2, 1) := dk_28 (dk_at dksX2_becomes_5 7 rfl rfl)
theorem dX2_becomes_126 : decode cX2_becomes 126 = .ok (.iastore, 1) := dk_79 (dk_at dksX2_becomes_5 8 rfl rfl)
theorem dX2_becomes_127 : decode cX2_becomes 127 = .ok (.aload_n 0, 1) := dk_42 (dk_at dksX2_becomes_5 9 rfl rfl)
theorem dX2_becomes_128 : decode cX2_becomes 128 = .ok (.dup, 1) := dk_89 (dk_at dksX2_becomes_5 10 rfl rfl)
theorem dX2_becomes_129 : decode cX2_becomes 129 = .ok (.getfield 96, 3) := dk_180 0 96 (dk_at dksX2_becomes_5 11 rfl rfl)
theorem dX2_becomes_132 : decode cX2_becomes 132 = .ok (.iconst 1, 1) := dk_4 (dk_at dksX2_becomes_5 14 rfl rfl)
theorem dX2_becomes_133 : decode cX2_becomes 133 = .ok (.iadd, 1) := dk_96 (dk_at dksX2_becomes_5 15 rfl rfl)
theorem dX2_becomes_134 : decode cX2_becomes 134 = .ok (.putfield 96, 3) := dk_181 0 96 (dk_at dksX2_becomes_5 16 rfl rfl)
theorem dX2_becomes_137 : decode cX2_becomes 137 = .ok (.aload_n 0, 1) := dk_42 (dk_at dksX2_becomes_5 19 rfl rfl)
theorem dX2_becomes_138 : decode cX2_becomes 138 = .ok (.aload_n 0, 1) := dk_42 (dk_at dksX2_becomes_5 20 rfl rfl)
theorem dX2_becomes_139 : decode cX2_becomes 139 = .ok (.getfield 96, 3) := dk_180 0 96 (dk_at dksX2_becomes_5 21 rfl rfl)
theorem dX2_becomes_142 : decode cX2_becomes 142 = .ok (.putfield 99, 3) := dk_181 0 99 (dk_at dksX2_becomes_6 0 rfl rfl)
theorem dX2_becomes_145 : decode cX2_becomes 145 = .ok (.aload_n 0, 1) := dk_42 (dk_at dksX2_becomes_6 3 rfl rfl)
theorem dX2_becomes_146 : decode cX2_becomes 146 = .ok (.getfield 9, 3) := dk_180 0 9 (dk_at dksX2_becomes_6 4 rfl rfl)
theorem dX2_becomes_149 : decode cX2_becomes 149 = .ok (.iload_n 1, 1) := dk_27 (dk_at dksX2_becomes_6 7 rfl rfl)
theorem dX2_becomes_150 : decode cX2_becomes 150 = .ok (.iload_n 2, 1) := dk_28 (dk_at dksX2_becomes_6 8 rfl rfl)
theorem dX2_becomes_151 : decode cX2_becomes 151 = .ok (.iastore, 1) := dk_79 (dk_at dksX2_becomes_6 9 rfl rfl)
theorem dX2_becomes_152 : decode cX2_becomes 152 = .ok (.iload_n 3, 1) := dk_29 (dk_at dksX2_becomes_6 10 rfl rfl)
theorem dX2_becomes_153 : decode cX2_becomes 153 = .ok (.ireturn, 1) := dk_172 (dk_at dksX2_becomes_6 11 rfl rfl)
abbrev cX2_sort : ByteArray := prog_32_method_14_code
def yX2_sort : MethodName := ⟨RX2, "sort", "(III)I"⟩
def dkwX2_sort_6 : List UInt8 := [180, 0, 109, 4, 96, 181, 0, 109, 42, 180, 0, 109, 4, 100, 172]
abbrev dktX2_sort_6 : List UInt8 := dkwX2_sort_6 ++ []
def dkwX2_sort_5 : List UInt8 := [180, 0, 31, 42, 180, 0, 109, 29, 16, 10, 112, 79, 42, 180, 0, 34, 42, 180, 0, 109, 3, 79, 42, 89]
abbrev dktX2_sort_5 : List UInt8 := dkwX2_sort_5 ++ dktX2_sort_6
def dkwX2_sort_4 : List UInt8 := [180, 0, 109, 96, 28, 16, 100, 112, 79, 42, 180, 0, 28, 42, 180, 0, 109, 29, 16, 10, 108, 79, 42]
abbrev dktX2_sort_4 : List UInt8 := dkwX2_sort_4 ++ dktX2_sort_5
def dkwX2_sort_3 : List UInt8 := [180, 0, 9, 16, 18, 42, 180, 0, 109, 96, 28, 16, 100, 108, 79, 42, 180, 0, 9, 16, 23, 42]
abbrev dktX2_sort_3 : List UInt8 := dkwX2_sort_3 ++ dktX2_sort_4
def dkwX2_sort_2 : List UInt8 := [172, 42, 180, 0, 109, 8, 160, 0, 6, 16, 253, 172, 42, 180, 0, 25, 42, 180, 0, 109, 27, 79, 42]
abbrev dktX2_sort_2 : List UInt8 := dkwX2_sort_2 ++ dktX2_sort_3
def dkwX2_sort_1 : List UInt8 := [29, 155, 0, 22, 29, 16, 10, 108, 6, 163, 0, 14, 29, 16, 10, 112, 42, 180, 0, 141, 161, 0, 5, 2]
abbrev dktX2_sort_1 : List UInt8 := dkwX2_sort_1 ++ dktX2_sort_2
def dkwX2_sort_0 : List UInt8 := [27, 133, 10, 20, 0, 112, 184, 0, 105, 153, 0, 38, 28, 133, 9, 20, 0, 116, 184, 0, 105, 153, 0, 26]
abbrev dktX2_sort_0 : List UInt8 := dkwX2_sort_0 ++ dktX2_sort_1
theorem dksX2_sort_0 : cX2_sort.data.toList.drop 0 = dktX2_sort_0 := by decide +kernel
theorem dksX2_sort_1 : cX2_sort.data.toList.drop 24 = dktX2_sort_1 := dk_seg dksX2_sort_0 24 rfl rfl
theorem dksX2_sort_2 : cX2_sort.data.toList.drop 48 = dktX2_sort_2 := dk_seg dksX2_sort_1 24 rfl rfl
theorem dksX2_sort_3 : cX2_sort.data.toList.drop 71 = dktX2_sort_3 := dk_seg dksX2_sort_2 23 rfl rfl
theorem dksX2_sort_4 : cX2_sort.data.toList.drop 93 = dktX2_sort_4 := dk_seg dksX2_sort_3 22 rfl rfl
theorem dksX2_sort_5 : cX2_sort.data.toList.drop 116 = dktX2_sort_5 := dk_seg dksX2_sort_4 23 rfl rfl
theorem dksX2_sort_6 : cX2_sort.data.toList.drop 140 = dktX2_sort_6 := dk_seg dksX2_sort_5 24 rfl rfl
theorem dX2_sort_0 : decode cX2_sort 0 = .ok (.iload_n 1, 1) := dk_27 (dk_at dksX2_sort_0 0 rfl rfl)
theorem dX2_sort_1 : decode cX2_sort 1 = .ok (.i2l, 1) := dk_133 (dk_at dksX2_sort_0 1 rfl rfl)
theorem dX2_sort_2 : decode cX2_sort 2 = .ok (.lconst 1, 1) := dk_10 (dk_at dksX2_sort_0 2 rfl rfl)
theorem dX2_sort_3 : decode cX2_sort 3 = .ok (.ldc2_w 112, 3) := dk_20 0 112 (dk_at dksX2_sort_0 3 rfl rfl)
theorem dX2_sort_6 : decode cX2_sort 6 = .ok (.invokestatic 105, 3) := dk_184 0 105 (dk_at dksX2_sort_0 6 rfl rfl)
theorem dX2_sort_9 : decode cX2_sort 9 = .ok (.ifCond .eq 38, 3) := dk_153 0 38 (dk_at dksX2_sort_0 9 rfl rfl)
theorem dX2_sort_12 : decode cX2_sort 12 = .ok (.iload_n 2, 1) := dk_28 (dk_at dksX2_sort_0 12 rfl rfl)
theorem dX2_sort_13 : decode cX2_sort 13 = .ok (.i2l, 1) := dk_133 (dk_at dksX2_sort_0 13 rfl rfl)
theorem dX2_sort_14 : decode cX2_sort 14 = .ok (.lconst 0, 1) := dk_9 (dk_at dksX2_sort_0 14 rfl rfl)
theorem dX2_sort_15 : decode cX2_sort 15 = .ok (.ldc2_w 116, 3) := dk_20 0 116 (dk_at dksX2_sort_0 15 rfl rfl)
theorem dX2_sort_18 : decode cX2_sort 18 = .ok (.invokestatic 105, 3) := dk_184 0 105 (dk_at dksX2_sort_0 18 rfl rfl)
theorem dX2_sort_21 : decode cX2_sort 21 = .ok (.ifCond .eq 26, 3) := dk_153 0 26 (dk_at dksX2_sort_0 21 rfl rfl)
theorem dX2_sort_24 : decode cX2_sort 24 = .ok (.iload_n 3, 1) := dk_29 (dk_at dksX2_sort_1 0 rfl rfl)
theorem dX2_sort_25 : decode cX2_sort 25 = .ok (.ifCond .lt 22, 3) := dk_155 0 22 (dk_at dksX2_sort_1 1 rfl rfl)
theorem dX2_sort_28 : decode cX2_sort 28 = .ok (.iload_n 3, 1) := dk_29 (dk_at dksX2_sort_1 4 rfl rfl)
theorem dX2_sort_29 : decode cX2_sort 29 = .ok (.bipush 10, 2) := dk_16 10 (dk_at dksX2_sort_1 5 rfl rfl)
theorem dX2_sort_31 : decode cX2_sort 31 = .ok (.idiv, 1) := dk_108 (dk_at dksX2_sort_1 7 rfl rfl)
theorem dX2_sort_32 : decode cX2_sort 32 = .ok (.iconst 3, 1) := dk_6 (dk_at dksX2_sort_1 8 rfl rfl)
theorem dX2_sort_33 : decode cX2_sort 33 = .ok (.if_icmp .gt 14, 3) := dk_163 0 14 (dk_at dksX2_sort_1 9 rfl rfl)
theorem dX2_sort_36 : decode cX2_sort 36 = .ok (.iload_n 3, 1) := dk_29 (dk_at dksX2_sort_1 12 rfl rfl)
theorem dX2_sort_37 : decode cX2_sort 37 = .ok (.bipush 10, 2) := dk_16 10 (dk_at dksX2_sort_1 13 rfl rfl)
theorem dX2_sort_39 : decode cX2_sort 39 = .ok (.irem, 1) := dk_112 (dk_at dksX2_sort_1 15 rfl rfl)
theorem dX2_sort_40 : decode cX2_sort 40 = .ok (.aload_n 0, 1) := dk_42 (dk_at dksX2_sort_1 16 rfl rfl)
theorem dX2_sort_41 : decode cX2_sort 41 = .ok (.getfield 141, 3) := dk_180 0 141 (dk_at dksX2_sort_1 17 rfl rfl)
theorem dX2_sort_44 : decode cX2_sort 44 = .ok (.if_icmp .lt 5, 3) := dk_161 0 5 (dk_at dksX2_sort_1 20 rfl rfl)
theorem dX2_sort_47 : decode cX2_sort 47 = .ok (.iconst (-1), 1) := dk_2 (dk_at dksX2_sort_1 23 rfl rfl)
theorem dX2_sort_48 : decode cX2_sort 48 = .ok (.ireturn, 1) := dk_172 (dk_at dksX2_sort_2 0 rfl rfl)
theorem dX2_sort_49 : decode cX2_sort 49 = .ok (.aload_n 0, 1) := dk_42 (dk_at dksX2_sort_2 1 rfl rfl)
theorem dX2_sort_50 : decode cX2_sort 50 = .ok (.getfield 109, 3) := dk_180 0 109 (dk_at dksX2_sort_2 2 rfl rfl)
theorem dX2_sort_53 : decode cX2_sort 53 = .ok (.iconst 5, 1) := dk_8 (dk_at dksX2_sort_2 5 rfl rfl)
theorem dX2_sort_54 : decode cX2_sort 54 = .ok (.if_icmp .ne 6, 3) := dk_160 0 6 (dk_at dksX2_sort_2 6 rfl rfl)
theorem dX2_sort_57 : decode cX2_sort 57 = .ok (.bipush (-3), 2) := dk_16 253 (dk_at dksX2_sort_2 9 rfl rfl)
theorem dX2_sort_59 : decode cX2_sort 59 = .ok (.ireturn, 1) := dk_172 (dk_at dksX2_sort_2 11 rfl rfl)
theorem dX2_sort_60 : decode cX2_sort 60 = .ok (.aload_n 0, 1) := dk_42 (dk_at dksX2_sort_2 12 rfl rfl)
theorem dX2_sort_61 : decode cX2_sort 61 = .ok (.getfield 25, 3) := dk_180 0 25 (dk_at dksX2_sort_2 13 rfl rfl)
theorem dX2_sort_64 : decode cX2_sort 64 = .ok (.aload_n 0, 1) := dk_42 (dk_at dksX2_sort_2 16 rfl rfl)
theorem dX2_sort_65 : decode cX2_sort 65 = .ok (.getfield 109, 3) := dk_180 0 109 (dk_at dksX2_sort_2 17 rfl rfl)
theorem dX2_sort_68 : decode cX2_sort 68 = .ok (.iload_n 1, 1) := dk_27 (dk_at dksX2_sort_2 20 rfl rfl)
theorem dX2_sort_69 : decode cX2_sort 69 = .ok (.iastore, 1) := dk_79 (dk_at dksX2_sort_2 21 rfl rfl)
theorem dX2_sort_70 : decode cX2_sort 70 = .ok (.aload_n 0, 1) := dk_42 (dk_at dksX2_sort_2 22 rfl rfl)
theorem dX2_sort_71 : decode cX2_sort 71 = .ok (.getfield 9, 3) := dk_180 0 9 (dk_at dksX2_sort_3 0 rfl rfl)
theorem dX2_sort_74 : decode cX2_sort 74 = .ok (.bipush 18, 2) := dk_16 18 (dk_at dksX2_sort_3 3 rfl rfl)
theorem dX2_sort_76 : decode cX2_sort 76 = .ok (.aload_n 0, 1) := dk_42 (dk_at dksX2_sort_3 5 rfl rfl)
theorem dX2_sort_77 : decode cX2_sort 77 = .ok (.getfield 109, 3) := dk_180 0 109 (dk_at dksX2_sort_3 6 rfl rfl)
theorem dX2_sort_80 : decode cX2_sort 80 = .ok (.iadd, 1) := dk_96 (dk_at dksX2_sort_3 9 rfl rfl)
theorem dX2_sort_81 : decode cX2_sort 81 = .ok (.iload_n 2, 1) := dk_28 (dk_at dksX2_sort_3 10 rfl rfl)
theorem dX2_sort_82 : decode cX2_sort 82 = .ok (.bipush 100, 2) := dk_16 100 (dk_at dksX2_sort_3 11 rfl rfl)
theorem dX2_sort_84 : decode cX2_sort 84 = .ok (.idiv, 1) := dk_108 (dk_at dksX2_sort_3 13 rfl rfl)
theorem dX2_sort_85 : decode cX2_sort 85 = .ok (.iastore, 1) := dk_79 (dk_at dksX2_sort_3 14 rfl rfl)
theorem dX2_sort_86 : decode cX2_sort 86 = .ok (.aload_n 0, 1) := dk_42 (dk_at dksX2_sort_3 15 rfl rfl)
theorem dX2_sort_87 : decode cX2_sort 87 = .ok (.getfield 9, 3) := dk_180 0 9 (dk_at dksX2_sort_3 16 rfl rfl)
theorem dX2_sort_90 : decode cX2_sort 90 = .ok (.bipush 23, 2) := dk_16 23 (dk_at dksX2_sort_3 19 rfl rfl)
theorem dX2_sort_92 : decode cX2_sort 92 = .ok (.aload_n 0, 1) := dk_42 (dk_at dksX2_sort_3 21 rfl rfl)
theorem dX2_sort_93 : decode cX2_sort 93 = .ok (.getfield 109, 3) := dk_180 0 109 (dk_at dksX2_sort_4 0 rfl rfl)
theorem dX2_sort_96 : decode cX2_sort 96 = .ok (.iadd, 1) := dk_96 (dk_at dksX2_sort_4 3 rfl rfl)
theorem dX2_sort_97 : decode cX2_sort 97 = .ok (.iload_n 2, 1) := dk_28 (dk_at dksX2_sort_4 4 rfl rfl)
theorem dX2_sort_98 : decode cX2_sort 98 = .ok (.bipush 100, 2) := dk_16 100 (dk_at dksX2_sort_4 5 rfl rfl)
theorem dX2_sort_100 : decode cX2_sort 100 = .ok (.irem, 1) := dk_112 (dk_at dksX2_sort_4 7 rfl rfl)
theorem dX2_sort_101 : decode cX2_sort 101 = .ok (.iastore, 1) := dk_79 (dk_at dksX2_sort_4 8 rfl rfl)
theorem dX2_sort_102 : decode cX2_sort 102 = .ok (.aload_n 0, 1) := dk_42 (dk_at dksX2_sort_4 9 rfl rfl)
theorem dX2_sort_103 : decode cX2_sort 103 = .ok (.getfield 28, 3) := dk_180 0 28 (dk_at dksX2_sort_4 10 rfl rfl)
theorem dX2_sort_106 : decode cX2_sort 106 = .ok (.aload_n 0, 1) := dk_42 (dk_at dksX2_sort_4 13 rfl rfl)
theorem dX2_sort_107 : decode cX2_sort 107 = .ok (.getfield 109, 3) := dk_180 0 109 (dk_at dksX2_sort_4 14 rfl rfl)
theorem dX2_sort_110 : decode cX2_sort 110 = .ok (.iload_n 3, 1) := dk_29 (dk_at dksX2_sort_4 17 rfl rfl)
theorem dX2_sort_111 : decode cX2_sort 111 = .ok (.bipush 10, 2) := dk_16 10 (dk_at dksX2_sort_4 18 rfl rfl)
theorem dX2_sort_113 : decode cX2_sort 113 = .ok (.idiv, 1) := dk_108 (dk_at dksX2_sort_4 20 rfl rfl)
theorem dX2_sort_114 : decode cX2_sort 114 = .ok (.iastore, 1) := dk_79 (dk_at dksX2_sort_4 21 rfl rfl)
theorem dX2_sort_115 : decode cX2_sort 115 = .ok (.aload_n 0, 1) := dk_42 (dk_at dksX2_sort_4 22 rfl rfl)
theorem dX2_sort_116 : decode cX2_sort 116 = .ok (.getfield 31, 3) := dk_180 0 31 (dk_at dksX2_sort_5 0 rfl rfl)
theorem dX2_sort_119 : decode cX2_sort 119 = .ok (.aload_n 0, 1) := dk_42 (dk_at dksX2_sort_5 3 rfl rfl)
theorem dX2_sort_120 : decode cX2_sort 120 = .ok (.getfield 109, 3) := dk_180 0 109 (dk_at dksX2_sort_5 4 rfl rfl)
theorem dX2_sort_123 : decode cX2_sort 123 = .ok (.iload_n 3, 1) := dk_29 (dk_at dksX2_sort_5 7 rfl rfl)
theorem dX2_sort_124 : decode cX2_sort 124 = .ok (.bipush 10, 2) := dk_16 10 (dk_at dksX2_sort_5 8 rfl rfl)
theorem dX2_sort_126 : decode cX2_sort 126 = .ok (.irem, 1) := dk_112 (dk_at dksX2_sort_5 10 rfl rfl)
theorem dX2_sort_127 : decode cX2_sort 127 = .ok (.iastore, 1) := dk_79 (dk_at dksX2_sort_5 11 rfl rfl)
theorem dX2_sort_128 : decode cX2_sort 128 = .ok (.aload_n 0, 1) := dk_42 (dk_at dksX2_sort_5 12 rfl rfl)
theorem dX2_sort_129 : decode cX2_sort 129 = .ok (.getfield 34, 3) := dk_180 0 34 (dk_at dksX2_sort_5 13 rfl rfl)
theorem dX2_sort_132 : decode cX2_sort 132 = .ok (.aload_n 0, 1) := dk_42 (dk_at dksX2_sort_5 16 rfl rfl)
theorem dX2_sort_133 : decode cX2_sort 133 = .ok (.getfield 109, 3) := dk_180 0 109 (dk_at dksX2_sort_5 17 rfl rfl)
theorem dX2_sort_136 : decode cX2_sort 136 = .ok (.iconst 0, 1) := dk_3 (dk_at dksX2_sort_5 20 rfl rfl)
theorem dX2_sort_137 : decode cX2_sort 137 = .ok (.iastore, 1) := dk_79 (dk_at dksX2_sort_5 21 rfl rfl)
theorem dX2_sort_138 : decode cX2_sort 138 = .ok (.aload_n 0, 1) := dk_42 (dk_at dksX2_sort_5 22 rfl rfl)
theorem dX2_sort_139 : decode cX2_sort 139 = .ok (.dup, 1) := dk_89 (dk_at dksX2_sort_5 23 rfl rfl)
theorem dX2_sort_140 : decode cX2_sort 140 = .ok (.getfield 109, 3) := dk_180 0 109 (dk_at dksX2_sort_6 0 rfl rfl)
theorem dX2_sort_143 : decode cX2_sort 143 = .ok (.iconst 1, 1) := dk_4 (dk_at dksX2_sort_6 3 rfl rfl)
theorem dX2_sort_144 : decode cX2_sort 144 = .ok (.iadd, 1) := dk_96 (dk_at dksX2_sort_6 4 rfl rfl)
theorem dX2_sort_145 : decode cX2_sort 145 = .ok (.putfield 109, 3) := dk_181 0 109 (dk_at dksX2_sort_6 5 rfl rfl)
theorem dX2_sort_148 : decode cX2_sort 148 = .ok (.aload_n 0, 1) := dk_42 (dk_at dksX2_sort_6 8 rfl rfl)
theorem dX2_sort_149 : decode cX2_sort 149 = .ok (.getfield 109, 3) := dk_180 0 109 (dk_at dksX2_sort_6 9 rfl rfl)
theorem dX2_sort_152 : decode cX2_sort 152 = .ok (.iconst 1, 1) := dk_4 (dk_at dksX2_sort_6 12 rfl rfl)
theorem dX2_sort_153 : decode cX2_sort 153 = .ok (.isub, 1) := dk_100 (dk_at dksX2_sort_6 13 rfl rfl)
theorem dX2_sort_154 : decode cX2_sort 154 = .ok (.ireturn, 1) := dk_172 (dk_at dksX2_sort_6 14 rfl rfl)
abbrev cX2_purse : ByteArray := prog_32_method_15_code
def yX2_purse : MethodName := ⟨RX2, "purse", "(III)I"⟩
def dkwX2_purse_2 : List UInt8 := [2, 172]
abbrev dktX2_purse_2 : List UInt8 := dkwX2_purse_2 ++ []
def dkwX2_purse_1 : List UInt8 := [153, 0, 24, 42, 28, 154, 0, 8, 16, 18, 167, 0, 5, 16, 23, 27, 96, 29, 182, 0, 137, 167, 0, 4]
abbrev dktX2_purse_1 : List UInt8 := dkwX2_purse_1 ++ dktX2_purse_2
def dkwX2_purse_0 : List UInt8 := [42, 27, 182, 0, 144, 153, 0, 42, 28, 133, 9, 10, 184, 0, 105, 153, 0, 32, 29, 133, 184, 0, 118]
abbrev dktX2_purse_0 : List UInt8 := dkwX2_purse_0 ++ dktX2_purse_1
theorem dksX2_purse_0 : cX2_purse.data.toList.drop 0 = dktX2_purse_0 := by decide +kernel
theorem dksX2_purse_1 : cX2_purse.data.toList.drop 23 = dktX2_purse_1 := dk_seg dksX2_purse_0 23 rfl rfl
theorem dksX2_purse_2 : cX2_purse.data.toList.drop 47 = dktX2_purse_2 := dk_seg dksX2_purse_1 24 rfl rfl
theorem dX2_purse_0 : decode cX2_purse 0 = .ok (.aload_n 0, 1) := dk_42 (dk_at dksX2_purse_0 0 rfl rfl)
theorem dX2_purse_1 : decode cX2_purse 1 = .ok (.iload_n 1, 1) := dk_27 (dk_at dksX2_purse_0 1 rfl rfl)
theorem dX2_purse_2 : decode cX2_purse 2 = .ok (.invokevirtual 144, 3) := dk_182 0 144 (dk_at dksX2_purse_0 2 rfl rfl)
theorem dX2_purse_5 : decode cX2_purse 5 = .ok (.ifCond .eq 42, 3) := dk_153 0 42 (dk_at dksX2_purse_0 5 rfl rfl)
theorem dX2_purse_8 : decode cX2_purse 8 = .ok (.iload_n 2, 1) := dk_28 (dk_at dksX2_purse_0 8 rfl rfl)
theorem dX2_purse_9 : decode cX2_purse 9 = .ok (.i2l, 1) := dk_133 (dk_at dksX2_purse_0 9 rfl rfl)
theorem dX2_purse_10 : decode cX2_purse 10 = .ok (.lconst 0, 1) := dk_9 (dk_at dksX2_purse_0 10 rfl rfl)
theorem dX2_purse_11 : decode cX2_purse 11 = .ok (.lconst 1, 1) := dk_10 (dk_at dksX2_purse_0 11 rfl rfl)
theorem dX2_purse_12 : decode cX2_purse 12 = .ok (.invokestatic 105, 3) := dk_184 0 105 (dk_at dksX2_purse_0 12 rfl rfl)
theorem dX2_purse_15 : decode cX2_purse 15 = .ok (.ifCond .eq 32, 3) := dk_153 0 32 (dk_at dksX2_purse_0 15 rfl rfl)
theorem dX2_purse_18 : decode cX2_purse 18 = .ok (.iload_n 3, 1) := dk_29 (dk_at dksX2_purse_0 18 rfl rfl)
theorem dX2_purse_19 : decode cX2_purse 19 = .ok (.i2l, 1) := dk_133 (dk_at dksX2_purse_0 19 rfl rfl)
theorem dX2_purse_20 : decode cX2_purse 20 = .ok (.invokestatic 118, 3) := dk_184 0 118 (dk_at dksX2_purse_0 20 rfl rfl)
theorem dX2_purse_23 : decode cX2_purse 23 = .ok (.ifCond .eq 24, 3) := dk_153 0 24 (dk_at dksX2_purse_1 0 rfl rfl)
theorem dX2_purse_26 : decode cX2_purse 26 = .ok (.aload_n 0, 1) := dk_42 (dk_at dksX2_purse_1 3 rfl rfl)
theorem dX2_purse_27 : decode cX2_purse 27 = .ok (.iload_n 2, 1) := dk_28 (dk_at dksX2_purse_1 4 rfl rfl)
theorem dX2_purse_28 : decode cX2_purse 28 = .ok (.ifCond .ne 8, 3) := dk_154 0 8 (dk_at dksX2_purse_1 5 rfl rfl)
theorem dX2_purse_31 : decode cX2_purse 31 = .ok (.bipush 18, 2) := dk_16 18 (dk_at dksX2_purse_1 8 rfl rfl)
theorem dX2_purse_33 : decode cX2_purse 33 = .ok (.goto 5, 3) := dk_167 0 5 (dk_at dksX2_purse_1 10 rfl rfl)
theorem dX2_purse_36 : decode cX2_purse 36 = .ok (.bipush 23, 2) := dk_16 23 (dk_at dksX2_purse_1 13 rfl rfl)
theorem dX2_purse_38 : decode cX2_purse 38 = .ok (.iload_n 1, 1) := dk_27 (dk_at dksX2_purse_1 15 rfl rfl)
theorem dX2_purse_39 : decode cX2_purse 39 = .ok (.iadd, 1) := dk_96 (dk_at dksX2_purse_1 16 rfl rfl)
theorem dX2_purse_40 : decode cX2_purse 40 = .ok (.iload_n 3, 1) := dk_29 (dk_at dksX2_purse_1 17 rfl rfl)
theorem dX2_purse_41 : decode cX2_purse 41 = .ok (.invokevirtual 137, 3) := dk_182 0 137 (dk_at dksX2_purse_1 18 rfl rfl)
theorem dX2_purse_44 : decode cX2_purse 44 = .ok (.goto 4, 3) := dk_167 0 4 (dk_at dksX2_purse_1 21 rfl rfl)
theorem dX2_purse_47 : decode cX2_purse 47 = .ok (.iconst (-1), 1) := dk_2 (dk_at dksX2_purse_2 0 rfl rfl)
theorem dX2_purse_48 : decode cX2_purse 48 = .ok (.ireturn, 1) := dk_172 (dk_at dksX2_purse_2 1 rfl rfl)
abbrev cX2_isSort : ByteArray := prog_32_method_8_code
def yX2_isSort : MethodName := ⟨RX2, "isSort", "(I)Z"⟩
def dkwX2_isSort_0 : List UInt8 := [27, 133, 9, 42, 180, 0, 109, 4, 100, 133, 184, 0, 105, 172]
abbrev dktX2_isSort_0 : List UInt8 := dkwX2_isSort_0 ++ []
theorem dksX2_isSort_0 : cX2_isSort.data.toList.drop 0 = dktX2_isSort_0 := by decide +kernel
theorem dX2_isSort_0 : decode cX2_isSort 0 = .ok (.iload_n 1, 1) := dk_27 (dk_at dksX2_isSort_0 0 rfl rfl)
theorem dX2_isSort_1 : decode cX2_isSort 1 = .ok (.i2l, 1) := dk_133 (dk_at dksX2_isSort_0 1 rfl rfl)
theorem dX2_isSort_2 : decode cX2_isSort 2 = .ok (.lconst 0, 1) := dk_9 (dk_at dksX2_isSort_0 2 rfl rfl)
theorem dX2_isSort_3 : decode cX2_isSort 3 = .ok (.aload_n 0, 1) := dk_42 (dk_at dksX2_isSort_0 3 rfl rfl)
theorem dX2_isSort_4 : decode cX2_isSort 4 = .ok (.getfield 109, 3) := dk_180 0 109 (dk_at dksX2_isSort_0 4 rfl rfl)
theorem dX2_isSort_7 : decode cX2_isSort 7 = .ok (.iconst 1, 1) := dk_4 (dk_at dksX2_isSort_0 7 rfl rfl)
theorem dX2_isSort_8 : decode cX2_isSort 8 = .ok (.isub, 1) := dk_100 (dk_at dksX2_isSort_0 8 rfl rfl)
theorem dX2_isSort_9 : decode cX2_isSort 9 = .ok (.i2l, 1) := dk_133 (dk_at dksX2_isSort_0 9 rfl rfl)
theorem dX2_isSort_10 : decode cX2_isSort 10 = .ok (.invokestatic 105, 3) := dk_184 0 105 (dk_at dksX2_isSort_0 10 rfl rfl)
theorem dX2_isSort_13 : decode cX2_isSort 13 = .ok (.ireturn, 1) := dk_172 (dk_at dksX2_isSort_0 13 rfl rfl)
abbrev cX2_of : ByteArray := prog_32_method_18_code
def yX2_of : MethodName := ⟨RX2, "of", "(II)I"⟩
def dkwX2_of_5 : List UInt8 := [46, 172, 42, 180, 0, 31, 27, 46, 172, 2, 172]
abbrev dktX2_of_5 : List UInt8 := dkwX2_of_5 ++ []
def dkwX2_of_4 : List UInt8 := [42, 180, 0, 25, 27, 46, 172, 42, 27, 182, 0, 149, 172, 42, 27, 182, 0, 153, 172, 42, 180, 0, 28, 27]
abbrev dktX2_of_4 : List UInt8 := dkwX2_of_4 ++ dktX2_of_5
def dkwX2_of_3 : List UInt8 := [170, 0, 0, 0, 0, 0, 68, 0, 0, 0, 10, 0, 0, 0, 14, 0, 0, 0, 35, 0, 0, 0, 42, 0, 0, 0, 48, 0, 0, 0, 54, 0, 0, 0, 61]
abbrev dktX2_of_3 : List UInt8 := dkwX2_of_3 ++ dktX2_of_4
def dkwX2_of_2 : List UInt8 := [46, 172, 42, 27, 182, 0, 144, 154, 0, 5, 2, 172, 28]
abbrev dktX2_of_2 : List UInt8 := dkwX2_of_2 ++ dktX2_of_3
def dkwX2_of_1 : List UInt8 := [28, 6, 160, 0, 12, 42, 180, 0, 22, 27, 46, 167, 0, 14, 42, 180, 0, 9, 16, 6, 28, 104, 27, 96]
abbrev dktX2_of_1 : List UInt8 := dkwX2_of_1 ++ dktX2_of_2
def dkwX2_of_0 : List UInt8 := [28, 133, 9, 20, 0, 147, 184, 0, 105, 153, 0, 41, 42, 27, 182, 0, 132, 154, 0, 7, 2, 167, 0, 28]
abbrev dktX2_of_0 : List UInt8 := dkwX2_of_0 ++ dktX2_of_1
theorem dksX2_of_0 : cX2_of.data.toList.drop 0 = dktX2_of_0 := by decide +kernel
theorem dksX2_of_1 : cX2_of.data.toList.drop 24 = dktX2_of_1 := dk_seg dksX2_of_0 24 rfl rfl
theorem dksX2_of_2 : cX2_of.data.toList.drop 48 = dktX2_of_2 := dk_seg dksX2_of_1 24 rfl rfl
theorem dksX2_of_3 : cX2_of.data.toList.drop 61 = dktX2_of_3 := dk_seg dksX2_of_2 13 rfl rfl
theorem dksX2_of_4 : cX2_of.data.toList.drop 96 = dktX2_of_4 := dk_seg dksX2_of_3 35 rfl rfl
theorem dksX2_of_5 : cX2_of.data.toList.drop 120 = dktX2_of_5 := dk_seg dksX2_of_4 24 rfl rfl
theorem dX2_of_0 : decode cX2_of 0 = .ok (.iload_n 2, 1) := dk_28 (dk_at dksX2_of_0 0 rfl rfl)
theorem dX2_of_1 : decode cX2_of 1 = .ok (.i2l, 1) := dk_133 (dk_at dksX2_of_0 1 rfl rfl)
theorem dX2_of_2 : decode cX2_of 2 = .ok (.lconst 0, 1) := dk_9 (dk_at dksX2_of_0 2 rfl rfl)
theorem dX2_of_3 : decode cX2_of 3 = .ok (.ldc2_w 147, 3) := dk_20 0 147 (dk_at dksX2_of_0 3 rfl rfl)
theorem dX2_of_6 : decode cX2_of 6 = .ok (.invokestatic 105, 3) := dk_184 0 105 (dk_at dksX2_of_0 6 rfl rfl)
theorem dX2_of_9 : decode cX2_of 9 = .ok (.ifCond .eq 41, 3) := dk_153 0 41 (dk_at dksX2_of_0 9 rfl rfl)
theorem dX2_of_12 : decode cX2_of 12 = .ok (.aload_n 0, 1) := dk_42 (dk_at dksX2_of_0 12 rfl rfl)
theorem dX2_of_13 : decode cX2_of 13 = .ok (.iload_n 1, 1) := dk_27 (dk_at dksX2_of_0 13 rfl rfl)
theorem dX2_of_14 : decode cX2_of 14 = .ok (.invokevirtual 132, 3) := dk_182 0 132 (dk_at dksX2_of_0 14 rfl rfl)
theorem dX2_of_17 : decode cX2_of 17 = .ok (.ifCond .ne 7, 3) := dk_154 0 7 (dk_at dksX2_of_0 17 rfl rfl)
theorem dX2_of_20 : decode cX2_of 20 = .ok (.iconst (-1), 1) := dk_2 (dk_at dksX2_of_0 20 rfl rfl)
theorem dX2_of_21 : decode cX2_of 21 = .ok (.goto 28, 3) := dk_167 0 28 (dk_at dksX2_of_0 21 rfl rfl)
theorem dX2_of_24 : decode cX2_of 24 = .ok (.iload_n 2, 1) := dk_28 (dk_at dksX2_of_1 0 rfl rfl)
theorem dX2_of_25 : decode cX2_of 25 = .ok (.iconst 3, 1) := dk_6 (dk_at dksX2_of_1 1 rfl rfl)
theorem dX2_of_26 : decode cX2_of 26 = .ok (.if_icmp .ne 12, 3) := dk_160 0 12 (dk_at dksX2_of_1 2 rfl rfl)
theorem dX2_of_29 : decode cX2_of 29 = .ok (.aload_n 0, 1) := dk_42 (dk_at dksX2_of_1 5 rfl rfl)
theorem dX2_of_30 : decode cX2_of 30 = .ok (.getfield 22, 3) := dk_180 0 22 (dk_at dksX2_of_1 6 rfl rfl)
theorem dX2_of_33 : decode cX2_of 33 = .ok (.iload_n 1, 1) := dk_27 (dk_at dksX2_of_1 9 rfl rfl)
theorem dX2_of_34 : decode cX2_of 34 = .ok (.iaload, 1) := dk_46 (dk_at dksX2_of_1 10 rfl rfl)
theorem dX2_of_35 : decode cX2_of 35 = .ok (.goto 14, 3) := dk_167 0 14 (dk_at dksX2_of_1 11 rfl rfl)
theorem dX2_of_38 : decode cX2_of 38 = .ok (.aload_n 0, 1) := dk_42 (dk_at dksX2_of_1 14 rfl rfl)
theorem dX2_of_39 : decode cX2_of 39 = .ok (.getfield 9, 3) := dk_180 0 9 (dk_at dksX2_of_1 15 rfl rfl)
theorem dX2_of_42 : decode cX2_of 42 = .ok (.bipush 6, 2) := dk_16 6 (dk_at dksX2_of_1 18 rfl rfl)
theorem dX2_of_44 : decode cX2_of 44 = .ok (.iload_n 2, 1) := dk_28 (dk_at dksX2_of_1 20 rfl rfl)
theorem dX2_of_45 : decode cX2_of 45 = .ok (.imul, 1) := dk_104 (dk_at dksX2_of_1 21 rfl rfl)
theorem dX2_of_46 : decode cX2_of 46 = .ok (.iload_n 1, 1) := dk_27 (dk_at dksX2_of_1 22 rfl rfl)
theorem dX2_of_47 : decode cX2_of 47 = .ok (.iadd, 1) := dk_96 (dk_at dksX2_of_1 23 rfl rfl)
theorem dX2_of_48 : decode cX2_of 48 = .ok (.iaload, 1) := dk_46 (dk_at dksX2_of_2 0 rfl rfl)
theorem dX2_of_49 : decode cX2_of 49 = .ok (.ireturn, 1) := dk_172 (dk_at dksX2_of_2 1 rfl rfl)
theorem dX2_of_50 : decode cX2_of 50 = .ok (.aload_n 0, 1) := dk_42 (dk_at dksX2_of_2 2 rfl rfl)
theorem dX2_of_51 : decode cX2_of 51 = .ok (.iload_n 1, 1) := dk_27 (dk_at dksX2_of_2 3 rfl rfl)
theorem dX2_of_52 : decode cX2_of 52 = .ok (.invokevirtual 144, 3) := dk_182 0 144 (dk_at dksX2_of_2 4 rfl rfl)
theorem dX2_of_55 : decode cX2_of 55 = .ok (.ifCond .ne 5, 3) := dk_154 0 5 (dk_at dksX2_of_2 7 rfl rfl)
theorem dX2_of_58 : decode cX2_of 58 = .ok (.iconst (-1), 1) := dk_2 (dk_at dksX2_of_2 10 rfl rfl)
theorem dX2_of_59 : decode cX2_of 59 = .ok (.ireturn, 1) := dk_172 (dk_at dksX2_of_2 11 rfl rfl)
theorem dX2_of_60 : decode cX2_of 60 = .ok (.iload_n 2, 1) := dk_28 (dk_at dksX2_of_2 12 rfl rfl)
theorem dX2_of_61 : decode cX2_of 61 = .ok (.tableswitch 68 10 14 #[35, 42, 48, 54, 61], 35) := by decide +kernel
theorem dX2_of_96 : decode cX2_of 96 = .ok (.aload_n 0, 1) := dk_42 (dk_at dksX2_of_4 0 rfl rfl)
theorem dX2_of_97 : decode cX2_of 97 = .ok (.getfield 25, 3) := dk_180 0 25 (dk_at dksX2_of_4 1 rfl rfl)
theorem dX2_of_100 : decode cX2_of 100 = .ok (.iload_n 1, 1) := dk_27 (dk_at dksX2_of_4 4 rfl rfl)
theorem dX2_of_101 : decode cX2_of 101 = .ok (.iaload, 1) := dk_46 (dk_at dksX2_of_4 5 rfl rfl)
theorem dX2_of_102 : decode cX2_of 102 = .ok (.ireturn, 1) := dk_172 (dk_at dksX2_of_4 6 rfl rfl)
theorem dX2_of_103 : decode cX2_of 103 = .ok (.aload_n 0, 1) := dk_42 (dk_at dksX2_of_4 7 rfl rfl)
theorem dX2_of_104 : decode cX2_of 104 = .ok (.iload_n 1, 1) := dk_27 (dk_at dksX2_of_4 8 rfl rfl)
theorem dX2_of_105 : decode cX2_of 105 = .ok (.invokevirtual 149, 3) := dk_182 0 149 (dk_at dksX2_of_4 9 rfl rfl)
theorem dX2_of_108 : decode cX2_of 108 = .ok (.ireturn, 1) := dk_172 (dk_at dksX2_of_4 12 rfl rfl)
theorem dX2_of_109 : decode cX2_of 109 = .ok (.aload_n 0, 1) := dk_42 (dk_at dksX2_of_4 13 rfl rfl)
theorem dX2_of_110 : decode cX2_of 110 = .ok (.iload_n 1, 1) := dk_27 (dk_at dksX2_of_4 14 rfl rfl)
theorem dX2_of_111 : decode cX2_of 111 = .ok (.invokevirtual 153, 3) := dk_182 0 153 (dk_at dksX2_of_4 15 rfl rfl)
theorem dX2_of_114 : decode cX2_of 114 = .ok (.ireturn, 1) := dk_172 (dk_at dksX2_of_4 18 rfl rfl)
theorem dX2_of_115 : decode cX2_of 115 = .ok (.aload_n 0, 1) := dk_42 (dk_at dksX2_of_4 19 rfl rfl)
theorem dX2_of_116 : decode cX2_of 116 = .ok (.getfield 28, 3) := dk_180 0 28 (dk_at dksX2_of_4 20 rfl rfl)
theorem dX2_of_119 : decode cX2_of 119 = .ok (.iload_n 1, 1) := dk_27 (dk_at dksX2_of_4 23 rfl rfl)
theorem dX2_of_120 : decode cX2_of 120 = .ok (.iaload, 1) := dk_46 (dk_at dksX2_of_5 0 rfl rfl)
theorem dX2_of_121 : decode cX2_of 121 = .ok (.ireturn, 1) := dk_172 (dk_at dksX2_of_5 1 rfl rfl)
theorem dX2_of_122 : decode cX2_of 122 = .ok (.aload_n 0, 1) := dk_42 (dk_at dksX2_of_5 2 rfl rfl)
theorem dX2_of_123 : decode cX2_of 123 = .ok (.getfield 31, 3) := dk_180 0 31 (dk_at dksX2_of_5 3 rfl rfl)
theorem dX2_of_126 : decode cX2_of 126 = .ok (.iload_n 1, 1) := dk_27 (dk_at dksX2_of_5 6 rfl rfl)
theorem dX2_of_127 : decode cX2_of 127 = .ok (.iaload, 1) := dk_46 (dk_at dksX2_of_5 7 rfl rfl)
theorem dX2_of_128 : decode cX2_of 128 = .ok (.ireturn, 1) := dk_172 (dk_at dksX2_of_5 8 rfl rfl)
theorem dX2_of_129 : decode cX2_of 129 = .ok (.iconst (-1), 1) := dk_2 (dk_at dksX2_of_5 9 rfl rfl)
theorem dX2_of_130 : decode cX2_of 130 = .ok (.ireturn, 1) := dk_172 (dk_at dksX2_of_5 10 rfl rfl)
abbrev cX2_purseOf : ByteArray := prog_32_method_16_code
def yX2_purseOf : MethodName := ⟨RX2, "purseOf", "(I)I"⟩
def dkwX2_purseOf_0 : List UInt8 := [42, 180, 0, 9, 16, 18, 27, 96, 46, 172]
abbrev dktX2_purseOf_0 : List UInt8 := dkwX2_purseOf_0 ++ []
theorem dksX2_purseOf_0 : cX2_purseOf.data.toList.drop 0 = dktX2_purseOf_0 := by decide +kernel
theorem dX2_purseOf_0 : decode cX2_purseOf 0 = .ok (.aload_n 0, 1) := dk_42 (dk_at dksX2_purseOf_0 0 rfl rfl)
theorem dX2_purseOf_1 : decode cX2_purseOf 1 = .ok (.getfield 9, 3) := dk_180 0 9 (dk_at dksX2_purseOf_0 1 rfl rfl)
theorem dX2_purseOf_4 : decode cX2_purseOf 4 = .ok (.bipush 18, 2) := dk_16 18 (dk_at dksX2_purseOf_0 4 rfl rfl)
theorem dX2_purseOf_6 : decode cX2_purseOf 6 = .ok (.iload_n 1, 1) := dk_27 (dk_at dksX2_purseOf_0 6 rfl rfl)
theorem dX2_purseOf_7 : decode cX2_purseOf 7 = .ok (.iadd, 1) := dk_96 (dk_at dksX2_purseOf_0 7 rfl rfl)
theorem dX2_purseOf_8 : decode cX2_purseOf 8 = .ok (.iaload, 1) := dk_46 (dk_at dksX2_purseOf_0 8 rfl rfl)
theorem dX2_purseOf_9 : decode cX2_purseOf 9 = .ok (.ireturn, 1) := dk_172 (dk_at dksX2_purseOf_0 9 rfl rfl)
abbrev cX2_pointsInAll : ByteArray := prog_32_method_17_code
def yX2_pointsInAll : MethodName := ⟨RX2, "pointsInAll", "(I)I"⟩
def dkwX2_pointsInAll_0 : List UInt8 := [42, 180, 0, 9, 16, 23, 27, 96, 46, 16, 10, 42, 180, 0, 28, 27, 46, 104, 96, 172]
abbrev dktX2_pointsInAll_0 : List UInt8 := dkwX2_pointsInAll_0 ++ []
theorem dksX2_pointsInAll_0 : cX2_pointsInAll.data.toList.drop 0 = dktX2_pointsInAll_0 := by decide +kernel
theorem dX2_pointsInAll_0 : decode cX2_pointsInAll 0 = .ok (.aload_n 0, 1) := dk_42 (dk_at dksX2_pointsInAll_0 0 rfl rfl)
theorem dX2_pointsInAll_1 : decode cX2_pointsInAll 1 = .ok (.getfield 9, 3) := dk_180 0 9 (dk_at dksX2_pointsInAll_0 1 rfl rfl)
theorem dX2_pointsInAll_4 : decode cX2_pointsInAll 4 = .ok (.bipush 23, 2) := dk_16 23 (dk_at dksX2_pointsInAll_0 4 rfl rfl)
theorem dX2_pointsInAll_6 : decode cX2_pointsInAll 6 = .ok (.iload_n 1, 1) := dk_27 (dk_at dksX2_pointsInAll_0 6 rfl rfl)
theorem dX2_pointsInAll_7 : decode cX2_pointsInAll 7 = .ok (.iadd, 1) := dk_96 (dk_at dksX2_pointsInAll_0 7 rfl rfl)
theorem dX2_pointsInAll_8 : decode cX2_pointsInAll 8 = .ok (.iaload, 1) := dk_46 (dk_at dksX2_pointsInAll_0 8 rfl rfl)
theorem dX2_pointsInAll_9 : decode cX2_pointsInAll 9 = .ok (.bipush 10, 2) := dk_16 10 (dk_at dksX2_pointsInAll_0 9 rfl rfl)
theorem dX2_pointsInAll_11 : decode cX2_pointsInAll 11 = .ok (.aload_n 0, 1) := dk_42 (dk_at dksX2_pointsInAll_0 11 rfl rfl)
theorem dX2_pointsInAll_12 : decode cX2_pointsInAll 12 = .ok (.getfield 28, 3) := dk_180 0 28 (dk_at dksX2_pointsInAll_0 12 rfl rfl)
theorem dX2_pointsInAll_15 : decode cX2_pointsInAll 15 = .ok (.iload_n 1, 1) := dk_27 (dk_at dksX2_pointsInAll_0 15 rfl rfl)
theorem dX2_pointsInAll_16 : decode cX2_pointsInAll 16 = .ok (.iaload, 1) := dk_46 (dk_at dksX2_pointsInAll_0 16 rfl rfl)
theorem dX2_pointsInAll_17 : decode cX2_pointsInAll 17 = .ok (.imul, 1) := dk_104 (dk_at dksX2_pointsInAll_0 17 rfl rfl)
theorem dX2_pointsInAll_18 : decode cX2_pointsInAll 18 = .ok (.iadd, 1) := dk_96 (dk_at dksX2_pointsInAll_0 18 rfl rfl)
theorem dX2_pointsInAll_19 : decode cX2_pointsInAll 19 = .ok (.ireturn, 1) := dk_172 (dk_at dksX2_pointsInAll_0 19 rfl rfl)
abbrev cX2_feed : ByteArray := prog_32_method_19_code
def yX2_feed : MethodName := ⟨RX2, "feed", "(II)I"⟩
def dkwX2_feed_3 : List UInt8 := [42, 180, 0, 158, 172]
abbrev dktX2_feed_3 : List UInt8 := dkwX2_feed_3 ++ []
def dkwX2_feed_2 : List UInt8 := [29, 104, 122, 17, 0, 255, 126, 79, 42, 89, 180, 0, 158, 4, 96, 181, 0, 158, 132, 3, 1, 167, 255, 219]
abbrev dktX2_feed_2 : List UInt8 := dkwX2_feed_2 ++ dktX2_feed_3
def dkwX2_feed_1 : List UInt8 := [164, 0, 6, 16, 253, 172, 3, 62, 29, 27, 162, 0, 38, 42, 180, 0, 37, 42, 180, 0, 158, 28, 16, 8]
abbrev dktX2_feed_1 : List UInt8 := dkwX2_feed_1 ++ dktX2_feed_2
def dkwX2_feed_0 : List UInt8 := [27, 133, 10, 20, 0, 156, 184, 0, 105, 154, 0, 5, 2, 172, 42, 180, 0, 158, 27, 96, 16, 120]
abbrev dktX2_feed_0 : List UInt8 := dkwX2_feed_0 ++ dktX2_feed_1
theorem dksX2_feed_0 : cX2_feed.data.toList.drop 0 = dktX2_feed_0 := by decide +kernel
theorem dksX2_feed_1 : cX2_feed.data.toList.drop 22 = dktX2_feed_1 := dk_seg dksX2_feed_0 22 rfl rfl
theorem dksX2_feed_2 : cX2_feed.data.toList.drop 46 = dktX2_feed_2 := dk_seg dksX2_feed_1 24 rfl rfl
theorem dksX2_feed_3 : cX2_feed.data.toList.drop 70 = dktX2_feed_3 := dk_seg dksX2_feed_2 24 rfl rfl
theorem dX2_feed_0 : decode cX2_feed 0 = .ok (.iload_n 1, 1) := dk_27 (dk_at dksX2_feed_0 0 rfl rfl)
theorem dX2_feed_1 : decode cX2_feed 1 = .ok (.i2l, 1) := dk_133 (dk_at dksX2_feed_0 1 rfl rfl)
theorem dX2_feed_2 : decode cX2_feed 2 = .ok (.lconst 1, 1) := dk_10 (dk_at dksX2_feed_0 2 rfl rfl)
theorem dX2_feed_3 : decode cX2_feed 3 = .ok (.ldc2_w 156, 3) := dk_20 0 156 (dk_at dksX2_feed_0 3 rfl rfl)
theorem dX2_feed_6 : decode cX2_feed 6 = .ok (.invokestatic 105, 3) := dk_184 0 105 (dk_at dksX2_feed_0 6 rfl rfl)
theorem dX2_feed_9 : decode cX2_feed 9 = .ok (.ifCond .ne 5, 3) := dk_154 0 5 (dk_at dksX2_feed_0 9 rfl rfl)
theorem dX2_feed_12 : decode cX2_feed 12 = .ok (.iconst (-1), 1) := dk_2 (dk_at dksX2_feed_0 12 rfl rfl)
theorem dX2_feed_13 : decode cX2_feed 13 = .ok (.ireturn, 1) := dk_172 (dk_at dksX2_feed_0 13 rfl rfl)
theorem dX2_feed_14 : decode cX2_feed 14 = .ok (.aload_n 0, 1) := dk_42 (dk_at dksX2_feed_0 14 rfl rfl)
theorem dX2_feed_15 : decode cX2_feed 15 = .ok (.getfield 158, 3) := dk_180 0 158 (dk_at dksX2_feed_0 15 rfl rfl)
theorem dX2_feed_18 : decode cX2_feed 18 = .ok (.iload_n 1, 1) := dk_27 (dk_at dksX2_feed_0 18 rfl rfl)
theorem dX2_feed_19 : decode cX2_feed 19 = .ok (.iadd, 1) := dk_96 (dk_at dksX2_feed_0 19 rfl rfl)
theorem dX2_feed_20 : decode cX2_feed 20 = .ok (.bipush 120, 2) := dk_16 120 (dk_at dksX2_feed_0 20 rfl rfl)
theorem dX2_feed_22 : decode cX2_feed 22 = .ok (.if_icmp .le 6, 3) := dk_164 0 6 (dk_at dksX2_feed_1 0 rfl rfl)
theorem dX2_feed_25 : decode cX2_feed 25 = .ok (.bipush (-3), 2) := dk_16 253 (dk_at dksX2_feed_1 3 rfl rfl)
theorem dX2_feed_27 : decode cX2_feed 27 = .ok (.ireturn, 1) := dk_172 (dk_at dksX2_feed_1 5 rfl rfl)
theorem dX2_feed_28 : decode cX2_feed 28 = .ok (.iconst 0, 1) := dk_3 (dk_at dksX2_feed_1 6 rfl rfl)
theorem dX2_feed_29 : decode cX2_feed 29 = .ok (.istore_n 3, 1) := dk_62 (dk_at dksX2_feed_1 7 rfl rfl)
theorem dX2_feed_30 : decode cX2_feed 30 = .ok (.iload_n 3, 1) := dk_29 (dk_at dksX2_feed_1 8 rfl rfl)
theorem dX2_feed_31 : decode cX2_feed 31 = .ok (.iload_n 1, 1) := dk_27 (dk_at dksX2_feed_1 9 rfl rfl)
theorem dX2_feed_32 : decode cX2_feed 32 = .ok (.if_icmp .ge 38, 3) := dk_162 0 38 (dk_at dksX2_feed_1 10 rfl rfl)
theorem dX2_feed_35 : decode cX2_feed 35 = .ok (.aload_n 0, 1) := dk_42 (dk_at dksX2_feed_1 13 rfl rfl)
theorem dX2_feed_36 : decode cX2_feed 36 = .ok (.getfield 37, 3) := dk_180 0 37 (dk_at dksX2_feed_1 14 rfl rfl)
theorem dX2_feed_39 : decode cX2_feed 39 = .ok (.aload_n 0, 1) := dk_42 (dk_at dksX2_feed_1 17 rfl rfl)
theorem dX2_feed_40 : decode cX2_feed 40 = .ok (.getfield 158, 3) := dk_180 0 158 (dk_at dksX2_feed_1 18 rfl rfl)
theorem dX2_feed_43 : decode cX2_feed 43 = .ok (.iload_n 2, 1) := dk_28 (dk_at dksX2_feed_1 21 rfl rfl)
theorem dX2_feed_44 : decode cX2_feed 44 = .ok (.bipush 8, 2) := dk_16 8 (dk_at dksX2_feed_1 22 rfl rfl)
theorem dX2_feed_46 : decode cX2_feed 46 = .ok (.iload_n 3, 1) := dk_29 (dk_at dksX2_feed_2 0 rfl rfl)
theorem dX2_feed_47 : decode cX2_feed 47 = .ok (.imul, 1) := dk_104 (dk_at dksX2_feed_2 1 rfl rfl)
theorem dX2_feed_48 : decode cX2_feed 48 = .ok (.ishr, 1) := dk_122 (dk_at dksX2_feed_2 2 rfl rfl)
theorem dX2_feed_49 : decode cX2_feed 49 = .ok (.sipush 255, 3) := dk_17 0 255 (dk_at dksX2_feed_2 3 rfl rfl)
theorem dX2_feed_52 : decode cX2_feed 52 = .ok (.iand, 1) := dk_126 (dk_at dksX2_feed_2 6 rfl rfl)
theorem dX2_feed_53 : decode cX2_feed 53 = .ok (.iastore, 1) := dk_79 (dk_at dksX2_feed_2 7 rfl rfl)
theorem dX2_feed_54 : decode cX2_feed 54 = .ok (.aload_n 0, 1) := dk_42 (dk_at dksX2_feed_2 8 rfl rfl)
theorem dX2_feed_55 : decode cX2_feed 55 = .ok (.dup, 1) := dk_89 (dk_at dksX2_feed_2 9 rfl rfl)
theorem dX2_feed_56 : decode cX2_feed 56 = .ok (.getfield 158, 3) := dk_180 0 158 (dk_at dksX2_feed_2 10 rfl rfl)
theorem dX2_feed_59 : decode cX2_feed 59 = .ok (.iconst 1, 1) := dk_4 (dk_at dksX2_feed_2 13 rfl rfl)
theorem dX2_feed_60 : decode cX2_feed 60 = .ok (.iadd, 1) := dk_96 (dk_at dksX2_feed_2 14 rfl rfl)
theorem dX2_feed_61 : decode cX2_feed 61 = .ok (.putfield 158, 3) := dk_181 0 158 (dk_at dksX2_feed_2 15 rfl rfl)
theorem dX2_feed_64 : decode cX2_feed 64 = .ok (.iinc 3 1, 3) := dk_132 3 1 (dk_at dksX2_feed_2 18 rfl rfl)
theorem dX2_feed_67 : decode cX2_feed 67 = .ok (.goto (-37), 3) := dk_167 255 219 (dk_at dksX2_feed_2 21 rfl rfl)
theorem dX2_feed_70 : decode cX2_feed 70 = .ok (.aload_n 0, 1) := dk_42 (dk_at dksX2_feed_3 0 rfl rfl)
theorem dX2_feed_71 : decode cX2_feed 71 = .ok (.getfield 158, 3) := dk_180 0 158 (dk_at dksX2_feed_3 1 rfl rfl)
theorem dX2_feed_74 : decode cX2_feed 74 = .ok (.ireturn, 1) := dk_172 (dk_at dksX2_feed_3 4 rfl rfl)
abbrev cX2_want : ByteArray := prog_32_method_31_code
def yX2_want : MethodName := ⟨RX2, "want", "()I"⟩
def dkwX2_want_4 : List UInt8 := [4, 96, 181, 0, 141, 42, 180, 0, 141, 4, 100, 172]
abbrev dktX2_want_4 : List UInt8 := dkwX2_want_4 ++ []
def dkwX2_want_3 : List UInt8 := [29, 46, 79, 132, 3, 1, 167, 255, 228, 42, 180, 0, 43, 42, 180, 0, 141, 28, 79, 42, 89, 180, 0, 141]
abbrev dktX2_want_3 : List UInt8 := dkwX2_want_3 ++ dktX2_want_4
def dkwX2_want_2 : List UInt8 := [3, 62, 29, 28, 162, 0, 29, 42, 180, 0, 40, 16, 120, 42, 180, 0, 141, 104, 29, 96, 42, 180, 0, 37]
abbrev dktX2_want_2 : List UInt8 := dkwX2_want_2 ++ dktX2_want_3
def dkwX2_want_1 : List UInt8 := [180, 0, 158, 61, 42, 3, 181, 0, 158, 42, 180, 0, 170, 155, 0, 11, 16, 156, 42, 180, 0, 170, 100, 172]
abbrev dktX2_want_1 : List UInt8 := dkwX2_want_1 ++ dktX2_want_2
def dkwX2_want_0 : List UInt8 := [42, 180, 0, 141, 7, 160, 0, 6, 16, 253, 172, 42, 2, 42, 180, 0, 158, 182, 0, 206, 60, 42]
abbrev dktX2_want_0 : List UInt8 := dkwX2_want_0 ++ dktX2_want_1
theorem dksX2_want_0 : cX2_want.data.toList.drop 0 = dktX2_want_0 := by decide +kernel
theorem dksX2_want_1 : cX2_want.data.toList.drop 22 = dktX2_want_1 := dk_seg dksX2_want_0 22 rfl rfl
theorem dksX2_want_2 : cX2_want.data.toList.drop 46 = dktX2_want_2 := dk_seg dksX2_want_1 24 rfl rfl
theorem dksX2_want_3 : cX2_want.data.toList.drop 70 = dktX2_want_3 := dk_seg dksX2_want_2 24 rfl rfl
theorem dksX2_want_4 : cX2_want.data.toList.drop 94 = dktX2_want_4 := dk_seg dksX2_want_3 24 rfl rfl
theorem dX2_want_0 : decode cX2_want 0 = .ok (.aload_n 0, 1) := dk_42 (dk_at dksX2_want_0 0 rfl rfl)
theorem dX2_want_1 : decode cX2_want 1 = .ok (.getfield 141, 3) := dk_180 0 141 (dk_at dksX2_want_0 1 rfl rfl)
theorem dX2_want_4 : decode cX2_want 4 = .ok (.iconst 4, 1) := dk_7 (dk_at dksX2_want_0 4 rfl rfl)
theorem dX2_want_5 : decode cX2_want 5 = .ok (.if_icmp .ne 6, 3) := dk_160 0 6 (dk_at dksX2_want_0 5 rfl rfl)
theorem dX2_want_8 : decode cX2_want 8 = .ok (.bipush (-3), 2) := dk_16 253 (dk_at dksX2_want_0 8 rfl rfl)
theorem dX2_want_10 : decode cX2_want 10 = .ok (.ireturn, 1) := dk_172 (dk_at dksX2_want_0 10 rfl rfl)
theorem dX2_want_11 : decode cX2_want 11 = .ok (.aload_n 0, 1) := dk_42 (dk_at dksX2_want_0 11 rfl rfl)
theorem dX2_want_12 : decode cX2_want 12 = .ok (.iconst (-1), 1) := dk_2 (dk_at dksX2_want_0 12 rfl rfl)
theorem dX2_want_13 : decode cX2_want 13 = .ok (.aload_n 0, 1) := dk_42 (dk_at dksX2_want_0 13 rfl rfl)
theorem dX2_want_14 : decode cX2_want 14 = .ok (.getfield 158, 3) := dk_180 0 158 (dk_at dksX2_want_0 14 rfl rfl)
theorem dX2_want_17 : decode cX2_want 17 = .ok (.invokevirtual 206, 3) := dk_182 0 206 (dk_at dksX2_want_0 17 rfl rfl)
theorem dX2_want_20 : decode cX2_want 20 = .ok (.istore_n 1, 1) := dk_60 (dk_at dksX2_want_0 20 rfl rfl)
theorem dX2_want_21 : decode cX2_want 21 = .ok (.aload_n 0, 1) := dk_42 (dk_at dksX2_want_0 21 rfl rfl)
theorem dX2_want_22 : decode cX2_want 22 = .ok (.getfield 158, 3) := dk_180 0 158 (dk_at dksX2_want_1 0 rfl rfl)
theorem dX2_want_25 : decode cX2_want 25 = .ok (.istore_n 2, 1) := dk_61 (dk_at dksX2_want_1 3 rfl rfl)
theorem dX2_want_26 : decode cX2_want 26 = .ok (.aload_n 0, 1) := dk_42 (dk_at dksX2_want_1 4 rfl rfl)
theorem dX2_want_27 : decode cX2_want 27 = .ok (.iconst 0, 1) := dk_3 (dk_at dksX2_want_1 5 rfl rfl)
theorem dX2_want_28 : decode cX2_want 28 = .ok (.putfield 158, 3) := dk_181 0 158 (dk_at dksX2_want_1 6 rfl rfl)
theorem dX2_want_31 : decode cX2_want 31 = .ok (.aload_n 0, 1) := dk_42 (dk_at dksX2_want_1 9 rfl rfl)
theorem dX2_want_32 : decode cX2_want 32 = .ok (.getfield 170, 3) := dk_180 0 170 (dk_at dksX2_want_1 10 rfl rfl)
theorem dX2_want_35 : decode cX2_want 35 = .ok (.ifCond .lt 11, 3) := dk_155 0 11 (dk_at dksX2_want_1 13 rfl rfl)
theorem dX2_want_38 : decode cX2_want 38 = .ok (.bipush (-100), 2) := dk_16 156 (dk_at dksX2_want_1 16 rfl rfl)
theorem dX2_want_40 : decode cX2_want 40 = .ok (.aload_n 0, 1) := dk_42 (dk_at dksX2_want_1 18 rfl rfl)
theorem dX2_want_41 : decode cX2_want 41 = .ok (.getfield 170, 3) := dk_180 0 170 (dk_at dksX2_want_1 19 rfl rfl)
theorem dX2_want_44 : decode cX2_want 44 = .ok (.isub, 1) := dk_100 (dk_at dksX2_want_1 22 rfl rfl)
theorem dX2_want_45 : decode cX2_want 45 = .ok (.ireturn, 1) := dk_172 (dk_at dksX2_want_1 23 rfl rfl)
theorem dX2_want_46 : decode cX2_want 46 = .ok (.iconst 0, 1) := dk_3 (dk_at dksX2_want_2 0 rfl rfl)
theorem dX2_want_47 : decode cX2_want 47 = .ok (.istore_n 3, 1) := dk_62 (dk_at dksX2_want_2 1 rfl rfl)
theorem dX2_want_48 : decode cX2_want 48 = .ok (.iload_n 3, 1) := dk_29 (dk_at dksX2_want_2 2 rfl rfl)
theorem dX2_want_49 : decode cX2_want 49 = .ok (.iload_n 2, 1) := dk_28 (dk_at dksX2_want_2 3 rfl rfl)
theorem dX2_want_50 : decode cX2_want 50 = .ok (.if_icmp .ge 29, 3) := dk_162 0 29 (dk_at dksX2_want_2 4 rfl rfl)
theorem dX2_want_53 : decode cX2_want 53 = .ok (.aload_n 0, 1) := dk_42 (dk_at dksX2_want_2 7 rfl rfl)
theorem dX2_want_54 : decode cX2_want 54 = .ok (.getfield 40, 3) := dk_180 0 40 (dk_at dksX2_want_2 8 rfl rfl)
theorem dX2_want_57 : decode cX2_want 57 = .ok (.bipush 120, 2) := dk_16 120 (dk_at dksX2_want_2 11 rfl rfl)
theorem dX2_want_59 : decode cX2_want 59 = .ok (.aload_n 0, 1) := dk_42 (dk_at dksX2_want_2 13 rfl rfl)
theorem dX2_want_60 : decode cX2_want 60 = .ok (.getfield 141, 3) := dk_180 0 141 (dk_at dksX2_want_2 14 rfl rfl)
theorem dX2_want_63 : decode cX2_want 63 = .ok (.imul, 1) := dk_104 (dk_at dksX2_want_2 17 rfl rfl)
theorem dX2_want_64 : decode cX2_want 64 = .ok (.iload_n 3, 1) := dk_29 (dk_at dksX2_want_2 18 rfl rfl)
theorem dX2_want_65 : decode cX2_want 65 = .ok (.iadd, 1) := dk_96 (dk_at dksX2_want_2 19 rfl rfl)
theorem dX2_want_66 : decode cX2_want 66 = .ok (.aload_n 0, 1) := dk_42 (dk_at dksX2_want_2 20 rfl rfl)
theorem dX2_want_67 : decode cX2_want 67 = .ok (.getfield 37, 3) := dk_180 0 37 (dk_at dksX2_want_2 21 rfl rfl)
theorem dX2_want_70 : decode cX2_want 70 = .ok (.iload_n 3, 1) := dk_29 (dk_at dksX2_want_3 0 rfl rfl)
theorem dX2_want_71 : decode cX2_want 71 = .ok (.iaload, 1) := dk_46 (dk_at dksX2_want_3 1 rfl rfl)
theorem dX2_want_72 : decode cX2_want 72 = .ok (.iastore, 1) := dk_79 (dk_at dksX2_want_3 2 rfl rfl)
theorem dX2_want_73 : decode cX2_want 73 = .ok (.iinc 3 1, 3) := dk_132 3 1 (dk_at dksX2_want_3 3 rfl rfl)
theorem dX2_want_76 : decode cX2_want 76 = .ok (.goto (-28), 3) := dk_167 255 228 (dk_at dksX2_want_3 6 rfl rfl)
theorem dX2_want_79 : decode cX2_want 79 = .ok (.aload_n 0, 1) := dk_42 (dk_at dksX2_want_3 9 rfl rfl)
theorem dX2_want_80 : decode cX2_want 80 = .ok (.getfield 43, 3) := dk_180 0 43 (dk_at dksX2_want_3 10 rfl rfl)
theorem dX2_want_83 : decode cX2_want 83 = .ok (.aload_n 0, 1) := dk_42 (dk_at dksX2_want_3 13 rfl rfl)
theorem dX2_want_84 : decode cX2_want 84 = .ok (.getfield 141, 3) := dk_180 0 141 (dk_at dksX2_want_3 14 rfl rfl)
theorem dX2_want_87 : decode cX2_want 87 = .ok (.iload_n 2, 1) := dk_28 (dk_at dksX2_want_3 17 rfl rfl)
theorem dX2_want_88 : decode cX2_want 88 = .ok (.iastore, 1) := dk_79 (dk_at dksX2_want_3 18 rfl rfl)
theorem dX2_want_89 : decode cX2_want 89 = .ok (.aload_n 0, 1) := dk_42 (dk_at dksX2_want_3 19 rfl rfl)
theorem dX2_want_90 : decode cX2_want 90 = .ok (.dup, 1) := dk_89 (dk_at dksX2_want_3 20 rfl rfl)
theorem dX2_want_91 : decode cX2_want 91 = .ok (.getfield 141, 3) := dk_180 0 141 (dk_at dksX2_want_3 21 rfl rfl)
theorem dX2_want_94 : decode cX2_want 94 = .ok (.iconst 1, 1) := dk_4 (dk_at dksX2_want_4 0 rfl rfl)
theorem dX2_want_95 : decode cX2_want 95 = .ok (.iadd, 1) := dk_96 (dk_at dksX2_want_4 1 rfl rfl)
theorem dX2_want_96 : decode cX2_want 96 = .ok (.putfield 141, 3) := dk_181 0 141 (dk_at dksX2_want_4 2 rfl rfl)
theorem dX2_want_99 : decode cX2_want 99 = .ok (.aload_n 0, 1) := dk_42 (dk_at dksX2_want_4 5 rfl rfl)
theorem dX2_want_100 : decode cX2_want 100 = .ok (.getfield 141, 3) := dk_180 0 141 (dk_at dksX2_want_4 6 rfl rfl)
theorem dX2_want_103 : decode cX2_want 103 = .ok (.iconst 1, 1) := dk_4 (dk_at dksX2_want_4 9 rfl rfl)
theorem dX2_want_104 : decode cX2_want 104 = .ok (.isub, 1) := dk_100 (dk_at dksX2_want_4 10 rfl rfl)
theorem dX2_want_105 : decode cX2_want 105 = .ok (.ireturn, 1) := dk_172 (dk_at dksX2_want_4 11 rfl rfl)
abbrev cX2_workOut : ByteArray := prog_32_method_30_code
def yX2_workOut : MethodName := ⟨RX2, "workOut", "(II)I"⟩
def dkwX2_workOut_5 : List UInt8 := [180, 0, 161, 42, 180, 0, 164, 162, 0, 8, 42, 182, 0, 197, 172, 21, 4, 172]
abbrev dktX2_workOut_5 : List UInt8 := dkwX2_workOut_5 ++ []
def dkwX2_workOut_4 : List UInt8 := [21, 6, 54, 4, 42, 16, 59, 182, 0, 180, 54, 5, 167, 255, 185, 42, 180, 0, 170, 156, 0, 19, 42]
abbrev dktX2_workOut_4 : List UInt8 := dkwX2_workOut_4 ++ dktX2_workOut_5
def dkwX2_workOut_3 : List UInt8 := [182, 0, 200, 54, 6, 42, 180, 0, 170, 156, 0, 18, 21, 7, 153, 0, 13, 29, 154, 0, 9, 4, 62]
abbrev dktX2_workOut_3 : List UInt8 := dkwX2_workOut_3 ++ dktX2_workOut_4
def dkwX2_workOut_2 : List UInt8 := [54, 7, 42, 16, 63, 182, 0, 180, 153, 0, 21, 21, 6, 153, 0, 7, 4, 167, 0, 4, 3, 54, 7, 42]
abbrev dktX2_workOut_2 : List UInt8 := dkwX2_workOut_2 ++ dktX2_workOut_3
def dkwX2_workOut_1 : List UInt8 := [181, 0, 194, 3, 62, 3, 54, 4, 4, 54, 5, 21, 5, 153, 0, 72, 42, 182, 0, 200, 54, 6, 4]
abbrev dktX2_workOut_1 : List UInt8 := dkwX2_workOut_1 ++ dktX2_workOut_2
def dkwX2_workOut_0 : List UInt8 := [42, 27, 181, 0, 167, 42, 3, 181, 0, 161, 42, 28, 181, 0, 164, 42, 2, 181, 0, 170, 42, 3]
abbrev dktX2_workOut_0 : List UInt8 := dkwX2_workOut_0 ++ dktX2_workOut_1
theorem dksX2_workOut_0 : cX2_workOut.data.toList.drop 0 = dktX2_workOut_0 := by decide +kernel
theorem dksX2_workOut_1 : cX2_workOut.data.toList.drop 22 = dktX2_workOut_1 := dk_seg dksX2_workOut_0 22 rfl rfl
theorem dksX2_workOut_2 : cX2_workOut.data.toList.drop 45 = dktX2_workOut_2 := dk_seg dksX2_workOut_1 23 rfl rfl
theorem dksX2_workOut_3 : cX2_workOut.data.toList.drop 69 = dktX2_workOut_3 := dk_seg dksX2_workOut_2 24 rfl rfl
theorem dksX2_workOut_4 : cX2_workOut.data.toList.drop 92 = dktX2_workOut_4 := dk_seg dksX2_workOut_3 23 rfl rfl
theorem dksX2_workOut_5 : cX2_workOut.data.toList.drop 115 = dktX2_workOut_5 := dk_seg dksX2_workOut_4 23 rfl rfl
theorem dX2_workOut_0 : decode cX2_workOut 0 = .ok (.aload_n 0, 1) := dk_42 (dk_at dksX2_workOut_0 0 rfl rfl)
theorem dX2_workOut_1 : decode cX2_workOut 1 = .ok (.iload_n 1, 1) := dk_27 (dk_at dksX2_workOut_0 1 rfl rfl)
theorem dX2_workOut_2 : decode cX2_workOut 2 = .ok (.putfield 167, 3) := dk_181 0 167 (dk_at dksX2_workOut_0 2 rfl rfl)
theorem dX2_workOut_5 : decode cX2_workOut 5 = .ok (.aload_n 0, 1) := dk_42 (dk_at dksX2_workOut_0 5 rfl rfl)
theorem dX2_workOut_6 : decode cX2_workOut 6 = .ok (.iconst 0, 1) := dk_3 (dk_at dksX2_workOut_0 6 rfl rfl)
theorem dX2_workOut_7 : decode cX2_workOut 7 = .ok (.putfield 161, 3) := dk_181 0 161 (dk_at dksX2_workOut_0 7 rfl rfl)
theorem dX2_workOut_10 : decode cX2_workOut 10 = .ok (.aload_n 0, 1) := dk_42 (dk_at dksX2_workOut_0 10 rfl rfl)
theorem dX2_workOut_11 : decode cX2_workOut 11 = .ok (.iload_n 2, 1) := dk_28 (dk_at dksX2_workOut_0 11 rfl rfl)
theorem dX2_workOut_12 : decode cX2_workOut 12 = .ok (.putfield 164, 3) := dk_181 0 164 (dk_at dksX2_workOut_0 12 rfl rfl)
theorem dX2_workOut_15 : decode cX2_workOut 15 = .ok (.aload_n 0, 1) := dk_42 (dk_at dksX2_workOut_0 15 rfl rfl)
theorem dX2_workOut_16 : decode cX2_workOut 16 = .ok (.iconst (-1), 1) := dk_2 (dk_at dksX2_workOut_0 16 rfl rfl)
theorem dX2_workOut_17 : decode cX2_workOut 17 = .ok (.putfield 170, 3) := dk_181 0 170 (dk_at dksX2_workOut_0 17 rfl rfl)
theorem dX2_workOut_20 : decode cX2_workOut 20 = .ok (.aload_n 0, 1) := dk_42 (dk_at dksX2_workOut_0 20 rfl rfl)
theorem dX2_workOut_21 : decode cX2_workOut 21 = .ok (.iconst 0, 1) := dk_3 (dk_at dksX2_workOut_0 21 rfl rfl)
theorem dX2_workOut_22 : decode cX2_workOut 22 = .ok (.putfield 194, 3) := dk_181 0 194 (dk_at dksX2_workOut_1 0 rfl rfl)
theorem dX2_workOut_25 : decode cX2_workOut 25 = .ok (.iconst 0, 1) := dk_3 (dk_at dksX2_workOut_1 3 rfl rfl)
theorem dX2_workOut_26 : decode cX2_workOut 26 = .ok (.istore_n 3, 1) := dk_62 (dk_at dksX2_workOut_1 4 rfl rfl)
theorem dX2_workOut_27 : decode cX2_workOut 27 = .ok (.iconst 0, 1) := dk_3 (dk_at dksX2_workOut_1 5 rfl rfl)
theorem dX2_workOut_28 : decode cX2_workOut 28 = .ok (.istore 4, 2) := dk_54 4 (dk_at dksX2_workOut_1 6 rfl rfl)
theorem dX2_workOut_30 : decode cX2_workOut 30 = .ok (.iconst 1, 1) := dk_4 (dk_at dksX2_workOut_1 8 rfl rfl)
theorem dX2_workOut_31 : decode cX2_workOut 31 = .ok (.istore 5, 2) := dk_54 5 (dk_at dksX2_workOut_1 9 rfl rfl)
theorem dX2_workOut_33 : decode cX2_workOut 33 = .ok (.iload 5, 2) := dk_21 5 (dk_at dksX2_workOut_1 11 rfl rfl)
theorem dX2_workOut_35 : decode cX2_workOut 35 = .ok (.ifCond .eq 72, 3) := dk_153 0 72 (dk_at dksX2_workOut_1 13 rfl rfl)
theorem dX2_workOut_38 : decode cX2_workOut 38 = .ok (.aload_n 0, 1) := dk_42 (dk_at dksX2_workOut_1 16 rfl rfl)
theorem dX2_workOut_39 : decode cX2_workOut 39 = .ok (.invokevirtual 200, 3) := dk_182 0 200 (dk_at dksX2_workOut_1 17 rfl rfl)
theorem dX2_workOut_42 : decode cX2_workOut 42 = .ok (.istore 6, 2) := dk_54 6 (dk_at dksX2_workOut_1 20 rfl rfl)
theorem dX2_workOut_44 : decode cX2_workOut 44 = .ok (.iconst 1, 1) := dk_4 (dk_at dksX2_workOut_1 22 rfl rfl)
theorem dX2_workOut_45 : decode cX2_workOut 45 = .ok (.istore 7, 2) := dk_54 7 (dk_at dksX2_workOut_2 0 rfl rfl)
theorem dX2_workOut_47 : decode cX2_workOut 47 = .ok (.aload_n 0, 1) := dk_42 (dk_at dksX2_workOut_2 2 rfl rfl)
theorem dX2_workOut_48 : decode cX2_workOut 48 = .ok (.bipush 63, 2) := dk_16 63 (dk_at dksX2_workOut_2 3 rfl rfl)
theorem dX2_workOut_50 : decode cX2_workOut 50 = .ok (.invokevirtual 180, 3) := dk_182 0 180 (dk_at dksX2_workOut_2 5 rfl rfl)
theorem dX2_workOut_53 : decode cX2_workOut 53 = .ok (.ifCond .eq 21, 3) := dk_153 0 21 (dk_at dksX2_workOut_2 8 rfl rfl)
theorem dX2_workOut_56 : decode cX2_workOut 56 = .ok (.iload 6, 2) := dk_21 6 (dk_at dksX2_workOut_2 11 rfl rfl)
theorem dX2_workOut_58 : decode cX2_workOut 58 = .ok (.ifCond .eq 7, 3) := dk_153 0 7 (dk_at dksX2_workOut_2 13 rfl rfl)
theorem dX2_workOut_61 : decode cX2_workOut 61 = .ok (.iconst 1, 1) := dk_4 (dk_at dksX2_workOut_2 16 rfl rfl)
theorem dX2_workOut_62 : decode cX2_workOut 62 = .ok (.goto 4, 3) := dk_167 0 4 (dk_at dksX2_workOut_2 17 rfl rfl)
theorem dX2_workOut_65 : decode cX2_workOut 65 = .ok (.iconst 0, 1) := dk_3 (dk_at dksX2_workOut_2 20 rfl rfl)
theorem dX2_workOut_66 : decode cX2_workOut 66 = .ok (.istore 7, 2) := dk_54 7 (dk_at dksX2_workOut_2 21 rfl rfl)
theorem dX2_workOut_68 : decode cX2_workOut 68 = .ok (.aload_n 0, 1) := dk_42 (dk_at dksX2_workOut_2 23 rfl rfl)
theorem dX2_workOut_69 : decode cX2_workOut 69 = .ok (.invokevirtual 200, 3) := dk_182 0 200 (dk_at dksX2_workOut_3 0 rfl rfl)
theorem dX2_workOut_72 : decode cX2_workOut 72 = .ok (.istore 6, 2) := dk_54 6 (dk_at dksX2_workOut_3 3 rfl rfl)
theorem dX2_workOut_74 : decode cX2_workOut 74 = .ok (.aload_n 0, 1) := dk_42 (dk_at dksX2_workOut_3 5 rfl rfl)
theorem dX2_workOut_75 : decode cX2_workOut 75 = .ok (.getfield 170, 3) := dk_180 0 170 (dk_at dksX2_workOut_3 6 rfl rfl)
theorem dX2_workOut_78 : decode cX2_workOut 78 = .ok (.ifCond .ge 18, 3) := dk_156 0 18 (dk_at dksX2_workOut_3 9 rfl rfl)
theorem dX2_workOut_81 : decode cX2_workOut 81 = .ok (.iload 7, 2) := dk_21 7 (dk_at dksX2_workOut_3 12 rfl rfl)
theorem dX2_workOut_83 : decode cX2_workOut 83 = .ok (.ifCond .eq 13, 3) := dk_153 0 13 (dk_at dksX2_workOut_3 14 rfl rfl)
theorem dX2_workOut_86 : decode cX2_workOut 86 = .ok (.iload_n 3, 1) := dk_29 (dk_at dksX2_workOut_3 17 rfl rfl)
theorem dX2_workOut_87 : decode cX2_workOut 87 = .ok (.ifCond .ne 9, 3) := dk_154 0 9 (dk_at dksX2_workOut_3 18 rfl rfl)
theorem dX2_workOut_90 : decode cX2_workOut 90 = .ok (.iconst 1, 1) := dk_4 (dk_at dksX2_workOut_3 21 rfl rfl)
theorem dX2_workOut_91 : decode cX2_workOut 91 = .ok (.istore_n 3, 1) := dk_62 (dk_at dksX2_workOut_3 22 rfl rfl)
theorem dX2_workOut_92 : decode cX2_workOut 92 = .ok (.iload 6, 2) := dk_21 6 (dk_at dksX2_workOut_4 0 rfl rfl)
theorem dX2_workOut_94 : decode cX2_workOut 94 = .ok (.istore 4, 2) := dk_54 4 (dk_at dksX2_workOut_4 2 rfl rfl)
theorem dX2_workOut_96 : decode cX2_workOut 96 = .ok (.aload_n 0, 1) := dk_42 (dk_at dksX2_workOut_4 4 rfl rfl)
theorem dX2_workOut_97 : decode cX2_workOut 97 = .ok (.bipush 59, 2) := dk_16 59 (dk_at dksX2_workOut_4 5 rfl rfl)
theorem dX2_workOut_99 : decode cX2_workOut 99 = .ok (.invokevirtual 180, 3) := dk_182 0 180 (dk_at dksX2_workOut_4 7 rfl rfl)
theorem dX2_workOut_102 : decode cX2_workOut 102 = .ok (.istore 5, 2) := dk_54 5 (dk_at dksX2_workOut_4 10 rfl rfl)
theorem dX2_workOut_104 : decode cX2_workOut 104 = .ok (.goto (-71), 3) := dk_167 255 185 (dk_at dksX2_workOut_4 12 rfl rfl)
theorem dX2_workOut_107 : decode cX2_workOut 107 = .ok (.aload_n 0, 1) := dk_42 (dk_at dksX2_workOut_4 15 rfl rfl)
theorem dX2_workOut_108 : decode cX2_workOut 108 = .ok (.getfield 170, 3) := dk_180 0 170 (dk_at dksX2_workOut_4 16 rfl rfl)
theorem dX2_workOut_111 : decode cX2_workOut 111 = .ok (.ifCond .ge 19, 3) := dk_156 0 19 (dk_at dksX2_workOut_4 19 rfl rfl)
theorem dX2_workOut_114 : decode cX2_workOut 114 = .ok (.aload_n 0, 1) := dk_42 (dk_at dksX2_workOut_4 22 rfl rfl)
theorem dX2_workOut_115 : decode cX2_workOut 115 = .ok (.getfield 161, 3) := dk_180 0 161 (dk_at dksX2_workOut_5 0 rfl rfl)
theorem dX2_workOut_118 : decode cX2_workOut 118 = .ok (.aload_n 0, 1) := dk_42 (dk_at dksX2_workOut_5 3 rfl rfl)
theorem dX2_workOut_119 : decode cX2_workOut 119 = .ok (.getfield 164, 3) := dk_180 0 164 (dk_at dksX2_workOut_5 4 rfl rfl)
theorem dX2_workOut_122 : decode cX2_workOut 122 = .ok (.if_icmp .ge 8, 3) := dk_162 0 8 (dk_at dksX2_workOut_5 7 rfl rfl)
theorem dX2_workOut_125 : decode cX2_workOut 125 = .ok (.aload_n 0, 1) := dk_42 (dk_at dksX2_workOut_5 10 rfl rfl)
theorem dX2_workOut_126 : decode cX2_workOut 126 = .ok (.invokevirtual 197, 3) := dk_182 0 197 (dk_at dksX2_workOut_5 11 rfl rfl)
theorem dX2_workOut_129 : decode cX2_workOut 129 = .ok (.ireturn, 1) := dk_172 (dk_at dksX2_workOut_5 14 rfl rfl)
theorem dX2_workOut_130 : decode cX2_workOut 130 = .ok (.iload 4, 2) := dk_21 4 (dk_at dksX2_workOut_5 15 rfl rfl)
theorem dX2_workOut_132 : decode cX2_workOut 132 = .ok (.ireturn, 1) := dk_172 (dk_at dksX2_workOut_5 17 rfl rfl)
abbrev cX2_either : ByteArray := prog_32_method_23_code
def yX2_either : MethodName := ⟨RX2, "either", "()I"⟩
def dkwX2_either_1 : List UInt8 := [153, 0, 7, 4, 167, 0, 4, 3, 60, 167, 255, 228, 27, 172]
abbrev dktX2_either_1 : List UInt8 := dkwX2_either_1 ++ []
def dkwX2_either_0 : List UInt8 := [42, 182, 0, 177, 60, 42, 16, 124, 182, 0, 180, 153, 0, 25, 42, 182, 0, 177, 61, 27, 154, 0, 7, 28]
abbrev dktX2_either_0 : List UInt8 := dkwX2_either_0 ++ dktX2_either_1
theorem dksX2_either_0 : cX2_either.data.toList.drop 0 = dktX2_either_0 := by decide +kernel
theorem dksX2_either_1 : cX2_either.data.toList.drop 24 = dktX2_either_1 := dk_seg dksX2_either_0 24 rfl rfl
theorem dX2_either_0 : decode cX2_either 0 = .ok (.aload_n 0, 1) := dk_42 (dk_at dksX2_either_0 0 rfl rfl)
theorem dX2_either_1 : decode cX2_either 1 = .ok (.invokevirtual 177, 3) := dk_182 0 177 (dk_at dksX2_either_0 1 rfl rfl)
theorem dX2_either_4 : decode cX2_either 4 = .ok (.istore_n 1, 1) := dk_60 (dk_at dksX2_either_0 4 rfl rfl)
theorem dX2_either_5 : decode cX2_either 5 = .ok (.aload_n 0, 1) := dk_42 (dk_at dksX2_either_0 5 rfl rfl)
theorem dX2_either_6 : decode cX2_either 6 = .ok (.bipush 124, 2) := dk_16 124 (dk_at dksX2_either_0 6 rfl rfl)
theorem dX2_either_8 : decode cX2_either 8 = .ok (.invokevirtual 180, 3) := dk_182 0 180 (dk_at dksX2_either_0 8 rfl rfl)
theorem dX2_either_11 : decode cX2_either 11 = .ok (.ifCond .eq 25, 3) := dk_153 0 25 (dk_at dksX2_either_0 11 rfl rfl)
theorem dX2_either_14 : decode cX2_either 14 = .ok (.aload_n 0, 1) := dk_42 (dk_at dksX2_either_0 14 rfl rfl)
theorem dX2_either_15 : decode cX2_either 15 = .ok (.invokevirtual 177, 3) := dk_182 0 177 (dk_at dksX2_either_0 15 rfl rfl)
theorem dX2_either_18 : decode cX2_either 18 = .ok (.istore_n 2, 1) := dk_61 (dk_at dksX2_either_0 18 rfl rfl)
theorem dX2_either_19 : decode cX2_either 19 = .ok (.iload_n 1, 1) := dk_27 (dk_at dksX2_either_0 19 rfl rfl)
theorem dX2_either_20 : decode cX2_either 20 = .ok (.ifCond .ne 7, 3) := dk_154 0 7 (dk_at dksX2_either_0 20 rfl rfl)
theorem dX2_either_23 : decode cX2_either 23 = .ok (.iload_n 2, 1) := dk_28 (dk_at dksX2_either_0 23 rfl rfl)
theorem dX2_either_24 : decode cX2_either 24 = .ok (.ifCond .eq 7, 3) := dk_153 0 7 (dk_at dksX2_either_1 0 rfl rfl)
theorem dX2_either_27 : decode cX2_either 27 = .ok (.iconst 1, 1) := dk_4 (dk_at dksX2_either_1 3 rfl rfl)
theorem dX2_either_28 : decode cX2_either 28 = .ok (.goto 4, 3) := dk_167 0 4 (dk_at dksX2_either_1 4 rfl rfl)
theorem dX2_either_31 : decode cX2_either 31 = .ok (.iconst 0, 1) := dk_3 (dk_at dksX2_either_1 7 rfl rfl)
theorem dX2_either_32 : decode cX2_either 32 = .ok (.istore_n 1, 1) := dk_60 (dk_at dksX2_either_1 8 rfl rfl)
theorem dX2_either_33 : decode cX2_either 33 = .ok (.goto (-28), 3) := dk_167 255 228 (dk_at dksX2_either_1 9 rfl rfl)
theorem dX2_either_36 : decode cX2_either 36 = .ok (.iload_n 1, 1) := dk_27 (dk_at dksX2_either_1 12 rfl rfl)
theorem dX2_either_37 : decode cX2_either 37 = .ok (.ireturn, 1) := dk_172 (dk_at dksX2_either_1 13 rfl rfl)
abbrev cX2_both : ByteArray := prog_32_method_24_code
def yX2_both : MethodName := ⟨RX2, "both", "()I"⟩
def dkwX2_both_1 : List UInt8 := [153, 0, 7, 4, 167, 0, 4, 3, 60, 167, 255, 228, 27, 172]
abbrev dktX2_both_1 : List UInt8 := dkwX2_both_1 ++ []
def dkwX2_both_0 : List UInt8 := [42, 182, 0, 182, 60, 42, 16, 38, 182, 0, 180, 153, 0, 25, 42, 182, 0, 182, 61, 27, 153, 0, 11, 28]
abbrev dktX2_both_0 : List UInt8 := dkwX2_both_0 ++ dktX2_both_1
theorem dksX2_both_0 : cX2_both.data.toList.drop 0 = dktX2_both_0 := by decide +kernel
theorem dksX2_both_1 : cX2_both.data.toList.drop 24 = dktX2_both_1 := dk_seg dksX2_both_0 24 rfl rfl
theorem dX2_both_0 : decode cX2_both 0 = .ok (.aload_n 0, 1) := dk_42 (dk_at dksX2_both_0 0 rfl rfl)
theorem dX2_both_1 : decode cX2_both 1 = .ok (.invokevirtual 182, 3) := dk_182 0 182 (dk_at dksX2_both_0 1 rfl rfl)
theorem dX2_both_4 : decode cX2_both 4 = .ok (.istore_n 1, 1) := dk_60 (dk_at dksX2_both_0 4 rfl rfl)
theorem dX2_both_5 : decode cX2_both 5 = .ok (.aload_n 0, 1) := dk_42 (dk_at dksX2_both_0 5 rfl rfl)
theorem dX2_both_6 : decode cX2_both 6 = .ok (.bipush 38, 2) := dk_16 38 (dk_at dksX2_both_0 6 rfl rfl)
theorem dX2_both_8 : decode cX2_both 8 = .ok (.invokevirtual 180, 3) := dk_182 0 180 (dk_at dksX2_both_0 8 rfl rfl)
theorem dX2_both_11 : decode cX2_both 11 = .ok (.ifCond .eq 25, 3) := dk_153 0 25 (dk_at dksX2_both_0 11 rfl rfl)
theorem dX2_both_14 : decode cX2_both 14 = .ok (.aload_n 0, 1) := dk_42 (dk_at dksX2_both_0 14 rfl rfl)
theorem dX2_both_15 : decode cX2_both 15 = .ok (.invokevirtual 182, 3) := dk_182 0 182 (dk_at dksX2_both_0 15 rfl rfl)
theorem dX2_both_18 : decode cX2_both 18 = .ok (.istore_n 2, 1) := dk_61 (dk_at dksX2_both_0 18 rfl rfl)
theorem dX2_both_19 : decode cX2_both 19 = .ok (.iload_n 1, 1) := dk_27 (dk_at dksX2_both_0 19 rfl rfl)
theorem dX2_both_20 : decode cX2_both 20 = .ok (.ifCond .eq 11, 3) := dk_153 0 11 (dk_at dksX2_both_0 20 rfl rfl)
theorem dX2_both_23 : decode cX2_both 23 = .ok (.iload_n 2, 1) := dk_28 (dk_at dksX2_both_0 23 rfl rfl)
theorem dX2_both_24 : decode cX2_both 24 = .ok (.ifCond .eq 7, 3) := dk_153 0 7 (dk_at dksX2_both_1 0 rfl rfl)
theorem dX2_both_27 : decode cX2_both 27 = .ok (.iconst 1, 1) := dk_4 (dk_at dksX2_both_1 3 rfl rfl)
theorem dX2_both_28 : decode cX2_both 28 = .ok (.goto 4, 3) := dk_167 0 4 (dk_at dksX2_both_1 4 rfl rfl)
theorem dX2_both_31 : decode cX2_both 31 = .ok (.iconst 0, 1) := dk_3 (dk_at dksX2_both_1 7 rfl rfl)
theorem dX2_both_32 : decode cX2_both 32 = .ok (.istore_n 1, 1) := dk_60 (dk_at dksX2_both_1 8 rfl rfl)
theorem dX2_both_33 : decode cX2_both 33 = .ok (.goto (-28), 3) := dk_167 255 228 (dk_at dksX2_both_1 9 rfl rfl)
theorem dX2_both_36 : decode cX2_both 36 = .ok (.iload_n 1, 1) := dk_27 (dk_at dksX2_both_1 12 rfl rfl)
theorem dX2_both_37 : decode cX2_both 37 = .ok (.ireturn, 1) := dk_172 (dk_at dksX2_both_1 13 rfl rfl)
abbrev cX2_compared : ByteArray := prog_32_method_25_code
def yX2_compared : MethodName := ⟨RX2, "compared", "()I"⟩
def dkwX2_compared_3 : List UInt8 := [27, 29, 160, 0, 15, 167, 0, 8, 27, 29, 164, 0, 7, 4, 167, 0, 4, 3, 172]
abbrev dktX2_compared_3 : List UInt8 := dkwX2_compared_3 ++ []
def dkwX2_compared_2 : List UInt8 := [182, 0, 185, 62, 28, 16, 60, 160, 0, 11, 27, 29, 162, 0, 29, 167, 0, 22, 28, 16, 61, 160, 0, 11]
abbrev dktX2_compared_2 : List UInt8 := dkwX2_compared_2 ++ dktX2_compared_3
def dkwX2_compared_1 : List UInt8 := [16, 61, 159, 0, 11, 28, 16, 62, 159, 0, 5, 27, 172, 42, 89, 180, 0, 161, 4, 96, 181, 0, 161, 42]
abbrev dktX2_compared_1 : List UInt8 := dkwX2_compared_1 ++ dktX2_compared_2
def dkwX2_compared_0 : List UInt8 := [42, 182, 0, 185, 60, 42, 182, 0, 173, 61, 42, 180, 0, 170, 156, 0, 21, 28, 16, 60, 159, 0, 17, 28]
abbrev dktX2_compared_0 : List UInt8 := dkwX2_compared_0 ++ dktX2_compared_1
theorem dksX2_compared_0 : cX2_compared.data.toList.drop 0 = dktX2_compared_0 := by decide +kernel
theorem dksX2_compared_1 : cX2_compared.data.toList.drop 24 = dktX2_compared_1 := dk_seg dksX2_compared_0 24 rfl rfl
theorem dksX2_compared_2 : cX2_compared.data.toList.drop 48 = dktX2_compared_2 := dk_seg dksX2_compared_1 24 rfl rfl
theorem dksX2_compared_3 : cX2_compared.data.toList.drop 72 = dktX2_compared_3 := dk_seg dksX2_compared_2 24 rfl rfl
theorem dX2_compared_0 : decode cX2_compared 0 = .ok (.aload_n 0, 1) := dk_42 (dk_at dksX2_compared_0 0 rfl rfl)
theorem dX2_compared_1 : decode cX2_compared 1 = .ok (.invokevirtual 185, 3) := dk_182 0 185 (dk_at dksX2_compared_0 1 rfl rfl)
theorem dX2_compared_4 : decode cX2_compared 4 = .ok (.istore_n 1, 1) := dk_60 (dk_at dksX2_compared_0 4 rfl rfl)
theorem dX2_compared_5 : decode cX2_compared 5 = .ok (.aload_n 0, 1) := dk_42 (dk_at dksX2_compared_0 5 rfl rfl)
theorem dX2_compared_6 : decode cX2_compared 6 = .ok (.invokevirtual 173, 3) := dk_182 0 173 (dk_at dksX2_compared_0 6 rfl rfl)
theorem dX2_compared_9 : decode cX2_compared 9 = .ok (.istore_n 2, 1) := dk_61 (dk_at dksX2_compared_0 9 rfl rfl)
theorem dX2_compared_10 : decode cX2_compared 10 = .ok (.aload_n 0, 1) := dk_42 (dk_at dksX2_compared_0 10 rfl rfl)
theorem dX2_compared_11 : decode cX2_compared 11 = .ok (.getfield 170, 3) := dk_180 0 170 (dk_at dksX2_compared_0 11 rfl rfl)
theorem dX2_compared_14 : decode cX2_compared 14 = .ok (.ifCond .ge 21, 3) := dk_156 0 21 (dk_at dksX2_compared_0 14 rfl rfl)
theorem dX2_compared_17 : decode cX2_compared 17 = .ok (.iload_n 2, 1) := dk_28 (dk_at dksX2_compared_0 17 rfl rfl)
theorem dX2_compared_18 : decode cX2_compared 18 = .ok (.bipush 60, 2) := dk_16 60 (dk_at dksX2_compared_0 18 rfl rfl)
theorem dX2_compared_20 : decode cX2_compared 20 = .ok (.if_icmp .eq 17, 3) := dk_159 0 17 (dk_at dksX2_compared_0 20 rfl rfl)
theorem dX2_compared_23 : decode cX2_compared 23 = .ok (.iload_n 2, 1) := dk_28 (dk_at dksX2_compared_0 23 rfl rfl)
theorem dX2_compared_24 : decode cX2_compared 24 = .ok (.bipush 61, 2) := dk_16 61 (dk_at dksX2_compared_1 0 rfl rfl)
theorem dX2_compared_26 : decode cX2_compared 26 = .ok (.if_icmp .eq 11, 3) := dk_159 0 11 (dk_at dksX2_compared_1 2 rfl rfl)
theorem dX2_compared_29 : decode cX2_compared 29 = .ok (.iload_n 2, 1) := dk_28 (dk_at dksX2_compared_1 5 rfl rfl)
theorem dX2_compared_30 : decode cX2_compared 30 = .ok (.bipush 62, 2) := dk_16 62 (dk_at dksX2_compared_1 6 rfl rfl)
theorem dX2_compared_32 : decode cX2_compared 32 = .ok (.if_icmp .eq 5, 3) := dk_159 0 5 (dk_at dksX2_compared_1 8 rfl rfl)
theorem dX2_compared_35 : decode cX2_compared 35 = .ok (.iload_n 1, 1) := dk_27 (dk_at dksX2_compared_1 11 rfl rfl)
theorem dX2_compared_36 : decode cX2_compared 36 = .ok (.ireturn, 1) := dk_172 (dk_at dksX2_compared_1 12 rfl rfl)
theorem dX2_compared_37 : decode cX2_compared 37 = .ok (.aload_n 0, 1) := dk_42 (dk_at dksX2_compared_1 13 rfl rfl)
theorem dX2_compared_38 : decode cX2_compared 38 = .ok (.dup, 1) := dk_89 (dk_at dksX2_compared_1 14 rfl rfl)
theorem dX2_compared_39 : decode cX2_compared 39 = .ok (.getfield 161, 3) := dk_180 0 161 (dk_at dksX2_compared_1 15 rfl rfl)
theorem dX2_compared_42 : decode cX2_compared 42 = .ok (.iconst 1, 1) := dk_4 (dk_at dksX2_compared_1 18 rfl rfl)
theorem dX2_compared_43 : decode cX2_compared 43 = .ok (.iadd, 1) := dk_96 (dk_at dksX2_compared_1 19 rfl rfl)
theorem dX2_compared_44 : decode cX2_compared 44 = .ok (.putfield 161, 3) := dk_181 0 161 (dk_at dksX2_compared_1 20 rfl rfl)
theorem dX2_compared_47 : decode cX2_compared 47 = .ok (.aload_n 0, 1) := dk_42 (dk_at dksX2_compared_1 23 rfl rfl)
theorem dX2_compared_48 : decode cX2_compared 48 = .ok (.invokevirtual 185, 3) := dk_182 0 185 (dk_at dksX2_compared_2 0 rfl rfl)
theorem dX2_compared_51 : decode cX2_compared 51 = .ok (.istore_n 3, 1) := dk_62 (dk_at dksX2_compared_2 3 rfl rfl)
theorem dX2_compared_52 : decode cX2_compared 52 = .ok (.iload_n 2, 1) := dk_28 (dk_at dksX2_compared_2 4 rfl rfl)
theorem dX2_compared_53 : decode cX2_compared 53 = .ok (.bipush 60, 2) := dk_16 60 (dk_at dksX2_compared_2 5 rfl rfl)
theorem dX2_compared_55 : decode cX2_compared 55 = .ok (.if_icmp .ne 11, 3) := dk_160 0 11 (dk_at dksX2_compared_2 7 rfl rfl)
theorem dX2_compared_58 : decode cX2_compared 58 = .ok (.iload_n 1, 1) := dk_27 (dk_at dksX2_compared_2 10 rfl rfl)
theorem dX2_compared_59 : decode cX2_compared 59 = .ok (.iload_n 3, 1) := dk_29 (dk_at dksX2_compared_2 11 rfl rfl)
theorem dX2_compared_60 : decode cX2_compared 60 = .ok (.if_icmp .ge 29, 3) := dk_162 0 29 (dk_at dksX2_compared_2 12 rfl rfl)
theorem dX2_compared_63 : decode cX2_compared 63 = .ok (.goto 22, 3) := dk_167 0 22 (dk_at dksX2_compared_2 15 rfl rfl)
theorem dX2_compared_66 : decode cX2_compared 66 = .ok (.iload_n 2, 1) := dk_28 (dk_at dksX2_compared_2 18 rfl rfl)
theorem dX2_compared_67 : decode cX2_compared 67 = .ok (.bipush 61, 2) := dk_16 61 (dk_at dksX2_compared_2 19 rfl rfl)
theorem dX2_compared_69 : decode cX2_compared 69 = .ok (.if_icmp .ne 11, 3) := dk_160 0 11 (dk_at dksX2_compared_2 21 rfl rfl)
theorem dX2_compared_72 : decode cX2_compared 72 = .ok (.iload_n 1, 1) := dk_27 (dk_at dksX2_compared_3 0 rfl rfl)
theorem dX2_compared_73 : decode cX2_compared 73 = .ok (.iload_n 3, 1) := dk_29 (dk_at dksX2_compared_3 1 rfl rfl)
theorem dX2_compared_74 : decode cX2_compared 74 = .ok (.if_icmp .ne 15, 3) := dk_160 0 15 (dk_at dksX2_compared_3 2 rfl rfl)
theorem dX2_compared_77 : decode cX2_compared 77 = .ok (.goto 8, 3) := dk_167 0 8 (dk_at dksX2_compared_3 5 rfl rfl)
theorem dX2_compared_80 : decode cX2_compared 80 = .ok (.iload_n 1, 1) := dk_27 (dk_at dksX2_compared_3 8 rfl rfl)
theorem dX2_compared_81 : decode cX2_compared 81 = .ok (.iload_n 3, 1) := dk_29 (dk_at dksX2_compared_3 9 rfl rfl)
theorem dX2_compared_82 : decode cX2_compared 82 = .ok (.if_icmp .le 7, 3) := dk_164 0 7 (dk_at dksX2_compared_3 10 rfl rfl)
theorem dX2_compared_85 : decode cX2_compared 85 = .ok (.iconst 1, 1) := dk_4 (dk_at dksX2_compared_3 13 rfl rfl)
theorem dX2_compared_86 : decode cX2_compared 86 = .ok (.goto 4, 3) := dk_167 0 4 (dk_at dksX2_compared_3 14 rfl rfl)
theorem dX2_compared_89 : decode cX2_compared 89 = .ok (.iconst 0, 1) := dk_3 (dk_at dksX2_compared_3 17 rfl rfl)
theorem dX2_compared_90 : decode cX2_compared 90 = .ok (.ireturn, 1) := dk_172 (dk_at dksX2_compared_3 18 rfl rfl)
abbrev cX2_sums : ByteArray := prog_32_method_26_code
def yX2_sums : MethodName := ⟨RX2, "sums", "()I"⟩
def dkwX2_sums_3 : List UInt8 := [27, 29, 100, 60, 167, 255, 187, 27, 172]
abbrev dktX2_sums_3 : List UInt8 := dkwX2_sums_3 ++ []
def dkwX2_sums_2 : List UInt8 := [89, 180, 0, 161, 4, 96, 181, 0, 161, 42, 182, 0, 188, 62, 28, 153, 0, 9, 27, 29, 96, 167, 0, 6]
abbrev dktX2_sums_2 : List UInt8 := dkwX2_sums_2 ++ dktX2_sums_3
def dkwX2_sums_1 : List UInt8 := [182, 0, 173, 16, 45, 160, 0, 50, 42, 182, 0, 173, 16, 43, 160, 0, 7, 4, 167, 0, 4, 3, 61, 42]
abbrev dktX2_sums_1 : List UInt8 := dkwX2_sums_1 ++ dktX2_sums_2
def dkwX2_sums_0 : List UInt8 := [42, 182, 0, 188, 60, 42, 180, 0, 170, 156, 0, 68, 42, 182, 0, 173, 16, 43, 159, 0, 12, 42]
abbrev dktX2_sums_0 : List UInt8 := dkwX2_sums_0 ++ dktX2_sums_1
theorem dksX2_sums_0 : cX2_sums.data.toList.drop 0 = dktX2_sums_0 := by decide +kernel
theorem dksX2_sums_1 : cX2_sums.data.toList.drop 22 = dktX2_sums_1 := dk_seg dksX2_sums_0 22 rfl rfl
theorem dksX2_sums_2 : cX2_sums.data.toList.drop 46 = dktX2_sums_2 := dk_seg dksX2_sums_1 24 rfl rfl
theorem dksX2_sums_3 : cX2_sums.data.toList.drop 70 = dktX2_sums_3 := dk_seg dksX2_sums_2 24 rfl rfl
theorem dX2_sums_0 : decode cX2_sums 0 = .ok (.aload_n 0, 1) := dk_42 (dk_at dksX2_sums_0 0 rfl rfl)
theorem dX2_sums_1 : decode cX2_sums 1 = .ok (.invokevirtual 188, 3) := dk_182 0 188 (dk_at dksX2_sums_0 1 rfl rfl)
theorem dX2_sums_4 : decode cX2_sums 4 = .ok (.istore_n 1, 1) := dk_60 (dk_at dksX2_sums_0 4 rfl rfl)
theorem dX2_sums_5 : decode cX2_sums 5 = .ok (.aload_n 0, 1) := dk_42 (dk_at dksX2_sums_0 5 rfl rfl)
theorem dX2_sums_6 : decode cX2_sums 6 = .ok (.getfield 170, 3) := dk_180 0 170 (dk_at dksX2_sums_0 6 rfl rfl)
theorem dX2_sums_9 : decode cX2_sums 9 = .ok (.ifCond .ge 68, 3) := dk_156 0 68 (dk_at dksX2_sums_0 9 rfl rfl)
theorem dX2_sums_12 : decode cX2_sums 12 = .ok (.aload_n 0, 1) := dk_42 (dk_at dksX2_sums_0 12 rfl rfl)
theorem dX2_sums_13 : decode cX2_sums 13 = .ok (.invokevirtual 173, 3) := dk_182 0 173 (dk_at dksX2_sums_0 13 rfl rfl)
theorem dX2_sums_16 : decode cX2_sums 16 = .ok (.bipush 43, 2) := dk_16 43 (dk_at dksX2_sums_0 16 rfl rfl)
theorem dX2_sums_18 : decode cX2_sums 18 = .ok (.if_icmp .eq 12, 3) := dk_159 0 12 (dk_at dksX2_sums_0 18 rfl rfl)
theorem dX2_sums_21 : decode cX2_sums 21 = .ok (.aload_n 0, 1) := dk_42 (dk_at dksX2_sums_0 21 rfl rfl)
theorem dX2_sums_22 : decode cX2_sums 22 = .ok (.invokevirtual 173, 3) := dk_182 0 173 (dk_at dksX2_sums_1 0 rfl rfl)
theorem dX2_sums_25 : decode cX2_sums 25 = .ok (.bipush 45, 2) := dk_16 45 (dk_at dksX2_sums_1 3 rfl rfl)
theorem dX2_sums_27 : decode cX2_sums 27 = .ok (.if_icmp .ne 50, 3) := dk_160 0 50 (dk_at dksX2_sums_1 5 rfl rfl)
theorem dX2_sums_30 : decode cX2_sums 30 = .ok (.aload_n 0, 1) := dk_42 (dk_at dksX2_sums_1 8 rfl rfl)
theorem dX2_sums_31 : decode cX2_sums 31 = .ok (.invokevirtual 173, 3) := dk_182 0 173 (dk_at dksX2_sums_1 9 rfl rfl)
theorem dX2_sums_34 : decode cX2_sums 34 = .ok (.bipush 43, 2) := dk_16 43 (dk_at dksX2_sums_1 12 rfl rfl)
theorem dX2_sums_36 : decode cX2_sums 36 = .ok (.if_icmp .ne 7, 3) := dk_160 0 7 (dk_at dksX2_sums_1 14 rfl rfl)
theorem dX2_sums_39 : decode cX2_sums 39 = .ok (.iconst 1, 1) := dk_4 (dk_at dksX2_sums_1 17 rfl rfl)
theorem dX2_sums_40 : decode cX2_sums 40 = .ok (.goto 4, 3) := dk_167 0 4 (dk_at dksX2_sums_1 18 rfl rfl)
theorem dX2_sums_43 : decode cX2_sums 43 = .ok (.iconst 0, 1) := dk_3 (dk_at dksX2_sums_1 21 rfl rfl)
theorem dX2_sums_44 : decode cX2_sums 44 = .ok (.istore_n 2, 1) := dk_61 (dk_at dksX2_sums_1 22 rfl rfl)
theorem dX2_sums_45 : decode cX2_sums 45 = .ok (.aload_n 0, 1) := dk_42 (dk_at dksX2_sums_1 23 rfl rfl)
theorem dX2_sums_46 : decode cX2_sums 46 = .ok (.dup, 1) := dk_89 (dk_at dksX2_sums_2 0 rfl rfl)
theorem dX2_sums_47 : decode cX2_sums 47 = .ok (.getfield 161, 3) := dk_180 0 161 (dk_at dksX2_sums_2 1 rfl rfl)
theorem dX2_sums_50 : decode cX2_sums 50 = .ok (.iconst 1, 1) := dk_4 (dk_at dksX2_sums_2 4 rfl rfl)
theorem dX2_sums_51 : decode cX2_sums 51 = .ok (.iadd, 1) := dk_96 (dk_at dksX2_sums_2 5 rfl rfl)
theorem dX2_sums_52 : decode cX2_sums 52 = .ok (.putfield 161, 3) := dk_181 0 161 (dk_at dksX2_sums_2 6 rfl rfl)
theorem dX2_sums_55 : decode cX2_sums 55 = .ok (.aload_n 0, 1) := dk_42 (dk_at dksX2_sums_2 9 rfl rfl)
theorem dX2_sums_56 : decode cX2_sums 56 = .ok (.invokevirtual 188, 3) := dk_182 0 188 (dk_at dksX2_sums_2 10 rfl rfl)
theorem dX2_sums_59 : decode cX2_sums 59 = .ok (.istore_n 3, 1) := dk_62 (dk_at dksX2_sums_2 13 rfl rfl)
theorem dX2_sums_60 : decode cX2_sums 60 = .ok (.iload_n 2, 1) := dk_28 (dk_at dksX2_sums_2 14 rfl rfl)
theorem dX2_sums_61 : decode cX2_sums 61 = .ok (.ifCond .eq 9, 3) := dk_153 0 9 (dk_at dksX2_sums_2 15 rfl rfl)
theorem dX2_sums_64 : decode cX2_sums 64 = .ok (.iload_n 1, 1) := dk_27 (dk_at dksX2_sums_2 18 rfl rfl)
theorem dX2_sums_65 : decode cX2_sums 65 = .ok (.iload_n 3, 1) := dk_29 (dk_at dksX2_sums_2 19 rfl rfl)
theorem dX2_sums_66 : decode cX2_sums 66 = .ok (.iadd, 1) := dk_96 (dk_at dksX2_sums_2 20 rfl rfl)
theorem dX2_sums_67 : decode cX2_sums 67 = .ok (.goto 6, 3) := dk_167 0 6 (dk_at dksX2_sums_2 21 rfl rfl)
theorem dX2_sums_70 : decode cX2_sums 70 = .ok (.iload_n 1, 1) := dk_27 (dk_at dksX2_sums_3 0 rfl rfl)
theorem dX2_sums_71 : decode cX2_sums 71 = .ok (.iload_n 3, 1) := dk_29 (dk_at dksX2_sums_3 1 rfl rfl)
theorem dX2_sums_72 : decode cX2_sums 72 = .ok (.isub, 1) := dk_100 (dk_at dksX2_sums_3 2 rfl rfl)
theorem dX2_sums_73 : decode cX2_sums 73 = .ok (.istore_n 1, 1) := dk_60 (dk_at dksX2_sums_3 3 rfl rfl)
theorem dX2_sums_74 : decode cX2_sums 74 = .ok (.goto (-69), 3) := dk_167 255 187 (dk_at dksX2_sums_3 4 rfl rfl)
theorem dX2_sums_77 : decode cX2_sums 77 = .ok (.iload_n 1, 1) := dk_27 (dk_at dksX2_sums_3 7 rfl rfl)
theorem dX2_sums_78 : decode cX2_sums 78 = .ok (.ireturn, 1) := dk_172 (dk_at dksX2_sums_3 8 rfl rfl)
abbrev cX2_product : ByteArray := prog_32_method_27_code
def yX2_product : MethodName := ⟨RX2, "product", "()I"⟩
def dkwX2_product_4 : List UInt8 := [27, 172]
abbrev dktX2_product_4 : List UInt8 := dkwX2_product_4 ++ []
def dkwX2_product_3 : List UInt8 := [28, 16, 47, 160, 0, 9, 27, 29, 108, 167, 0, 6, 27, 29, 112, 60, 42, 182, 0, 173, 61, 167, 255, 175]
abbrev dktX2_product_3 : List UInt8 := dkwX2_product_3 ++ dktX2_product_4
def dkwX2_product_2 : List UInt8 := [182, 0, 191, 62, 28, 16, 42, 160, 0, 9, 27, 29, 104, 167, 0, 26, 29, 154, 0, 7, 3, 167, 0, 18]
abbrev dktX2_product_2 : List UInt8 := dkwX2_product_2 ++ dktX2_product_3
def dkwX2_product_1 : List UInt8 := [16, 47, 159, 0, 9, 28, 16, 37, 160, 0, 62, 42, 89, 180, 0, 161, 4, 96, 181, 0, 161, 42]
abbrev dktX2_product_1 : List UInt8 := dkwX2_product_1 ++ dktX2_product_2
def dkwX2_product_0 : List UInt8 := [42, 182, 0, 191, 60, 42, 182, 0, 173, 61, 42, 180, 0, 170, 156, 0, 80, 28, 16, 42, 159, 0, 15, 28]
abbrev dktX2_product_0 : List UInt8 := dkwX2_product_0 ++ dktX2_product_1
theorem dksX2_product_0 : cX2_product.data.toList.drop 0 = dktX2_product_0 := by decide +kernel
theorem dksX2_product_1 : cX2_product.data.toList.drop 24 = dktX2_product_1 := dk_seg dksX2_product_0 24 rfl rfl
theorem dksX2_product_2 : cX2_product.data.toList.drop 46 = dktX2_product_2 := dk_seg dksX2_product_1 22 rfl rfl
theorem dksX2_product_3 : cX2_product.data.toList.drop 70 = dktX2_product_3 := dk_seg dksX2_product_2 24 rfl rfl
theorem dksX2_product_4 : cX2_product.data.toList.drop 94 = dktX2_product_4 := dk_seg dksX2_product_3 24 rfl rfl
theorem dX2_product_0 : decode cX2_product 0 = .ok (.aload_n 0, 1) := dk_42 (dk_at dksX2_product_0 0 rfl rfl)
theorem dX2_product_1 : decode cX2_product 1 = .ok (.invokevirtual 191, 3) := dk_182 0 191 (dk_at dksX2_product_0 1 rfl rfl)
theorem dX2_product_4 : decode cX2_product 4 = .ok (.istore_n 1, 1) := dk_60 (dk_at dksX2_product_0 4 rfl rfl)
theorem dX2_product_5 : decode cX2_product 5 = .ok (.aload_n 0, 1) := dk_42 (dk_at dksX2_product_0 5 rfl rfl)
theorem dX2_product_6 : decode cX2_product 6 = .ok (.invokevirtual 173, 3) := dk_182 0 173 (dk_at dksX2_product_0 6 rfl rfl)
theorem dX2_product_9 : decode cX2_product 9 = .ok (.istore_n 2, 1) := dk_61 (dk_at dksX2_product_0 9 rfl rfl)
theorem dX2_product_10 : decode cX2_product 10 = .ok (.aload_n 0, 1) := dk_42 (dk_at dksX2_product_0 10 rfl rfl)
theorem dX2_product_11 : decode cX2_product 11 = .ok (.getfield 170, 3) := dk_180 0 170 (dk_at dksX2_product_0 11 rfl rfl)
theorem dX2_product_14 : decode cX2_product 14 = .ok (.ifCond .ge 80, 3) := dk_156 0 80 (dk_at dksX2_product_0 14 rfl rfl)
theorem dX2_product_17 : decode cX2_product 17 = .ok (.iload_n 2, 1) := dk_28 (dk_at dksX2_product_0 17 rfl rfl)
theorem dX2_product_18 : decode cX2_product 18 = .ok (.bipush 42, 2) := dk_16 42 (dk_at dksX2_product_0 18 rfl rfl)
theorem dX2_product_20 : decode cX2_product 20 = .ok (.if_icmp .eq 15, 3) := dk_159 0 15 (dk_at dksX2_product_0 20 rfl rfl)
theorem dX2_product_23 : decode cX2_product 23 = .ok (.iload_n 2, 1) := dk_28 (dk_at dksX2_product_0 23 rfl rfl)
theorem dX2_product_24 : decode cX2_product 24 = .ok (.bipush 47, 2) := dk_16 47 (dk_at dksX2_product_1 0 rfl rfl)
theorem dX2_product_26 : decode cX2_product 26 = .ok (.if_icmp .eq 9, 3) := dk_159 0 9 (dk_at dksX2_product_1 2 rfl rfl)
theorem dX2_product_29 : decode cX2_product 29 = .ok (.iload_n 2, 1) := dk_28 (dk_at dksX2_product_1 5 rfl rfl)
theorem dX2_product_30 : decode cX2_product 30 = .ok (.bipush 37, 2) := dk_16 37 (dk_at dksX2_product_1 6 rfl rfl)
theorem dX2_product_32 : decode cX2_product 32 = .ok (.if_icmp .ne 62, 3) := dk_160 0 62 (dk_at dksX2_product_1 8 rfl rfl)
theorem dX2_product_35 : decode cX2_product 35 = .ok (.aload_n 0, 1) := dk_42 (dk_at dksX2_product_1 11 rfl rfl)
theorem dX2_product_36 : decode cX2_product 36 = .ok (.dup, 1) := dk_89 (dk_at dksX2_product_1 12 rfl rfl)
theorem dX2_product_37 : decode cX2_product 37 = .ok (.getfield 161, 3) := dk_180 0 161 (dk_at dksX2_product_1 13 rfl rfl)
theorem dX2_product_40 : decode cX2_product 40 = .ok (.iconst 1, 1) := dk_4 (dk_at dksX2_product_1 16 rfl rfl)
theorem dX2_product_41 : decode cX2_product 41 = .ok (.iadd, 1) := dk_96 (dk_at dksX2_product_1 17 rfl rfl)
theorem dX2_product_42 : decode cX2_product 42 = .ok (.putfield 161, 3) := dk_181 0 161 (dk_at dksX2_product_1 18 rfl rfl)
theorem dX2_product_45 : decode cX2_product 45 = .ok (.aload_n 0, 1) := dk_42 (dk_at dksX2_product_1 21 rfl rfl)
theorem dX2_product_46 : decode cX2_product 46 = .ok (.invokevirtual 191, 3) := dk_182 0 191 (dk_at dksX2_product_2 0 rfl rfl)
theorem dX2_product_49 : decode cX2_product 49 = .ok (.istore_n 3, 1) := dk_62 (dk_at dksX2_product_2 3 rfl rfl)
theorem dX2_product_50 : decode cX2_product 50 = .ok (.iload_n 2, 1) := dk_28 (dk_at dksX2_product_2 4 rfl rfl)
theorem dX2_product_51 : decode cX2_product 51 = .ok (.bipush 42, 2) := dk_16 42 (dk_at dksX2_product_2 5 rfl rfl)
theorem dX2_product_53 : decode cX2_product 53 = .ok (.if_icmp .ne 9, 3) := dk_160 0 9 (dk_at dksX2_product_2 7 rfl rfl)
theorem dX2_product_56 : decode cX2_product 56 = .ok (.iload_n 1, 1) := dk_27 (dk_at dksX2_product_2 10 rfl rfl)
theorem dX2_product_57 : decode cX2_product 57 = .ok (.iload_n 3, 1) := dk_29 (dk_at dksX2_product_2 11 rfl rfl)
theorem dX2_product_58 : decode cX2_product 58 = .ok (.imul, 1) := dk_104 (dk_at dksX2_product_2 12 rfl rfl)
theorem dX2_product_59 : decode cX2_product 59 = .ok (.goto 26, 3) := dk_167 0 26 (dk_at dksX2_product_2 13 rfl rfl)
theorem dX2_product_62 : decode cX2_product 62 = .ok (.iload_n 3, 1) := dk_29 (dk_at dksX2_product_2 16 rfl rfl)
theorem dX2_product_63 : decode cX2_product 63 = .ok (.ifCond .ne 7, 3) := dk_154 0 7 (dk_at dksX2_product_2 17 rfl rfl)
theorem dX2_product_66 : decode cX2_product 66 = .ok (.iconst 0, 1) := dk_3 (dk_at dksX2_product_2 20 rfl rfl)
theorem dX2_product_67 : decode cX2_product 67 = .ok (.goto 18, 3) := dk_167 0 18 (dk_at dksX2_product_2 21 rfl rfl)
theorem dX2_product_70 : decode cX2_product 70 = .ok (.iload_n 2, 1) := dk_28 (dk_at dksX2_product_3 0 rfl rfl)
theorem dX2_product_71 : decode cX2_product 71 = .ok (.bipush 47, 2) := dk_16 47 (dk_at dksX2_product_3 1 rfl rfl)
theorem dX2_product_73 : decode cX2_product 73 = .ok (.if_icmp .ne 9, 3) := dk_160 0 9 (dk_at dksX2_product_3 3 rfl rfl)
theorem dX2_product_76 : decode cX2_product 76 = .ok (.iload_n 1, 1) := dk_27 (dk_at dksX2_product_3 6 rfl rfl)
theorem dX2_product_77 : decode cX2_product 77 = .ok (.iload_n 3, 1) := dk_29 (dk_at dksX2_product_3 7 rfl rfl)
theorem dX2_product_78 : decode cX2_product 78 = .ok (.idiv, 1) := dk_108 (dk_at dksX2_product_3 8 rfl rfl)
theorem dX2_product_79 : decode cX2_product 79 = .ok (.goto 6, 3) := dk_167 0 6 (dk_at dksX2_product_3 9 rfl rfl)
theorem dX2_product_82 : decode cX2_product 82 = .ok (.iload_n 1, 1) := dk_27 (dk_at dksX2_product_3 12 rfl rfl)
theorem dX2_product_83 : decode cX2_product 83 = .ok (.iload_n 3, 1) := dk_29 (dk_at dksX2_product_3 13 rfl rfl)
theorem dX2_product_84 : decode cX2_product 84 = .ok (.irem, 1) := dk_112 (dk_at dksX2_product_3 14 rfl rfl)
theorem dX2_product_85 : decode cX2_product 85 = .ok (.istore_n 1, 1) := dk_60 (dk_at dksX2_product_3 15 rfl rfl)
theorem dX2_product_86 : decode cX2_product 86 = .ok (.aload_n 0, 1) := dk_42 (dk_at dksX2_product_3 16 rfl rfl)
theorem dX2_product_87 : decode cX2_product 87 = .ok (.invokevirtual 173, 3) := dk_182 0 173 (dk_at dksX2_product_3 17 rfl rfl)
theorem dX2_product_90 : decode cX2_product 90 = .ok (.istore_n 2, 1) := dk_61 (dk_at dksX2_product_3 20 rfl rfl)
theorem dX2_product_91 : decode cX2_product 91 = .ok (.goto (-81), 3) := dk_167 255 175 (dk_at dksX2_product_3 21 rfl rfl)
theorem dX2_product_94 : decode cX2_product 94 = .ok (.iload_n 1, 1) := dk_27 (dk_at dksX2_product_4 0 rfl rfl)
theorem dX2_product_95 : decode cX2_product 95 = .ok (.ireturn, 1) := dk_172 (dk_at dksX2_product_4 1 rfl rfl)
abbrev cX2_one : ByteArray := prog_32_method_29_code
def yX2_one : MethodName := ⟨RX2, "one", "()I"⟩
def dkwX2_one_10 : List UInt8 := [182, 0, 197, 167, 0, 4, 29, 172]
abbrev dktX2_one_10 : List UInt8 := dkwX2_one_10 ++ []
def dkwX2_one_9 : List UInt8 := [62, 132, 4, 1, 42, 89, 180, 0, 161, 4, 96, 181, 0, 161, 167, 255, 206, 21, 4, 154, 0, 10, 42]
abbrev dktX2_one_9 : List UInt8 := dkwX2_one_9 ++ dktX2_one_10
def dkwX2_one_8 : List UInt8 := [161, 0, 41, 42, 182, 0, 173, 16, 57, 163, 0, 32, 16, 10, 29, 104, 42, 182, 0, 173, 96, 16, 48, 100]
abbrev dktX2_one_8 : List UInt8 := dkwX2_one_8 ++ dktX2_one_9
def dkwX2_one_7 : List UInt8 := [42, 180, 0, 46, 28, 46, 172, 3, 62, 3, 54, 4, 21, 4, 7, 162, 0, 50, 42, 182, 0, 173, 16, 48]
abbrev dktX2_one_7 : List UInt8 := dkwX2_one_7 ++ dktX2_one_8
def dkwX2_one_6 : List UInt8 := [167, 0, 4, 3, 172, 27, 184, 0, 203, 61, 28, 155, 0, 20, 42, 89, 180, 0, 161, 4, 96, 181, 0, 161]
abbrev dktX2_one_6 : List UInt8 := dkwX2_one_6 ++ dktX2_one_7
def dkwX2_one_5 : List UInt8 := [160, 0, 7, 28, 167, 0, 23, 27, 16, 45, 160, 0, 8, 28, 116, 167, 0, 12, 28, 154, 0, 7, 4]
abbrev dktX2_one_5 : List UInt8 := dkwX2_one_5 ++ dktX2_one_6
def dkwX2_one_4 : List UInt8 := [182, 0, 180, 154, 0, 8, 42, 182, 0, 197, 172, 42, 89, 180, 0, 194, 4, 100, 181, 0, 194, 27, 16, 40]
abbrev dktX2_one_4 : List UInt8 := dkwX2_one_4 ++ dktX2_one_5
def dkwX2_one_3 : List UInt8 := [160, 0, 10, 42, 182, 0, 200, 167, 0, 7, 42, 182, 0, 191, 61, 27, 16, 40, 160, 0, 17, 42, 16, 41]
abbrev dktX2_one_3 : List UInt8 := dkwX2_one_3 ++ dktX2_one_4
def dkwX2_one_2 : List UInt8 := [89, 180, 0, 194, 4, 96, 181, 0, 194, 42, 89, 180, 0, 161, 4, 96, 181, 0, 161, 27, 16, 40]
abbrev dktX2_one_2 : List UInt8 := dkwX2_one_2 ++ dktX2_one_3
def dkwX2_one_1 : List UInt8 := [159, 0, 9, 27, 16, 40, 160, 0, 116, 42, 180, 0, 194, 16, 6, 160, 0, 8, 42, 182, 0, 197, 172, 42]
abbrev dktX2_one_1 : List UInt8 := dkwX2_one_1 ++ dktX2_one_2
def dkwX2_one_0 : List UInt8 := [42, 180, 0, 170, 155, 0, 5, 3, 172, 42, 182, 0, 173, 60, 27, 16, 33, 159, 0, 15, 27, 16, 45]
abbrev dktX2_one_0 : List UInt8 := dkwX2_one_0 ++ dktX2_one_1
theorem dksX2_one_0 : cX2_one.data.toList.drop 0 = dktX2_one_0 := by decide +kernel
theorem dksX2_one_1 : cX2_one.data.toList.drop 23 = dktX2_one_1 := dk_seg dksX2_one_0 23 rfl rfl
theorem dksX2_one_2 : cX2_one.data.toList.drop 47 = dktX2_one_2 := dk_seg dksX2_one_1 24 rfl rfl
theorem dksX2_one_3 : cX2_one.data.toList.drop 69 = dktX2_one_3 := dk_seg dksX2_one_2 22 rfl rfl
theorem dksX2_one_4 : cX2_one.data.toList.drop 93 = dktX2_one_4 := dk_seg dksX2_one_3 24 rfl rfl
theorem dksX2_one_5 : cX2_one.data.toList.drop 117 = dktX2_one_5 := dk_seg dksX2_one_4 24 rfl rfl
theorem dksX2_one_6 : cX2_one.data.toList.drop 140 = dktX2_one_6 := dk_seg dksX2_one_5 23 rfl rfl
theorem dksX2_one_7 : cX2_one.data.toList.drop 164 = dktX2_one_7 := dk_seg dksX2_one_6 24 rfl rfl
theorem dksX2_one_8 : cX2_one.data.toList.drop 188 = dktX2_one_8 := dk_seg dksX2_one_7 24 rfl rfl
theorem dksX2_one_9 : cX2_one.data.toList.drop 212 = dktX2_one_9 := dk_seg dksX2_one_8 24 rfl rfl
theorem dksX2_one_10 : cX2_one.data.toList.drop 235 = dktX2_one_10 := dk_seg dksX2_one_9 23 rfl rfl
theorem dX2_one_0 : decode cX2_one 0 = .ok (.aload_n 0, 1) := dk_42 (dk_at dksX2_one_0 0 rfl rfl)
theorem dX2_one_1 : decode cX2_one 1 = .ok (.getfield 170, 3) := dk_180 0 170 (dk_at dksX2_one_0 1 rfl rfl)
theorem dX2_one_4 : decode cX2_one 4 = .ok (.ifCond .lt 5, 3) := dk_155 0 5 (dk_at dksX2_one_0 4 rfl rfl)
theorem dX2_one_7 : decode cX2_one 7 = .ok (.iconst 0, 1) := dk_3 (dk_at dksX2_one_0 7 rfl rfl)
theorem dX2_one_8 : decode cX2_one 8 = .ok (.ireturn, 1) := dk_172 (dk_at dksX2_one_0 8 rfl rfl)
theorem dX2_one_9 : decode cX2_one 9 = .ok (.aload_n 0, 1) := dk_42 (dk_at dksX2_one_0 9 rfl rfl)
theorem dX2_one_10 : decode cX2_one 10 = .ok (.invokevirtual 173, 3) := dk_182 0 173 (dk_at dksX2_one_0 10 rfl rfl)
theorem dX2_one_13 : decode cX2_one 13 = .ok (.istore_n 1, 1) := dk_60 (dk_at dksX2_one_0 13 rfl rfl)
theorem dX2_one_14 : decode cX2_one 14 = .ok (.iload_n 1, 1) := dk_27 (dk_at dksX2_one_0 14 rfl rfl)
theorem dX2_one_15 : decode cX2_one 15 = .ok (.bipush 33, 2) := dk_16 33 (dk_at dksX2_one_0 15 rfl rfl)
theorem dX2_one_17 : decode cX2_one 17 = .ok (.if_icmp .eq 15, 3) := dk_159 0 15 (dk_at dksX2_one_0 17 rfl rfl)
theorem dX2_one_20 : decode cX2_one 20 = .ok (.iload_n 1, 1) := dk_27 (dk_at dksX2_one_0 20 rfl rfl)
theorem dX2_one_21 : decode cX2_one 21 = .ok (.bipush 45, 2) := dk_16 45 (dk_at dksX2_one_0 21 rfl rfl)
theorem dX2_one_23 : decode cX2_one 23 = .ok (.if_icmp .eq 9, 3) := dk_159 0 9 (dk_at dksX2_one_1 0 rfl rfl)
theorem dX2_one_26 : decode cX2_one 26 = .ok (.iload_n 1, 1) := dk_27 (dk_at dksX2_one_1 3 rfl rfl)
theorem dX2_one_27 : decode cX2_one 27 = .ok (.bipush 40, 2) := dk_16 40 (dk_at dksX2_one_1 4 rfl rfl)
theorem dX2_one_29 : decode cX2_one 29 = .ok (.if_icmp .ne 116, 3) := dk_160 0 116 (dk_at dksX2_one_1 6 rfl rfl)
theorem dX2_one_32 : decode cX2_one 32 = .ok (.aload_n 0, 1) := dk_42 (dk_at dksX2_one_1 9 rfl rfl)
theorem dX2_one_33 : decode cX2_one 33 = .ok (.getfield 194, 3) := dk_180 0 194 (dk_at dksX2_one_1 10 rfl rfl)
theorem dX2_one_36 : decode cX2_one 36 = .ok (.bipush 6, 2) := dk_16 6 (dk_at dksX2_one_1 13 rfl rfl)
theorem dX2_one_38 : decode cX2_one 38 = .ok (.if_icmp .ne 8, 3) := dk_160 0 8 (dk_at dksX2_one_1 15 rfl rfl)
theorem dX2_one_41 : decode cX2_one 41 = .ok (.aload_n 0, 1) := dk_42 (dk_at dksX2_one_1 18 rfl rfl)
theorem dX2_one_42 : decode cX2_one 42 = .ok (.invokevirtual 197, 3) := dk_182 0 197 (dk_at dksX2_one_1 19 rfl rfl)
theorem dX2_one_45 : decode cX2_one 45 = .ok (.ireturn, 1) := dk_172 (dk_at dksX2_one_1 22 rfl rfl)
theorem dX2_one_46 : decode cX2_one 46 = .ok (.aload_n 0, 1) := dk_42 (dk_at dksX2_one_1 23 rfl rfl)
theorem dX2_one_47 : decode cX2_one 47 = .ok (.dup, 1) := dk_89 (dk_at dksX2_one_2 0 rfl rfl)
theorem dX2_one_48 : decode cX2_one 48 = .ok (.getfield 194, 3) := dk_180 0 194 (dk_at dksX2_one_2 1 rfl rfl)
theorem dX2_one_51 : decode cX2_one 51 = .ok (.iconst 1, 1) := dk_4 (dk_at dksX2_one_2 4 rfl rfl)
theorem dX2_one_52 : decode cX2_one 52 = .ok (.iadd, 1) := dk_96 (dk_at dksX2_one_2 5 rfl rfl)
theorem dX2_one_53 : decode cX2_one 53 = .ok (.putfield 194, 3) := dk_181 0 194 (dk_at dksX2_one_2 6 rfl rfl)
theorem dX2_one_56 : decode cX2_one 56 = .ok (.aload_n 0, 1) := dk_42 (dk_at dksX2_one_2 9 rfl rfl)
theorem dX2_one_57 : decode cX2_one 57 = .ok (.dup, 1) := dk_89 (dk_at dksX2_one_2 10 rfl rfl)
theorem dX2_one_58 : decode cX2_one 58 = .ok (.getfield 161, 3) := dk_180 0 161 (dk_at dksX2_one_2 11 rfl rfl)
theorem dX2_one_61 : decode cX2_one 61 = .ok (.iconst 1, 1) := dk_4 (dk_at dksX2_one_2 14 rfl rfl)
theorem dX2_one_62 : decode cX2_one 62 = .ok (.iadd, 1) := dk_96 (dk_at dksX2_one_2 15 rfl rfl)
theorem dX2_one_63 : decode cX2_one 63 = .ok (.putfield 161, 3) := dk_181 0 161 (dk_at dksX2_one_2 16 rfl rfl)
theorem dX2_one_66 : decode cX2_one 66 = .ok (.iload_n 1, 1) := dk_27 (dk_at dksX2_one_2 19 rfl rfl)
theorem dX2_one_67 : decode cX2_one 67 = .ok (.bipush 40, 2) := dk_16 40 (dk_at dksX2_one_2 20 rfl rfl)
theorem dX2_one_69 : decode cX2_one 69 = .ok (.if_icmp .ne 10, 3) := dk_160 0 10 (dk_at dksX2_one_3 0 rfl rfl)
theorem dX2_one_72 : decode cX2_one 72 = .ok (.aload_n 0, 1) := dk_42 (dk_at dksX2_one_3 3 rfl rfl)
theorem dX2_one_73 : decode cX2_one 73 = .ok (.invokevirtual 200, 3) := dk_182 0 200 (dk_at dksX2_one_3 4 rfl rfl)
theorem dX2_one_76 : decode cX2_one 76 = .ok (.goto 7, 3) := dk_167 0 7 (dk_at dksX2_one_3 7 rfl rfl)
theorem dX2_one_79 : decode cX2_one 79 = .ok (.aload_n 0, 1) := dk_42 (dk_at dksX2_one_3 10 rfl rfl)
theorem dX2_one_80 : decode cX2_one 80 = .ok (.invokevirtual 191, 3) := dk_182 0 191 (dk_at dksX2_one_3 11 rfl rfl)
theorem dX2_one_83 : decode cX2_one 83 = .ok (.istore_n 2, 1) := dk_61 (dk_at dksX2_one_3 14 rfl rfl)
theorem dX2_one_84 : decode cX2_one 84 = .ok (.iload_n 1, 1) := dk_27 (dk_at dksX2_one_3 15 rfl rfl)
theorem dX2_one_85 : decode cX2_one 85 = .ok (.bipush 40, 2) := dk_16 40 (dk_at dksX2_one_3 16 rfl rfl)
theorem dX2_one_87 : decode cX2_one 87 = .ok (.if_icmp .ne 17, 3) := dk_160 0 17 (dk_at dksX2_one_3 18 rfl rfl)
theorem dX2_one_90 : decode cX2_one 90 = .ok (.aload_n 0, 1) := dk_42 (dk_at dksX2_one_3 21 rfl rfl)
theorem dX2_one_91 : decode cX2_one 91 = .ok (.bipush 41, 2) := dk_16 41 (dk_at dksX2_one_3 22 rfl rfl)
theorem dX2_one_93 : decode cX2_one 93 = .ok (.invokevirtual 180, 3) := dk_182 0 180 (dk_at dksX2_one_4 0 rfl rfl)
theorem dX2_one_96 : decode cX2_one 96 = .ok (.ifCond .ne 8, 3) := dk_154 0 8 (dk_at dksX2_one_4 3 rfl rfl)
theorem dX2_one_99 : decode cX2_one 99 = .ok (.aload_n 0, 1) := dk_42 (dk_at dksX2_one_4 6 rfl rfl)
theorem dX2_one_100 : decode cX2_one 100 = .ok (.invokevirtual 197, 3) := dk_182 0 197 (dk_at dksX2_one_4 7 rfl rfl)
theorem dX2_one_103 : decode cX2_one 103 = .ok (.ireturn, 1) := dk_172 (dk_at dksX2_one_4 10 rfl rfl)
theorem dX2_one_104 : decode cX2_one 104 = .ok (.aload_n 0, 1) := dk_42 (dk_at dksX2_one_4 11 rfl rfl)
theorem dX2_one_105 : decode cX2_one 105 = .ok (.dup, 1) := dk_89 (dk_at dksX2_one_4 12 rfl rfl)
theorem dX2_one_106 : decode cX2_one 106 = .ok (.getfield 194, 3) := dk_180 0 194 (dk_at dksX2_one_4 13 rfl rfl)
theorem dX2_one_109 : decode cX2_one 109 = .ok (.iconst 1, 1) := dk_4 (dk_at dksX2_one_4 16 rfl rfl)
theorem dX2_one_110 : decode cX2_one 110 = .ok (.isub, 1) := dk_100 (dk_at dksX2_one_4 17 rfl rfl)
theorem dX2_one_111 : decode cX2_one 111 = .ok (.putfield 194, 3) := dk_181 0 194 (dk_at dksX2_one_4 18 rfl rfl)
theorem dX2_one_114 : decode cX2_one 114 = .ok (.iload_n 1, 1) := dk_27 (dk_at dksX2_one_4 21 rfl rfl)
theorem dX2_one_115 : decode cX2_one 115 = .ok (.bipush 40, 2) := dk_16 40 (dk_at dksX2_one_4 22 rfl rfl)
theorem dX2_one_117 : decode cX2_one 117 = .ok (.if_icmp .ne 7, 3) := dk_160 0 7 (dk_at dksX2_one_5 0 rfl rfl)
theorem dX2_one_120 : decode cX2_one 120 = .ok (.iload_n 2, 1) := dk_28 (dk_at dksX2_one_5 3 rfl rfl)
theorem dX2_one_121 : decode cX2_one 121 = .ok (.goto 23, 3) := dk_167 0 23 (dk_at dksX2_one_5 4 rfl rfl)
theorem dX2_one_124 : decode cX2_one 124 = .ok (.iload_n 1, 1) := dk_27 (dk_at dksX2_one_5 7 rfl rfl)
theorem dX2_one_125 : decode cX2_one 125 = .ok (.bipush 45, 2) := dk_16 45 (dk_at dksX2_one_5 8 rfl rfl)
theorem dX2_one_127 : decode cX2_one 127 = .ok (.if_icmp .ne 8, 3) := dk_160 0 8 (dk_at dksX2_one_5 10 rfl rfl)
theorem dX2_one_130 : decode cX2_one 130 = .ok (.iload_n 2, 1) := dk_28 (dk_at dksX2_one_5 13 rfl rfl)
theorem dX2_one_131 : decode cX2_one 131 = .ok (.ineg, 1) := dk_116 (dk_at dksX2_one_5 14 rfl rfl)
theorem dX2_one_132 : decode cX2_one 132 = .ok (.goto 12, 3) := dk_167 0 12 (dk_at dksX2_one_5 15 rfl rfl)
theorem dX2_one_135 : decode cX2_one 135 = .ok (.iload_n 2, 1) := dk_28 (dk_at dksX2_one_5 18 rfl rfl)
theorem dX2_one_136 : decode cX2_one 136 = .ok (.ifCond .ne 7, 3) := dk_154 0 7 (dk_at dksX2_one_5 19 rfl rfl)
theorem dX2_one_139 : decode cX2_one 139 = .ok (.iconst 1, 1) := dk_4 (dk_at dksX2_one_5 22 rfl rfl)
theorem dX2_one_140 : decode cX2_one 140 = .ok (.goto 4, 3) := dk_167 0 4 (dk_at dksX2_one_6 0 rfl rfl)
theorem dX2_one_143 : decode cX2_one 143 = .ok (.iconst 0, 1) := dk_3 (dk_at dksX2_one_6 3 rfl rfl)
theorem dX2_one_144 : decode cX2_one 144 = .ok (.ireturn, 1) := dk_172 (dk_at dksX2_one_6 4 rfl rfl)
theorem dX2_one_145 : decode cX2_one 145 = .ok (.iload_n 1, 1) := dk_27 (dk_at dksX2_one_6 5 rfl rfl)
theorem dX2_one_146 : decode cX2_one 146 = .ok (.invokestatic 203, 3) := dk_184 0 203 (dk_at dksX2_one_6 6 rfl rfl)
theorem dX2_one_149 : decode cX2_one 149 = .ok (.istore_n 2, 1) := dk_61 (dk_at dksX2_one_6 9 rfl rfl)
theorem dX2_one_150 : decode cX2_one 150 = .ok (.iload_n 2, 1) := dk_28 (dk_at dksX2_one_6 10 rfl rfl)
theorem dX2_one_151 : decode cX2_one 151 = .ok (.ifCond .lt 20, 3) := dk_155 0 20 (dk_at dksX2_one_6 11 rfl rfl)
theorem dX2_one_154 : decode cX2_one 154 = .ok (.aload_n 0, 1) := dk_42 (dk_at dksX2_one_6 14 rfl rfl)
theorem dX2_one_155 : decode cX2_one 155 = .ok (.dup, 1) := dk_89 (dk_at dksX2_one_6 15 rfl rfl)
theorem dX2_one_156 : decode cX2_one 156 = .ok (.getfield 161, 3) := dk_180 0 161 (dk_at dksX2_one_6 16 rfl rfl)
theorem dX2_one_159 : decode cX2_one 159 = .ok (.iconst 1, 1) := dk_4 (dk_at dksX2_one_6 19 rfl rfl)
theorem dX2_one_160 : decode cX2_one 160 = .ok (.iadd, 1) := dk_96 (dk_at dksX2_one_6 20 rfl rfl)
theorem dX2_one_161 : decode cX2_one 161 = .ok (.putfield 161, 3) := dk_181 0 161 (dk_at dksX2_one_6 21 rfl rfl)
theorem dX2_one_164 : decode cX2_one 164 = .ok (.aload_n 0, 1) := dk_42 (dk_at dksX2_one_7 0 rfl rfl)
theorem dX2_one_165 : decode cX2_one 165 = .ok (.getfield 46, 3) := dk_180 0 46 (dk_at dksX2_one_7 1 rfl rfl)
theorem dX2_one_168 : decode cX2_one 168 = .ok (.iload_n 2, 1) := dk_28 (dk_at dksX2_one_7 4 rfl rfl)
theorem dX2_one_169 : decode cX2_one 169 = .ok (.iaload, 1) := dk_46 (dk_at dksX2_one_7 5 rfl rfl)
theorem dX2_one_170 : decode cX2_one 170 = .ok (.ireturn, 1) := dk_172 (dk_at dksX2_one_7 6 rfl rfl)
theorem dX2_one_171 : decode cX2_one 171 = .ok (.iconst 0, 1) := dk_3 (dk_at dksX2_one_7 7 rfl rfl)
theorem dX2_one_172 : decode cX2_one 172 = .ok (.istore_n 3, 1) := dk_62 (dk_at dksX2_one_7 8 rfl rfl)
theorem dX2_one_173 : decode cX2_one 173 = .ok (.iconst 0, 1) := dk_3 (dk_at dksX2_one_7 9 rfl rfl)
theorem dX2_one_174 : decode cX2_one 174 = .ok (.istore 4, 2) := dk_54 4 (dk_at dksX2_one_7 10 rfl rfl)
theorem dX2_one_176 : decode cX2_one 176 = .ok (.iload 4, 2) := dk_21 4 (dk_at dksX2_one_7 12 rfl rfl)
theorem dX2_one_178 : decode cX2_one 178 = .ok (.iconst 4, 1) := dk_7 (dk_at dksX2_one_7 14 rfl rfl)
theorem dX2_one_179 : decode cX2_one 179 = .ok (.if_icmp .ge 50, 3) := dk_162 0 50 (dk_at dksX2_one_7 15 rfl rfl)
theorem dX2_one_182 : decode cX2_one 182 = .ok (.aload_n 0, 1) := dk_42 (dk_at dksX2_one_7 18 rfl rfl)
theorem dX2_one_183 : decode cX2_one 183 = .ok (.invokevirtual 173, 3) := dk_182 0 173 (dk_at dksX2_one_7 19 rfl rfl)
theorem dX2_one_186 : decode cX2_one 186 = .ok (.bipush 48, 2) := dk_16 48 (dk_at dksX2_one_7 22 rfl rfl)
theorem dX2_one_188 : decode cX2_one 188 = .ok (.if_icmp .lt 41, 3) := dk_161 0 41 (dk_at dksX2_one_8 0 rfl rfl)
theorem dX2_one_191 : decode cX2_one 191 = .ok (.aload_n 0, 1) := dk_42 (dk_at dksX2_one_8 3 rfl rfl)
theorem dX2_one_192 : decode cX2_one 192 = .ok (.invokevirtual 173, 3) := dk_182 0 173 (dk_at dksX2_one_8 4 rfl rfl)
theorem dX2_one_195 : decode cX2_one 195 = .ok (.bipush 57, 2) := dk_16 57 (dk_at dksX2_one_8 7 rfl rfl)
theorem dX2_one_197 : decode cX2_one 197 = .ok (.if_icmp .gt 32, 3) := dk_163 0 32 (dk_at dksX2_one_8 9 rfl rfl)
theorem dX2_one_200 : decode cX2_one 200 = .ok (.bipush 10, 2) := dk_16 10 (dk_at dksX2_one_8 12 rfl rfl)
theorem dX2_one_202 : decode cX2_one 202 = .ok (.iload_n 3, 1) := dk_29 (dk_at dksX2_one_8 14 rfl rfl)
theorem dX2_one_203 : decode cX2_one 203 = .ok (.imul, 1) := dk_104 (dk_at dksX2_one_8 15 rfl rfl)
theorem dX2_one_204 : decode cX2_one 204 = .ok (.aload_n 0, 1) := dk_42 (dk_at dksX2_one_8 16 rfl rfl)
theorem dX2_one_205 : decode cX2_one 205 = .ok (.invokevirtual 173, 3) := dk_182 0 173 (dk_at dksX2_one_8 17 rfl rfl)
theorem dX2_one_208 : decode cX2_one 208 = .ok (.iadd, 1) := dk_96 (dk_at dksX2_one_8 20 rfl rfl)
theorem dX2_one_209 : decode cX2_one 209 = .ok (.bipush 48, 2) := dk_16 48 (dk_at dksX2_one_8 21 rfl rfl)
theorem dX2_one_211 : decode cX2_one 211 = .ok (.isub, 1) := dk_100 (dk_at dksX2_one_8 23 rfl rfl)
theorem dX2_one_212 : decode cX2_one 212 = .ok (.istore_n 3, 1) := dk_62 (dk_at dksX2_one_9 0 rfl rfl)
theorem dX2_one_213 : decode cX2_one 213 = .ok (.iinc 4 1, 3) := dk_132 4 1 (dk_at dksX2_one_9 1 rfl rfl)
theorem dX2_one_216 : decode cX2_one 216 = .ok (.aload_n 0, 1) := dk_42 (dk_at dksX2_one_9 4 rfl rfl)
theorem dX2_one_217 : decode cX2_one 217 = .ok (.dup, 1) := dk_89 (dk_at dksX2_one_9 5 rfl rfl)
theorem dX2_one_218 : decode cX2_one 218 = .ok (.getfield 161, 3) := dk_180 0 161 (dk_at dksX2_one_9 6 rfl rfl)
theorem dX2_one_221 : decode cX2_one 221 = .ok (.iconst 1, 1) := dk_4 (dk_at dksX2_one_9 9 rfl rfl)
theorem dX2_one_222 : decode cX2_one 222 = .ok (.iadd, 1) := dk_96 (dk_at dksX2_one_9 10 rfl rfl)
theorem dX2_one_223 : decode cX2_one 223 = .ok (.putfield 161, 3) := dk_181 0 161 (dk_at dksX2_one_9 11 rfl rfl)
theorem dX2_one_226 : decode cX2_one 226 = .ok (.goto (-50), 3) := dk_167 255 206 (dk_at dksX2_one_9 14 rfl rfl)
theorem dX2_one_229 : decode cX2_one 229 = .ok (.iload 4, 2) := dk_21 4 (dk_at dksX2_one_9 17 rfl rfl)
theorem dX2_one_231 : decode cX2_one 231 = .ok (.ifCond .ne 10, 3) := dk_154 0 10 (dk_at dksX2_one_9 19 rfl rfl)
theorem dX2_one_234 : decode cX2_one 234 = .ok (.aload_n 0, 1) := dk_42 (dk_at dksX2_one_9 22 rfl rfl)
theorem dX2_one_235 : decode cX2_one 235 = .ok (.invokevirtual 197, 3) := dk_182 0 197 (dk_at dksX2_one_10 0 rfl rfl)
theorem dX2_one_238 : decode cX2_one 238 = .ok (.goto 4, 3) := dk_167 0 4 (dk_at dksX2_one_10 3 rfl rfl)
theorem dX2_one_241 : decode cX2_one 241 = .ok (.iload_n 3, 1) := dk_29 (dk_at dksX2_one_10 6 rfl rfl)
theorem dX2_one_242 : decode cX2_one 242 = .ok (.ireturn, 1) := dk_172 (dk_at dksX2_one_10 7 rfl rfl)
abbrev cX2_byteAt : ByteArray := prog_32_method_20_code
def yX2_byteAt : MethodName := ⟨RX2, "byteAt", "()I"⟩
def dkwX2_byteAt_2 : List UInt8 := [3, 172]
abbrev dktX2_byteAt_2 : List UInt8 := dkwX2_byteAt_2 ++ []
def dkwX2_byteAt_1 : List UInt8 := [180, 0, 161, 46, 167, 0, 21, 42, 180, 0, 40, 42, 180, 0, 167, 42, 180, 0, 161, 96, 46, 167, 0, 4]
abbrev dktX2_byteAt_1 : List UInt8 := dkwX2_byteAt_1 ++ dktX2_byteAt_2
def dkwX2_byteAt_0 : List UInt8 := [42, 180, 0, 161, 42, 180, 0, 164, 162, 0, 39, 42, 180, 0, 167, 156, 0, 15, 42, 180, 0, 37, 42]
abbrev dktX2_byteAt_0 : List UInt8 := dkwX2_byteAt_0 ++ dktX2_byteAt_1
theorem dksX2_byteAt_0 : cX2_byteAt.data.toList.drop 0 = dktX2_byteAt_0 := by decide +kernel
theorem dksX2_byteAt_1 : cX2_byteAt.data.toList.drop 23 = dktX2_byteAt_1 := dk_seg dksX2_byteAt_0 23 rfl rfl
theorem dksX2_byteAt_2 : cX2_byteAt.data.toList.drop 47 = dktX2_byteAt_2 := dk_seg dksX2_byteAt_1 24 rfl rfl
theorem dX2_byteAt_0 : decode cX2_byteAt 0 = .ok (.aload_n 0, 1) := dk_42 (dk_at dksX2_byteAt_0 0 rfl rfl)
theorem dX2_byteAt_1 : decode cX2_byteAt 1 = .ok (.getfield 161, 3) := dk_180 0 161 (dk_at dksX2_byteAt_0 1 rfl rfl)
theorem dX2_byteAt_4 : decode cX2_byteAt 4 = .ok (.aload_n 0, 1) := dk_42 (dk_at dksX2_byteAt_0 4 rfl rfl)
theorem dX2_byteAt_5 : decode cX2_byteAt 5 = .ok (.getfield 164, 3) := dk_180 0 164 (dk_at dksX2_byteAt_0 5 rfl rfl)
theorem dX2_byteAt_8 : decode cX2_byteAt 8 = .ok (.if_icmp .ge 39, 3) := dk_162 0 39 (dk_at dksX2_byteAt_0 8 rfl rfl)
theorem dX2_byteAt_11 : decode cX2_byteAt 11 = .ok (.aload_n 0, 1) := dk_42 (dk_at dksX2_byteAt_0 11 rfl rfl)
theorem dX2_byteAt_12 : decode cX2_byteAt 12 = .ok (.getfield 167, 3) := dk_180 0 167 (dk_at dksX2_byteAt_0 12 rfl rfl)
theorem dX2_byteAt_15 : decode cX2_byteAt 15 = .ok (.ifCond .ge 15, 3) := dk_156 0 15 (dk_at dksX2_byteAt_0 15 rfl rfl)
theorem dX2_byteAt_18 : decode cX2_byteAt 18 = .ok (.aload_n 0, 1) := dk_42 (dk_at dksX2_byteAt_0 18 rfl rfl)
theorem dX2_byteAt_19 : decode cX2_byteAt 19 = .ok (.getfield 37, 3) := dk_180 0 37 (dk_at dksX2_byteAt_0 19 rfl rfl)
theorem dX2_byteAt_22 : decode cX2_byteAt 22 = .ok (.aload_n 0, 1) := dk_42 (dk_at dksX2_byteAt_0 22 rfl rfl)
theorem dX2_byteAt_23 : decode cX2_byteAt 23 = .ok (.getfield 161, 3) := dk_180 0 161 (dk_at dksX2_byteAt_1 0 rfl rfl)
theorem dX2_byteAt_26 : decode cX2_byteAt 26 = .ok (.iaload, 1) := dk_46 (dk_at dksX2_byteAt_1 3 rfl rfl)
theorem dX2_byteAt_27 : decode cX2_byteAt 27 = .ok (.goto 21, 3) := dk_167 0 21 (dk_at dksX2_byteAt_1 4 rfl rfl)
theorem dX2_byteAt_30 : decode cX2_byteAt 30 = .ok (.aload_n 0, 1) := dk_42 (dk_at dksX2_byteAt_1 7 rfl rfl)
theorem dX2_byteAt_31 : decode cX2_byteAt 31 = .ok (.getfield 40, 3) := dk_180 0 40 (dk_at dksX2_byteAt_1 8 rfl rfl)
theorem dX2_byteAt_34 : decode cX2_byteAt 34 = .ok (.aload_n 0, 1) := dk_42 (dk_at dksX2_byteAt_1 11 rfl rfl)
theorem dX2_byteAt_35 : decode cX2_byteAt 35 = .ok (.getfield 167, 3) := dk_180 0 167 (dk_at dksX2_byteAt_1 12 rfl rfl)
theorem dX2_byteAt_38 : decode cX2_byteAt 38 = .ok (.aload_n 0, 1) := dk_42 (dk_at dksX2_byteAt_1 15 rfl rfl)
theorem dX2_byteAt_39 : decode cX2_byteAt 39 = .ok (.getfield 161, 3) := dk_180 0 161 (dk_at dksX2_byteAt_1 16 rfl rfl)
theorem dX2_byteAt_42 : decode cX2_byteAt 42 = .ok (.iadd, 1) := dk_96 (dk_at dksX2_byteAt_1 19 rfl rfl)
theorem dX2_byteAt_43 : decode cX2_byteAt 43 = .ok (.iaload, 1) := dk_46 (dk_at dksX2_byteAt_1 20 rfl rfl)
theorem dX2_byteAt_44 : decode cX2_byteAt 44 = .ok (.goto 4, 3) := dk_167 0 4 (dk_at dksX2_byteAt_1 21 rfl rfl)
theorem dX2_byteAt_47 : decode cX2_byteAt 47 = .ok (.iconst 0, 1) := dk_3 (dk_at dksX2_byteAt_2 0 rfl rfl)
theorem dX2_byteAt_48 : decode cX2_byteAt 48 = .ok (.ireturn, 1) := dk_172 (dk_at dksX2_byteAt_2 1 rfl rfl)
abbrev cX2_fails : ByteArray := prog_32_method_21_code
def yX2_fails : MethodName := ⟨RX2, "fails", "()I"⟩
def dkwX2_fails_0 : List UInt8 := [42, 42, 180, 0, 170, 156, 0, 10, 42, 180, 0, 161, 167, 0, 7, 42, 180, 0, 170, 181, 0, 170, 3, 172]
abbrev dktX2_fails_0 : List UInt8 := dkwX2_fails_0 ++ []
theorem dksX2_fails_0 : cX2_fails.data.toList.drop 0 = dktX2_fails_0 := by decide +kernel
theorem dX2_fails_0 : decode cX2_fails 0 = .ok (.aload_n 0, 1) := dk_42 (dk_at dksX2_fails_0 0 rfl rfl)
theorem dX2_fails_1 : decode cX2_fails 1 = .ok (.aload_n 0, 1) := dk_42 (dk_at dksX2_fails_0 1 rfl rfl)
theorem dX2_fails_2 : decode cX2_fails 2 = .ok (.getfield 170, 3) := dk_180 0 170 (dk_at dksX2_fails_0 2 rfl rfl)
theorem dX2_fails_5 : decode cX2_fails 5 = .ok (.ifCond .ge 10, 3) := dk_156 0 10 (dk_at dksX2_fails_0 5 rfl rfl)
theorem dX2_fails_8 : decode cX2_fails 8 = .ok (.aload_n 0, 1) := dk_42 (dk_at dksX2_fails_0 8 rfl rfl)
theorem dX2_fails_9 : decode cX2_fails 9 = .ok (.getfield 161, 3) := dk_180 0 161 (dk_at dksX2_fails_0 9 rfl rfl)
theorem dX2_fails_12 : decode cX2_fails 12 = .ok (.goto 7, 3) := dk_167 0 7 (dk_at dksX2_fails_0 12 rfl rfl)
theorem dX2_fails_15 : decode cX2_fails 15 = .ok (.aload_n 0, 1) := dk_42 (dk_at dksX2_fails_0 15 rfl rfl)
theorem dX2_fails_16 : decode cX2_fails 16 = .ok (.getfield 170, 3) := dk_180 0 170 (dk_at dksX2_fails_0 16 rfl rfl)
theorem dX2_fails_19 : decode cX2_fails 19 = .ok (.putfield 170, 3) := dk_181 0 170 (dk_at dksX2_fails_0 19 rfl rfl)
theorem dX2_fails_22 : decode cX2_fails 22 = .ok (.iconst 0, 1) := dk_3 (dk_at dksX2_fails_0 22 rfl rfl)
theorem dX2_fails_23 : decode cX2_fails 23 = .ok (.ireturn, 1) := dk_172 (dk_at dksX2_fails_0 23 rfl rfl)
abbrev cX2_takes : ByteArray := prog_32_method_22_code
def yX2_takes : MethodName := ⟨RX2, "takes", "(I)Z"⟩
def dkwX2_takes_1 : List UInt8 := [181, 0, 161, 4, 172]
abbrev dktX2_takes_1 : List UInt8 := dkwX2_takes_1 ++ []
def dkwX2_takes_0 : List UInt8 := [42, 180, 0, 170, 156, 0, 11, 42, 182, 0, 173, 27, 159, 0, 5, 3, 172, 42, 89, 180, 0, 161, 4, 96]
abbrev dktX2_takes_0 : List UInt8 := dkwX2_takes_0 ++ dktX2_takes_1
theorem dksX2_takes_0 : cX2_takes.data.toList.drop 0 = dktX2_takes_0 := by decide +kernel
theorem dksX2_takes_1 : cX2_takes.data.toList.drop 24 = dktX2_takes_1 := dk_seg dksX2_takes_0 24 rfl rfl
theorem dX2_takes_0 : decode cX2_takes 0 = .ok (.aload_n 0, 1) := dk_42 (dk_at dksX2_takes_0 0 rfl rfl)
theorem dX2_takes_1 : decode cX2_takes 1 = .ok (.getfield 170, 3) := dk_180 0 170 (dk_at dksX2_takes_0 1 rfl rfl)
theorem dX2_takes_4 : decode cX2_takes 4 = .ok (.ifCond .ge 11, 3) := dk_156 0 11 (dk_at dksX2_takes_0 4 rfl rfl)
theorem dX2_takes_7 : decode cX2_takes 7 = .ok (.aload_n 0, 1) := dk_42 (dk_at dksX2_takes_0 7 rfl rfl)
theorem dX2_takes_8 : decode cX2_takes 8 = .ok (.invokevirtual 173, 3) := dk_182 0 173 (dk_at dksX2_takes_0 8 rfl rfl)
theorem dX2_takes_11 : decode cX2_takes 11 = .ok (.iload_n 1, 1) := dk_27 (dk_at dksX2_takes_0 11 rfl rfl)
theorem dX2_takes_12 : decode cX2_takes 12 = .ok (.if_icmp .eq 5, 3) := dk_159 0 5 (dk_at dksX2_takes_0 12 rfl rfl)
theorem dX2_takes_15 : decode cX2_takes 15 = .ok (.iconst 0, 1) := dk_3 (dk_at dksX2_takes_0 15 rfl rfl)
theorem dX2_takes_16 : decode cX2_takes 16 = .ok (.ireturn, 1) := dk_172 (dk_at dksX2_takes_0 16 rfl rfl)
theorem dX2_takes_17 : decode cX2_takes 17 = .ok (.aload_n 0, 1) := dk_42 (dk_at dksX2_takes_0 17 rfl rfl)
theorem dX2_takes_18 : decode cX2_takes 18 = .ok (.dup, 1) := dk_89 (dk_at dksX2_takes_0 18 rfl rfl)
theorem dX2_takes_19 : decode cX2_takes 19 = .ok (.getfield 161, 3) := dk_180 0 161 (dk_at dksX2_takes_0 19 rfl rfl)
theorem dX2_takes_22 : decode cX2_takes 22 = .ok (.iconst 1, 1) := dk_4 (dk_at dksX2_takes_0 22 rfl rfl)
theorem dX2_takes_23 : decode cX2_takes 23 = .ok (.iadd, 1) := dk_96 (dk_at dksX2_takes_0 23 rfl rfl)
theorem dX2_takes_24 : decode cX2_takes 24 = .ok (.putfield 161, 3) := dk_181 0 161 (dk_at dksX2_takes_1 0 rfl rfl)
theorem dX2_takes_27 : decode cX2_takes 27 = .ok (.iconst 1, 1) := dk_4 (dk_at dksX2_takes_1 3 rfl rfl)
theorem dX2_takes_28 : decode cX2_takes 28 = .ok (.ireturn, 1) := dk_172 (dk_at dksX2_takes_1 4 rfl rfl)
abbrev cX2_nameOf : ByteArray := prog_32_method_28_code
def yX2_nameOf : MethodName := ⟨RX2, "nameOf", "(I)I"⟩
def dkwX2_nameOf_2 : List UInt8 := [3, 172, 4, 172, 5, 172, 6, 172, 7, 172, 8, 172, 16, 6, 172, 2, 172]
abbrev dktX2_nameOf_2 : List UInt8 := dkwX2_nameOf_2 ++ []
def dkwX2_nameOf_1 : List UInt8 := [170, 0, 0, 0, 0, 0, 106, 0, 0, 0, 98, 0, 0, 0, 116, 0, 0, 0, 101, 0, 0, 0, 95, 0, 0, 0, 106, 0, 0, 0, 106, 0, 0, 0, 106, 0, 0, 0, 106, 0, 0, 0, 106, 0, 0, 0, 106, 0, 0, 0, 106, 0, 0, 0, 93, 0, 0, 0, 106, 0, 0, 0, 106, 0, 0, 0, 103, 0, 0, 0, 106, 0, 0, 0, 97, 0, 0, 0, 106, 0, 0, 0, 106, 0, 0, 0, 99, 0, 0, 0, 91]
abbrev dktX2_nameOf_1 : List UInt8 := dkwX2_nameOf_1 ++ dktX2_nameOf_2
def dkwX2_nameOf_0 : List UInt8 := [26]
abbrev dktX2_nameOf_0 : List UInt8 := dkwX2_nameOf_0 ++ dktX2_nameOf_1
theorem dksX2_nameOf_0 : cX2_nameOf.data.toList.drop 0 = dktX2_nameOf_0 := by decide +kernel
theorem dksX2_nameOf_1 : cX2_nameOf.data.toList.drop 1 = dktX2_nameOf_1 := dk_seg dksX2_nameOf_0 1 rfl rfl
theorem dksX2_nameOf_2 : cX2_nameOf.data.toList.drop 92 = dktX2_nameOf_2 := dk_seg dksX2_nameOf_1 91 rfl rfl
theorem dX2_nameOf_0 : decode cX2_nameOf 0 = .ok (.iload_n 0, 1) := dk_26 (dk_at dksX2_nameOf_0 0 rfl rfl)
theorem dX2_nameOf_1 : decode cX2_nameOf 1 = .ok (.tableswitch 106 98 116 #[101, 95, 106, 106, 106, 106, 106, 106, 106, 93, 106, 106, 103, 106, 97, 106, 106, 99, 91], 91) := by decide +kernel
theorem dX2_nameOf_92 : decode cX2_nameOf 92 = .ok (.iconst 0, 1) := dk_3 (dk_at dksX2_nameOf_2 0 rfl rfl)
theorem dX2_nameOf_93 : decode cX2_nameOf 93 = .ok (.ireturn, 1) := dk_172 (dk_at dksX2_nameOf_2 1 rfl rfl)
theorem dX2_nameOf_94 : decode cX2_nameOf 94 = .ok (.iconst 1, 1) := dk_4 (dk_at dksX2_nameOf_2 2 rfl rfl)
theorem dX2_nameOf_95 : decode cX2_nameOf 95 = .ok (.ireturn, 1) := dk_172 (dk_at dksX2_nameOf_2 3 rfl rfl)
theorem dX2_nameOf_96 : decode cX2_nameOf 96 = .ok (.iconst 2, 1) := dk_5 (dk_at dksX2_nameOf_2 4 rfl rfl)
theorem dX2_nameOf_97 : decode cX2_nameOf 97 = .ok (.ireturn, 1) := dk_172 (dk_at dksX2_nameOf_2 5 rfl rfl)
theorem dX2_nameOf_98 : decode cX2_nameOf 98 = .ok (.iconst 3, 1) := dk_6 (dk_at dksX2_nameOf_2 6 rfl rfl)
theorem dX2_nameOf_99 : decode cX2_nameOf 99 = .ok (.ireturn, 1) := dk_172 (dk_at dksX2_nameOf_2 7 rfl rfl)
theorem dX2_nameOf_100 : decode cX2_nameOf 100 = .ok (.iconst 4, 1) := dk_7 (dk_at dksX2_nameOf_2 8 rfl rfl)
theorem dX2_nameOf_101 : decode cX2_nameOf 101 = .ok (.ireturn, 1) := dk_172 (dk_at dksX2_nameOf_2 9 rfl rfl)
theorem dX2_nameOf_102 : decode cX2_nameOf 102 = .ok (.iconst 5, 1) := dk_8 (dk_at dksX2_nameOf_2 10 rfl rfl)
theorem dX2_nameOf_103 : decode cX2_nameOf 103 = .ok (.ireturn, 1) := dk_172 (dk_at dksX2_nameOf_2 11 rfl rfl)
theorem dX2_nameOf_104 : decode cX2_nameOf 104 = .ok (.bipush 6, 2) := dk_16 6 (dk_at dksX2_nameOf_2 12 rfl rfl)
theorem dX2_nameOf_106 : decode cX2_nameOf 106 = .ok (.ireturn, 1) := dk_172 (dk_at dksX2_nameOf_2 14 rfl rfl)
theorem dX2_nameOf_107 : decode cX2_nameOf 107 = .ok (.iconst (-1), 1) := dk_2 (dk_at dksX2_nameOf_2 15 rfl rfl)
theorem dX2_nameOf_108 : decode cX2_nameOf 108 = .ok (.ireturn, 1) := dk_172 (dk_at dksX2_nameOf_2 16 rfl rfl)
abbrev cX2_worth : ByteArray := prog_32_method_33_code
def yX2_worth : MethodName := ⟨RX2, "worth", "(II)I"⟩
def dkwX2_worth_2 : List UInt8 := [182, 0, 209, 167, 0, 4, 2, 172]
abbrev dktX2_worth_2 : List UInt8 := dkwX2_worth_2 ++ []
def dkwX2_worth_1 : List UInt8 := [16, 10, 112, 133, 10, 20, 0, 147, 184, 0, 105, 153, 0, 19, 42, 27, 28, 16, 10, 108, 28, 16, 10, 112]
abbrev dktX2_worth_1 : List UInt8 := dkwX2_worth_1 ++ dktX2_worth_2
def dkwX2_worth_0 : List UInt8 := [42, 27, 182, 0, 144, 153, 0, 49, 28, 155, 0, 45, 42, 28, 16, 10, 108, 182, 0, 132, 153, 0, 34, 28]
abbrev dktX2_worth_0 : List UInt8 := dkwX2_worth_0 ++ dktX2_worth_1
theorem dksX2_worth_0 : cX2_worth.data.toList.drop 0 = dktX2_worth_0 := by decide +kernel
theorem dksX2_worth_1 : cX2_worth.data.toList.drop 24 = dktX2_worth_1 := dk_seg dksX2_worth_0 24 rfl rfl
theorem dksX2_worth_2 : cX2_worth.data.toList.drop 48 = dktX2_worth_2 := dk_seg dksX2_worth_1 24 rfl rfl
theorem dX2_worth_0 : decode cX2_worth 0 = .ok (.aload_n 0, 1) := dk_42 (dk_at dksX2_worth_0 0 rfl rfl)
theorem dX2_worth_1 : decode cX2_worth 1 = .ok (.iload_n 1, 1) := dk_27 (dk_at dksX2_worth_0 1 rfl rfl)
theorem dX2_worth_2 : decode cX2_worth 2 = .ok (.invokevirtual 144, 3) := dk_182 0 144 (dk_at dksX2_worth_0 2 rfl rfl)
theorem dX2_worth_5 : decode cX2_worth 5 = .ok (.ifCond .eq 49, 3) := dk_153 0 49 (dk_at dksX2_worth_0 5 rfl rfl)
theorem dX2_worth_8 : decode cX2_worth 8 = .ok (.iload_n 2, 1) := dk_28 (dk_at dksX2_worth_0 8 rfl rfl)
theorem dX2_worth_9 : decode cX2_worth 9 = .ok (.ifCond .lt 45, 3) := dk_155 0 45 (dk_at dksX2_worth_0 9 rfl rfl)
theorem dX2_worth_12 : decode cX2_worth 12 = .ok (.aload_n 0, 1) := dk_42 (dk_at dksX2_worth_0 12 rfl rfl)
theorem dX2_worth_13 : decode cX2_worth 13 = .ok (.iload_n 2, 1) := dk_28 (dk_at dksX2_worth_0 13 rfl rfl)
theorem dX2_worth_14 : decode cX2_worth 14 = .ok (.bipush 10, 2) := dk_16 10 (dk_at dksX2_worth_0 14 rfl rfl)
theorem dX2_worth_16 : decode cX2_worth 16 = .ok (.idiv, 1) := dk_108 (dk_at dksX2_worth_0 16 rfl rfl)
theorem dX2_worth_17 : decode cX2_worth 17 = .ok (.invokevirtual 132, 3) := dk_182 0 132 (dk_at dksX2_worth_0 17 rfl rfl)
theorem dX2_worth_20 : decode cX2_worth 20 = .ok (.ifCond .eq 34, 3) := dk_153 0 34 (dk_at dksX2_worth_0 20 rfl rfl)
theorem dX2_worth_23 : decode cX2_worth 23 = .ok (.iload_n 2, 1) := dk_28 (dk_at dksX2_worth_0 23 rfl rfl)
theorem dX2_worth_24 : decode cX2_worth 24 = .ok (.bipush 10, 2) := dk_16 10 (dk_at dksX2_worth_1 0 rfl rfl)
theorem dX2_worth_26 : decode cX2_worth 26 = .ok (.irem, 1) := dk_112 (dk_at dksX2_worth_1 2 rfl rfl)
theorem dX2_worth_27 : decode cX2_worth 27 = .ok (.i2l, 1) := dk_133 (dk_at dksX2_worth_1 3 rfl rfl)
theorem dX2_worth_28 : decode cX2_worth 28 = .ok (.lconst 1, 1) := dk_10 (dk_at dksX2_worth_1 4 rfl rfl)
theorem dX2_worth_29 : decode cX2_worth 29 = .ok (.ldc2_w 147, 3) := dk_20 0 147 (dk_at dksX2_worth_1 5 rfl rfl)
theorem dX2_worth_32 : decode cX2_worth 32 = .ok (.invokestatic 105, 3) := dk_184 0 105 (dk_at dksX2_worth_1 8 rfl rfl)
theorem dX2_worth_35 : decode cX2_worth 35 = .ok (.ifCond .eq 19, 3) := dk_153 0 19 (dk_at dksX2_worth_1 11 rfl rfl)
theorem dX2_worth_38 : decode cX2_worth 38 = .ok (.aload_n 0, 1) := dk_42 (dk_at dksX2_worth_1 14 rfl rfl)
theorem dX2_worth_39 : decode cX2_worth 39 = .ok (.iload_n 1, 1) := dk_27 (dk_at dksX2_worth_1 15 rfl rfl)
theorem dX2_worth_40 : decode cX2_worth 40 = .ok (.iload_n 2, 1) := dk_28 (dk_at dksX2_worth_1 16 rfl rfl)
theorem dX2_worth_41 : decode cX2_worth 41 = .ok (.bipush 10, 2) := dk_16 10 (dk_at dksX2_worth_1 17 rfl rfl)
theorem dX2_worth_43 : decode cX2_worth 43 = .ok (.idiv, 1) := dk_108 (dk_at dksX2_worth_1 19 rfl rfl)
theorem dX2_worth_44 : decode cX2_worth 44 = .ok (.iload_n 2, 1) := dk_28 (dk_at dksX2_worth_1 20 rfl rfl)
theorem dX2_worth_45 : decode cX2_worth 45 = .ok (.bipush 10, 2) := dk_16 10 (dk_at dksX2_worth_1 21 rfl rfl)
theorem dX2_worth_47 : decode cX2_worth 47 = .ok (.irem, 1) := dk_112 (dk_at dksX2_worth_1 23 rfl rfl)
theorem dX2_worth_48 : decode cX2_worth 48 = .ok (.invokevirtual 209, 3) := dk_182 0 209 (dk_at dksX2_worth_2 0 rfl rfl)
theorem dX2_worth_51 : decode cX2_worth 51 = .ok (.goto 4, 3) := dk_167 0 4 (dk_at dksX2_worth_2 3 rfl rfl)
theorem dX2_worth_54 : decode cX2_worth 54 = .ok (.iconst (-1), 1) := dk_2 (dk_at dksX2_worth_2 6 rfl rfl)
theorem dX2_worth_55 : decode cX2_worth 55 = .ok (.ireturn, 1) := dk_172 (dk_at dksX2_worth_2 7 rfl rfl)
abbrev cX2_worthOf : ByteArray := prog_32_method_32_code
def yX2_worthOf : MethodName := ⟨RX2, "worthOf", "(III)I"⟩
def dkwX2_worthOf_5 : List UInt8 := [17, 3, 231, 167, 0, 5, 21, 4, 172]
abbrev dktX2_worthOf_5 : List UInt8 := dkwX2_worthOf_5 ++ []
def dkwX2_worthOf_4 : List UInt8 := [46, 46, 182, 0, 206, 54, 4, 21, 4, 156, 0, 7, 3, 167, 0, 19, 21, 4, 17, 3, 231, 164, 0, 9]
abbrev dktX2_worthOf_4 : List UInt8 := dkwX2_worthOf_4 ++ dktX2_worthOf_5
def dkwX2_worthOf_3 : List UInt8 := [42, 180, 0, 102, 79, 42, 16, 120, 42, 180, 0, 31, 27, 46, 104, 42, 180, 0, 43, 42, 180, 0, 31, 27]
abbrev dktX2_worthOf_3 : List UInt8 := dkwX2_worthOf_3 ++ dktX2_worthOf_4
def dkwX2_worthOf_2 : List UInt8 := [180, 0, 46, 7, 27, 79, 42, 180, 0, 46, 8, 42, 180, 0, 28, 27, 46, 79, 42, 180, 0, 46, 16, 6]
abbrev dktX2_worthOf_2 : List UInt8 := dkwX2_worthOf_2 ++ dktX2_worthOf_3
def dkwX2_worthOf_1 : List UInt8 := [16, 6, 28, 96, 46, 79, 42, 180, 0, 46, 6, 42, 180, 0, 9, 16, 12, 28, 96, 46, 79, 42]
abbrev dktX2_worthOf_1 : List UInt8 := dkwX2_worthOf_1 ++ dktX2_worthOf_2
def dkwX2_worthOf_0 : List UInt8 := [42, 180, 0, 46, 3, 28, 79, 42, 180, 0, 46, 4, 29, 79, 42, 180, 0, 46, 5, 42, 180, 0, 9]
abbrev dktX2_worthOf_0 : List UInt8 := dkwX2_worthOf_0 ++ dktX2_worthOf_1
theorem dksX2_worthOf_0 : cX2_worthOf.data.toList.drop 0 = dktX2_worthOf_0 := by decide +kernel
theorem dksX2_worthOf_1 : cX2_worthOf.data.toList.drop 23 = dktX2_worthOf_1 := dk_seg dksX2_worthOf_0 23 rfl rfl
theorem dksX2_worthOf_2 : cX2_worthOf.data.toList.drop 45 = dktX2_worthOf_2 := dk_seg dksX2_worthOf_1 22 rfl rfl
theorem dksX2_worthOf_3 : cX2_worthOf.data.toList.drop 69 = dktX2_worthOf_3 := dk_seg dksX2_worthOf_2 24 rfl rfl
theorem dksX2_worthOf_4 : cX2_worthOf.data.toList.drop 93 = dktX2_worthOf_4 := dk_seg dksX2_worthOf_3 24 rfl rfl
theorem dksX2_worthOf_5 : cX2_worthOf.data.toList.drop 117 = dktX2_worthOf_5 := dk_seg dksX2_worthOf_4 24 rfl rfl
theorem dX2_worthOf_0 : decode cX2_worthOf 0 = .ok (.aload_n 0, 1) := dk_42 (dk_at dksX2_worthOf_0 0 rfl rfl)
theorem dX2_worthOf_1 : decode cX2_worthOf 1 = .ok (.getfield 46, 3) := dk_180 0 46 (dk_at dksX2_worthOf_0 1 rfl rfl)
theorem dX2_worthOf_4 : decode cX2_worthOf 4 = .ok (.iconst 0, 1) := dk_3 (dk_at dksX2_worthOf_0 4 rfl rfl)
theorem dX2_worthOf_5 : decode cX2_worthOf 5 = .ok (.iload_n 2, 1) := dk_28 (dk_at dksX2_worthOf_0 5 rfl rfl)
theorem dX2_worthOf_6 : decode cX2_worthOf 6 = .ok (.iastore, 1) := dk_79 (dk_at dksX2_worthOf_0 6 rfl rfl)
theorem dX2_worthOf_7 : decode cX2_worthOf 7 = .ok (.aload_n 0, 1) := dk_42 (dk_at dksX2_worthOf_0 7 rfl rfl)
theorem dX2_worthOf_8 : decode cX2_worthOf 8 = .ok (.getfield 46, 3) := dk_180 0 46 (dk_at dksX2_worthOf_0 8 rfl rfl)
theorem dX2_worthOf_11 : decode cX2_worthOf 11 = .ok (.iconst 1, 1) := dk_4 (dk_at dksX2_worthOf_0 11 rfl rfl)
theorem dX2_worthOf_12 : decode cX2_worthOf 12 = .ok (.iload_n 3, 1) := dk_29 (dk_at dksX2_worthOf_0 12 rfl rfl)
theorem dX2_worthOf_13 : decode cX2_worthOf 13 = .ok (.iastore, 1) := dk_79 (dk_at dksX2_worthOf_0 13 rfl rfl)
theorem dX2_worthOf_14 : decode cX2_worthOf 14 = .ok (.aload_n 0, 1) := dk_42 (dk_at dksX2_worthOf_0 14 rfl rfl)
theorem dX2_worthOf_15 : decode cX2_worthOf 15 = .ok (.getfield 46, 3) := dk_180 0 46 (dk_at dksX2_worthOf_0 15 rfl rfl)
theorem dX2_worthOf_18 : decode cX2_worthOf 18 = .ok (.iconst 2, 1) := dk_5 (dk_at dksX2_worthOf_0 18 rfl rfl)
theorem dX2_worthOf_19 : decode cX2_worthOf 19 = .ok (.aload_n 0, 1) := dk_42 (dk_at dksX2_worthOf_0 19 rfl rfl)
theorem dX2_worthOf_20 : decode cX2_worthOf 20 = .ok (.getfield 9, 3) := dk_180 0 9 (dk_at dksX2_worthOf_0 20 rfl rfl)
theorem dX2_worthOf_23 : decode cX2_worthOf 23 = .ok (.bipush 6, 2) := dk_16 6 (dk_at dksX2_worthOf_1 0 rfl rfl)
theorem dX2_worthOf_25 : decode cX2_worthOf 25 = .ok (.iload_n 2, 1) := dk_28 (dk_at dksX2_worthOf_1 2 rfl rfl)
theorem dX2_worthOf_26 : decode cX2_worthOf 26 = .ok (.iadd, 1) := dk_96 (dk_at dksX2_worthOf_1 3 rfl rfl)
theorem dX2_worthOf_27 : decode cX2_worthOf 27 = .ok (.iaload, 1) := dk_46 (dk_at dksX2_worthOf_1 4 rfl rfl)
theorem dX2_worthOf_28 : decode cX2_worthOf 28 = .ok (.iastore, 1) := dk_79 (dk_at dksX2_worthOf_1 5 rfl rfl)
theorem dX2_worthOf_29 : decode cX2_worthOf 29 = .ok (.aload_n 0, 1) := dk_42 (dk_at dksX2_worthOf_1 6 rfl rfl)
theorem dX2_worthOf_30 : decode cX2_worthOf 30 = .ok (.getfield 46, 3) := dk_180 0 46 (dk_at dksX2_worthOf_1 7 rfl rfl)
theorem dX2_worthOf_33 : decode cX2_worthOf 33 = .ok (.iconst 3, 1) := dk_6 (dk_at dksX2_worthOf_1 10 rfl rfl)
theorem dX2_worthOf_34 : decode cX2_worthOf 34 = .ok (.aload_n 0, 1) := dk_42 (dk_at dksX2_worthOf_1 11 rfl rfl)
theorem dX2_worthOf_35 : decode cX2_worthOf 35 = .ok (.getfield 9, 3) := dk_180 0 9 (dk_at dksX2_worthOf_1 12 rfl rfl)
theorem dX2_worthOf_38 : decode cX2_worthOf 38 = .ok (.bipush 12, 2) := dk_16 12 (dk_at dksX2_worthOf_1 15 rfl rfl)
theorem dX2_worthOf_40 : decode cX2_worthOf 40 = .ok (.iload_n 2, 1) := dk_28 (dk_at dksX2_worthOf_1 17 rfl rfl)
theorem dX2_worthOf_41 : decode cX2_worthOf 41 = .ok (.iadd, 1) := dk_96 (dk_at dksX2_worthOf_1 18 rfl rfl)
theorem dX2_worthOf_42 : decode cX2_worthOf 42 = .ok (.iaload, 1) := dk_46 (dk_at dksX2_worthOf_1 19 rfl rfl)
theorem dX2_worthOf_43 : decode cX2_worthOf 43 = .ok (.iastore, 1) := dk_79 (dk_at dksX2_worthOf_1 20 rfl rfl)
theorem dX2_worthOf_44 : decode cX2_worthOf 44 = .ok (.aload_n 0, 1) := dk_42 (dk_at dksX2_worthOf_1 21 rfl rfl)
theorem dX2_worthOf_45 : decode cX2_worthOf 45 = .ok (.getfield 46, 3) := dk_180 0 46 (dk_at dksX2_worthOf_2 0 rfl rfl)
theorem dX2_worthOf_48 : decode cX2_worthOf 48 = .ok (.iconst 4, 1) := dk_7 (dk_at dksX2_worthOf_2 3 rfl rfl)
theorem dX2_worthOf_49 : decode cX2_worthOf 49 = .ok (.iload_n 1, 1) := dk_27 (dk_at dksX2_worthOf_2 4 rfl rfl)
theorem dX2_worthOf_50 : decode cX2_worthOf 50 = .ok (.iastore, 1) := dk_79 (dk_at dksX2_worthOf_2 5 rfl rfl)
theorem dX2_worthOf_51 : decode cX2_worthOf 51 = .ok (.aload_n 0, 1) := dk_42 (dk_at dksX2_worthOf_2 6 rfl rfl)
theorem dX2_worthOf_52 : decode cX2_worthOf 52 = .ok (.getfield 46, 3) := dk_180 0 46 (dk_at dksX2_worthOf_2 7 rfl rfl)
theorem dX2_worthOf_55 : decode cX2_worthOf 55 = .ok (.iconst 5, 1) := dk_8 (dk_at dksX2_worthOf_2 10 rfl rfl)
theorem dX2_worthOf_56 : decode cX2_worthOf 56 = .ok (.aload_n 0, 1) := dk_42 (dk_at dksX2_worthOf_2 11 rfl rfl)
theorem dX2_worthOf_57 : decode cX2_worthOf 57 = .ok (.getfield 28, 3) := dk_180 0 28 (dk_at dksX2_worthOf_2 12 rfl rfl)
theorem dX2_worthOf_60 : decode cX2_worthOf 60 = .ok (.iload_n 1, 1) := dk_27 (dk_at dksX2_worthOf_2 15 rfl rfl)
theorem dX2_worthOf_61 : decode cX2_worthOf 61 = .ok (.iaload, 1) := dk_46 (dk_at dksX2_worthOf_2 16 rfl rfl)
theorem dX2_worthOf_62 : decode cX2_worthOf 62 = .ok (.iastore, 1) := dk_79 (dk_at dksX2_worthOf_2 17 rfl rfl)
theorem dX2_worthOf_63 : decode cX2_worthOf 63 = .ok (.aload_n 0, 1) := dk_42 (dk_at dksX2_worthOf_2 18 rfl rfl)
theorem dX2_worthOf_64 : decode cX2_worthOf 64 = .ok (.getfield 46, 3) := dk_180 0 46 (dk_at dksX2_worthOf_2 19 rfl rfl)
theorem dX2_worthOf_67 : decode cX2_worthOf 67 = .ok (.bipush 6, 2) := dk_16 6 (dk_at dksX2_worthOf_2 22 rfl rfl)
theorem dX2_worthOf_69 : decode cX2_worthOf 69 = .ok (.aload_n 0, 1) := dk_42 (dk_at dksX2_worthOf_3 0 rfl rfl)
theorem dX2_worthOf_70 : decode cX2_worthOf 70 = .ok (.getfield 102, 3) := dk_180 0 102 (dk_at dksX2_worthOf_3 1 rfl rfl)
theorem dX2_worthOf_73 : decode cX2_worthOf 73 = .ok (.iastore, 1) := dk_79 (dk_at dksX2_worthOf_3 4 rfl rfl)
theorem dX2_worthOf_74 : decode cX2_worthOf 74 = .ok (.aload_n 0, 1) := dk_42 (dk_at dksX2_worthOf_3 5 rfl rfl)
theorem dX2_worthOf_75 : decode cX2_worthOf 75 = .ok (.bipush 120, 2) := dk_16 120 (dk_at dksX2_worthOf_3 6 rfl rfl)
theorem dX2_worthOf_77 : decode cX2_worthOf 77 = .ok (.aload_n 0, 1) := dk_42 (dk_at dksX2_worthOf_3 8 rfl rfl)
theorem dX2_worthOf_78 : decode cX2_worthOf 78 = .ok (.getfield 31, 3) := dk_180 0 31 (dk_at dksX2_worthOf_3 9 rfl rfl)
theorem dX2_worthOf_81 : decode cX2_worthOf 81 = .ok (.iload_n 1, 1) := dk_27 (dk_at dksX2_worthOf_3 12 rfl rfl)
theorem dX2_worthOf_82 : decode cX2_worthOf 82 = .ok (.iaload, 1) := dk_46 (dk_at dksX2_worthOf_3 13 rfl rfl)
theorem dX2_worthOf_83 : decode cX2_worthOf 83 = .ok (.imul, 1) := dk_104 (dk_at dksX2_worthOf_3 14 rfl rfl)
theorem dX2_worthOf_84 : decode cX2_worthOf 84 = .ok (.aload_n 0, 1) := dk_42 (dk_at dksX2_worthOf_3 15 rfl rfl)
theorem dX2_worthOf_85 : decode cX2_worthOf 85 = .ok (.getfield 43, 3) := dk_180 0 43 (dk_at dksX2_worthOf_3 16 rfl rfl)
theorem dX2_worthOf_88 : decode cX2_worthOf 88 = .ok (.aload_n 0, 1) := dk_42 (dk_at dksX2_worthOf_3 19 rfl rfl)
theorem dX2_worthOf_89 : decode cX2_worthOf 89 = .ok (.getfield 31, 3) := dk_180 0 31 (dk_at dksX2_worthOf_3 20 rfl rfl)
theorem dX2_worthOf_92 : decode cX2_worthOf 92 = .ok (.iload_n 1, 1) := dk_27 (dk_at dksX2_worthOf_3 23 rfl rfl)
theorem dX2_worthOf_93 : decode cX2_worthOf 93 = .ok (.iaload, 1) := dk_46 (dk_at dksX2_worthOf_4 0 rfl rfl)
theorem dX2_worthOf_94 : decode cX2_worthOf 94 = .ok (.iaload, 1) := dk_46 (dk_at dksX2_worthOf_4 1 rfl rfl)
theorem dX2_worthOf_95 : decode cX2_worthOf 95 = .ok (.invokevirtual 206, 3) := dk_182 0 206 (dk_at dksX2_worthOf_4 2 rfl rfl)
theorem dX2_worthOf_98 : decode cX2_worthOf 98 = .ok (.istore 4, 2) := dk_54 4 (dk_at dksX2_worthOf_4 5 rfl rfl)
theorem dX2_worthOf_100 : decode cX2_worthOf 100 = .ok (.iload 4, 2) := dk_21 4 (dk_at dksX2_worthOf_4 7 rfl rfl)
theorem dX2_worthOf_102 : decode cX2_worthOf 102 = .ok (.ifCond .ge 7, 3) := dk_156 0 7 (dk_at dksX2_worthOf_4 9 rfl rfl)
theorem dX2_worthOf_105 : decode cX2_worthOf 105 = .ok (.iconst 0, 1) := dk_3 (dk_at dksX2_worthOf_4 12 rfl rfl)
theorem dX2_worthOf_106 : decode cX2_worthOf 106 = .ok (.goto 19, 3) := dk_167 0 19 (dk_at dksX2_worthOf_4 13 rfl rfl)
theorem dX2_worthOf_109 : decode cX2_worthOf 109 = .ok (.iload 4, 2) := dk_21 4 (dk_at dksX2_worthOf_4 16 rfl rfl)
theorem dX2_worthOf_111 : decode cX2_worthOf 111 = .ok (.sipush 999, 3) := dk_17 3 231 (dk_at dksX2_worthOf_4 18 rfl rfl)
theorem dX2_worthOf_114 : decode cX2_worthOf 114 = .ok (.if_icmp .le 9, 3) := dk_164 0 9 (dk_at dksX2_worthOf_4 21 rfl rfl)
theorem dX2_worthOf_117 : decode cX2_worthOf 117 = .ok (.sipush 999, 3) := dk_17 3 231 (dk_at dksX2_worthOf_5 0 rfl rfl)
theorem dX2_worthOf_120 : decode cX2_worthOf 120 = .ok (.goto 5, 3) := dk_167 0 5 (dk_at dksX2_worthOf_5 3 rfl rfl)
theorem dX2_worthOf_123 : decode cX2_worthOf 123 = .ok (.iload 4, 2) := dk_21 4 (dk_at dksX2_worthOf_5 6 rfl rfl)
theorem dX2_worthOf_125 : decode cX2_worthOf 125 = .ok (.ireturn, 1) := dk_172 (dk_at dksX2_worthOf_5 8 rfl rfl)
abbrev cX2_basket : ByteArray := prog_32_method_40_code
def yX2_basket : MethodName := ⟨RX2, "basket", "(II)I"⟩
def dkwX2_basket_2 : List UInt8 := [167, 0, 19, 28, 5, 160, 0, 10, 42, 180, 0, 235, 167, 0, 7, 42, 180, 0, 238, 172]
abbrev dktX2_basket_2 : List UInt8 := dkwX2_basket_2 ++ []
def dkwX2_basket_1 : List UInt8 := [182, 0, 244, 62, 28, 154, 0, 10, 42, 182, 0, 247, 167, 0, 31, 28, 4, 160, 0, 10, 42, 180, 0, 232]
abbrev dktX2_basket_1 : List UInt8 := dkwX2_basket_1 ++ dktX2_basket_2
def dkwX2_basket_0 : List UInt8 := [42, 27, 182, 0, 144, 153, 0, 15, 28, 133, 9, 20, 0, 147, 184, 0, 105, 154, 0, 5, 2, 172, 42, 27]
abbrev dktX2_basket_0 : List UInt8 := dkwX2_basket_0 ++ dktX2_basket_1
theorem dksX2_basket_0 : cX2_basket.data.toList.drop 0 = dktX2_basket_0 := by decide +kernel
theorem dksX2_basket_1 : cX2_basket.data.toList.drop 24 = dktX2_basket_1 := dk_seg dksX2_basket_0 24 rfl rfl
theorem dksX2_basket_2 : cX2_basket.data.toList.drop 48 = dktX2_basket_2 := dk_seg dksX2_basket_1 24 rfl rfl
theorem dX2_basket_0 : decode cX2_basket 0 = .ok (.aload_n 0, 1) := dk_42 (dk_at dksX2_basket_0 0 rfl rfl)
theorem dX2_basket_1 : decode cX2_basket 1 = .ok (.iload_n 1, 1) := dk_27 (dk_at dksX2_basket_0 1 rfl rfl)
theorem dX2_basket_2 : decode cX2_basket 2 = .ok (.invokevirtual 144, 3) := dk_182 0 144 (dk_at dksX2_basket_0 2 rfl rfl)
theorem dX2_basket_5 : decode cX2_basket 5 = .ok (.ifCond .eq 15, 3) := dk_153 0 15 (dk_at dksX2_basket_0 5 rfl rfl)
theorem dX2_basket_8 : decode cX2_basket 8 = .ok (.iload_n 2, 1) := dk_28 (dk_at dksX2_basket_0 8 rfl rfl)
theorem dX2_basket_9 : decode cX2_basket 9 = .ok (.i2l, 1) := dk_133 (dk_at dksX2_basket_0 9 rfl rfl)
theorem dX2_basket_10 : decode cX2_basket 10 = .ok (.lconst 0, 1) := dk_9 (dk_at dksX2_basket_0 10 rfl rfl)
theorem dX2_basket_11 : decode cX2_basket 11 = .ok (.ldc2_w 147, 3) := dk_20 0 147 (dk_at dksX2_basket_0 11 rfl rfl)
theorem dX2_basket_14 : decode cX2_basket 14 = .ok (.invokestatic 105, 3) := dk_184 0 105 (dk_at dksX2_basket_0 14 rfl rfl)
theorem dX2_basket_17 : decode cX2_basket 17 = .ok (.ifCond .ne 5, 3) := dk_154 0 5 (dk_at dksX2_basket_0 17 rfl rfl)
theorem dX2_basket_20 : decode cX2_basket 20 = .ok (.iconst (-1), 1) := dk_2 (dk_at dksX2_basket_0 20 rfl rfl)
theorem dX2_basket_21 : decode cX2_basket 21 = .ok (.ireturn, 1) := dk_172 (dk_at dksX2_basket_0 21 rfl rfl)
theorem dX2_basket_22 : decode cX2_basket 22 = .ok (.aload_n 0, 1) := dk_42 (dk_at dksX2_basket_0 22 rfl rfl)
theorem dX2_basket_23 : decode cX2_basket 23 = .ok (.iload_n 1, 1) := dk_27 (dk_at dksX2_basket_0 23 rfl rfl)
theorem dX2_basket_24 : decode cX2_basket 24 = .ok (.invokevirtual 244, 3) := dk_182 0 244 (dk_at dksX2_basket_1 0 rfl rfl)
theorem dX2_basket_27 : decode cX2_basket 27 = .ok (.istore_n 3, 1) := dk_62 (dk_at dksX2_basket_1 3 rfl rfl)
theorem dX2_basket_28 : decode cX2_basket 28 = .ok (.iload_n 2, 1) := dk_28 (dk_at dksX2_basket_1 4 rfl rfl)
theorem dX2_basket_29 : decode cX2_basket 29 = .ok (.ifCond .ne 10, 3) := dk_154 0 10 (dk_at dksX2_basket_1 5 rfl rfl)
theorem dX2_basket_32 : decode cX2_basket 32 = .ok (.aload_n 0, 1) := dk_42 (dk_at dksX2_basket_1 8 rfl rfl)
theorem dX2_basket_33 : decode cX2_basket 33 = .ok (.invokevirtual 247, 3) := dk_182 0 247 (dk_at dksX2_basket_1 9 rfl rfl)
theorem dX2_basket_36 : decode cX2_basket 36 = .ok (.goto 31, 3) := dk_167 0 31 (dk_at dksX2_basket_1 12 rfl rfl)
theorem dX2_basket_39 : decode cX2_basket 39 = .ok (.iload_n 2, 1) := dk_28 (dk_at dksX2_basket_1 15 rfl rfl)
theorem dX2_basket_40 : decode cX2_basket 40 = .ok (.iconst 1, 1) := dk_4 (dk_at dksX2_basket_1 16 rfl rfl)
theorem dX2_basket_41 : decode cX2_basket 41 = .ok (.if_icmp .ne 10, 3) := dk_160 0 10 (dk_at dksX2_basket_1 17 rfl rfl)
theorem dX2_basket_44 : decode cX2_basket 44 = .ok (.aload_n 0, 1) := dk_42 (dk_at dksX2_basket_1 20 rfl rfl)
theorem dX2_basket_45 : decode cX2_basket 45 = .ok (.getfield 232, 3) := dk_180 0 232 (dk_at dksX2_basket_1 21 rfl rfl)
theorem dX2_basket_48 : decode cX2_basket 48 = .ok (.goto 19, 3) := dk_167 0 19 (dk_at dksX2_basket_2 0 rfl rfl)
theorem dX2_basket_51 : decode cX2_basket 51 = .ok (.iload_n 2, 1) := dk_28 (dk_at dksX2_basket_2 3 rfl rfl)
theorem dX2_basket_52 : decode cX2_basket 52 = .ok (.iconst 2, 1) := dk_5 (dk_at dksX2_basket_2 4 rfl rfl)
theorem dX2_basket_53 : decode cX2_basket 53 = .ok (.if_icmp .ne 10, 3) := dk_160 0 10 (dk_at dksX2_basket_2 5 rfl rfl)
theorem dX2_basket_56 : decode cX2_basket 56 = .ok (.aload_n 0, 1) := dk_42 (dk_at dksX2_basket_2 8 rfl rfl)
theorem dX2_basket_57 : decode cX2_basket 57 = .ok (.getfield 235, 3) := dk_180 0 235 (dk_at dksX2_basket_2 9 rfl rfl)
theorem dX2_basket_60 : decode cX2_basket 60 = .ok (.goto 7, 3) := dk_167 0 7 (dk_at dksX2_basket_2 12 rfl rfl)
theorem dX2_basket_63 : decode cX2_basket 63 = .ok (.aload_n 0, 1) := dk_42 (dk_at dksX2_basket_2 15 rfl rfl)
theorem dX2_basket_64 : decode cX2_basket 64 = .ok (.getfield 238, 3) := dk_180 0 238 (dk_at dksX2_basket_2 16 rfl rfl)
theorem dX2_basket_67 : decode cX2_basket 67 = .ok (.ireturn, 1) := dk_172 (dk_at dksX2_basket_2 19 rfl rfl)
abbrev cX2_bestOf : ByteArray := prog_32_method_38_code
def yX2_bestOf : MethodName := ⟨RX2, "bestOf", "(I)I"⟩
def dkwX2_bestOf_0 : List UInt8 := [42, 27, 42, 27, 182, 0, 149, 42, 27, 182, 0, 153, 182, 0, 241, 172]
abbrev dktX2_bestOf_0 : List UInt8 := dkwX2_bestOf_0 ++ []
theorem dksX2_bestOf_0 : cX2_bestOf.data.toList.drop 0 = dktX2_bestOf_0 := by decide +kernel
theorem dX2_bestOf_0 : decode cX2_bestOf 0 = .ok (.aload_n 0, 1) := dk_42 (dk_at dksX2_bestOf_0 0 rfl rfl)
theorem dX2_bestOf_1 : decode cX2_bestOf 1 = .ok (.iload_n 1, 1) := dk_27 (dk_at dksX2_bestOf_0 1 rfl rfl)
theorem dX2_bestOf_2 : decode cX2_bestOf 2 = .ok (.aload_n 0, 1) := dk_42 (dk_at dksX2_bestOf_0 2 rfl rfl)
theorem dX2_bestOf_3 : decode cX2_bestOf 3 = .ok (.iload_n 1, 1) := dk_27 (dk_at dksX2_bestOf_0 3 rfl rfl)
theorem dX2_bestOf_4 : decode cX2_bestOf 4 = .ok (.invokevirtual 149, 3) := dk_182 0 149 (dk_at dksX2_bestOf_0 4 rfl rfl)
theorem dX2_bestOf_7 : decode cX2_bestOf 7 = .ok (.aload_n 0, 1) := dk_42 (dk_at dksX2_bestOf_0 7 rfl rfl)
theorem dX2_bestOf_8 : decode cX2_bestOf 8 = .ok (.iload_n 1, 1) := dk_27 (dk_at dksX2_bestOf_0 8 rfl rfl)
theorem dX2_bestOf_9 : decode cX2_bestOf 9 = .ok (.invokevirtual 153, 3) := dk_182 0 153 (dk_at dksX2_bestOf_0 9 rfl rfl)
theorem dX2_bestOf_12 : decode cX2_bestOf 12 = .ok (.invokevirtual 241, 3) := dk_182 0 241 (dk_at dksX2_bestOf_0 12 rfl rfl)
theorem dX2_bestOf_15 : decode cX2_bestOf 15 = .ok (.ireturn, 1) := dk_172 (dk_at dksX2_bestOf_0 15 rfl rfl)
abbrev cX2_findBest : ByteArray := prog_32_method_37_code
def yX2_findBest : MethodName := ⟨RX2, "findBest", "(III)I"⟩
def dkwX2_findBest_6 : List UInt8 := [42, 180, 0, 219, 181, 0, 238, 132, 5, 1, 167, 255, 119, 42, 21, 4, 182, 0, 229, 21, 4, 172]
abbrev dktX2_findBest_6 : List UInt8 := dkwX2_findBest_6 ++ []
def dkwX2_findBest_5 : List UInt8 := [153, 0, 31, 21, 5, 54, 4, 42, 42, 180, 0, 213, 181, 0, 232, 42, 42, 180, 0, 216, 181, 0, 235, 42]
abbrev dktX2_findBest_5 : List UInt8 := dkwX2_findBest_5 ++ dktX2_findBest_6
def dkwX2_findBest_4 : List UInt8 := [160, 0, 18, 42, 180, 0, 219, 42, 180, 0, 238, 162, 0, 7, 4, 167, 0, 4, 3, 54, 6, 21, 6]
abbrev dktX2_findBest_4 : List UInt8 := dkwX2_findBest_4 ++ dktX2_findBest_5
def dkwX2_findBest_3 : List UInt8 := [160, 0, 40, 42, 180, 0, 216, 42, 180, 0, 235, 161, 0, 25, 42, 180, 0, 216, 42, 180, 0, 235]
abbrev dktX2_findBest_3 : List UInt8 := dkwX2_findBest_3 ++ dktX2_findBest_4
def dkwX2_findBest_2 : List UInt8 := [155, 0, 58, 42, 180, 0, 213, 42, 180, 0, 232, 163, 0, 47, 42, 180, 0, 213, 42, 180, 0, 232]
abbrev dktX2_findBest_2 : List UInt8 := dkwX2_findBest_2 ++ dktX2_findBest_3
def dkwX2_findBest_1 : List UInt8 := [182, 0, 229, 42, 180, 0, 216, 28, 163, 0, 114, 42, 180, 0, 219, 29, 164, 0, 6, 167, 0, 103, 21, 4]
abbrev dktX2_findBest_1 : List UInt8 := dkwX2_findBest_1 ++ dktX2_findBest_2
def dkwX2_findBest_0 : List UInt8 := [42, 27, 182, 0, 222, 2, 54, 4, 3, 54, 5, 21, 5, 42, 182, 0, 226, 162, 0, 134, 42, 21, 5]
abbrev dktX2_findBest_0 : List UInt8 := dkwX2_findBest_0 ++ dktX2_findBest_1
theorem dksX2_findBest_0 : cX2_findBest.data.toList.drop 0 = dktX2_findBest_0 := by decide +kernel
theorem dksX2_findBest_1 : cX2_findBest.data.toList.drop 23 = dktX2_findBest_1 := dk_seg dksX2_findBest_0 23 rfl rfl
theorem dksX2_findBest_2 : cX2_findBest.data.toList.drop 47 = dktX2_findBest_2 := dk_seg dksX2_findBest_1 24 rfl rfl
theorem dksX2_findBest_3 : cX2_findBest.data.toList.drop 69 = dktX2_findBest_3 := dk_seg dksX2_findBest_2 22 rfl rfl
theorem dksX2_findBest_4 : cX2_findBest.data.toList.drop 91 = dktX2_findBest_4 := dk_seg dksX2_findBest_3 22 rfl rfl
theorem dksX2_findBest_5 : cX2_findBest.data.toList.drop 114 = dktX2_findBest_5 := dk_seg dksX2_findBest_4 23 rfl rfl
theorem dksX2_findBest_6 : cX2_findBest.data.toList.drop 138 = dktX2_findBest_6 := dk_seg dksX2_findBest_5 24 rfl rfl
theorem dX2_findBest_0 : decode cX2_findBest 0 = .ok (.aload_n 0, 1) := dk_42 (dk_at dksX2_findBest_0 0 rfl rfl)
theorem dX2_findBest_1 : decode cX2_findBest 1 = .ok (.iload_n 1, 1) := dk_27 (dk_at dksX2_findBest_0 1 rfl rfl)
theorem dX2_findBest_2 : decode cX2_findBest 2 = .ok (.invokevirtual 222, 3) := dk_182 0 222 (dk_at dksX2_findBest_0 2 rfl rfl)
theorem dX2_findBest_5 : decode cX2_findBest 5 = .ok (.iconst (-1), 1) := dk_2 (dk_at dksX2_findBest_0 5 rfl rfl)
theorem dX2_findBest_6 : decode cX2_findBest 6 = .ok (.istore 4, 2) := dk_54 4 (dk_at dksX2_findBest_0 6 rfl rfl)
theorem dX2_findBest_8 : decode cX2_findBest 8 = .ok (.iconst 0, 1) := dk_3 (dk_at dksX2_findBest_0 8 rfl rfl)
theorem dX2_findBest_9 : decode cX2_findBest 9 = .ok (.istore 5, 2) := dk_54 5 (dk_at dksX2_findBest_0 9 rfl rfl)
theorem dX2_findBest_11 : decode cX2_findBest 11 = .ok (.iload 5, 2) := dk_21 5 (dk_at dksX2_findBest_0 11 rfl rfl)
theorem dX2_findBest_13 : decode cX2_findBest 13 = .ok (.aload_n 0, 1) := dk_42 (dk_at dksX2_findBest_0 13 rfl rfl)
theorem dX2_findBest_14 : decode cX2_findBest 14 = .ok (.invokevirtual 226, 3) := dk_182 0 226 (dk_at dksX2_findBest_0 14 rfl rfl)
theorem dX2_findBest_17 : decode cX2_findBest 17 = .ok (.if_icmp .ge 134, 3) := dk_162 0 134 (dk_at dksX2_findBest_0 17 rfl rfl)
theorem dX2_findBest_20 : decode cX2_findBest 20 = .ok (.aload_n 0, 1) := dk_42 (dk_at dksX2_findBest_0 20 rfl rfl)
theorem dX2_findBest_21 : decode cX2_findBest 21 = .ok (.iload 5, 2) := dk_21 5 (dk_at dksX2_findBest_0 21 rfl rfl)
theorem dX2_findBest_23 : decode cX2_findBest 23 = .ok (.invokevirtual 229, 3) := dk_182 0 229 (dk_at dksX2_findBest_1 0 rfl rfl)
theorem dX2_findBest_26 : decode cX2_findBest 26 = .ok (.aload_n 0, 1) := dk_42 (dk_at dksX2_findBest_1 3 rfl rfl)
theorem dX2_findBest_27 : decode cX2_findBest 27 = .ok (.getfield 216, 3) := dk_180 0 216 (dk_at dksX2_findBest_1 4 rfl rfl)
theorem dX2_findBest_30 : decode cX2_findBest 30 = .ok (.iload_n 2, 1) := dk_28 (dk_at dksX2_findBest_1 7 rfl rfl)
theorem dX2_findBest_31 : decode cX2_findBest 31 = .ok (.if_icmp .gt 114, 3) := dk_163 0 114 (dk_at dksX2_findBest_1 8 rfl rfl)
theorem dX2_findBest_34 : decode cX2_findBest 34 = .ok (.aload_n 0, 1) := dk_42 (dk_at dksX2_findBest_1 11 rfl rfl)
theorem dX2_findBest_35 : decode cX2_findBest 35 = .ok (.getfield 219, 3) := dk_180 0 219 (dk_at dksX2_findBest_1 12 rfl rfl)
theorem dX2_findBest_38 : decode cX2_findBest 38 = .ok (.iload_n 3, 1) := dk_29 (dk_at dksX2_findBest_1 15 rfl rfl)
theorem dX2_findBest_39 : decode cX2_findBest 39 = .ok (.if_icmp .le 6, 3) := dk_164 0 6 (dk_at dksX2_findBest_1 16 rfl rfl)
theorem dX2_findBest_42 : decode cX2_findBest 42 = .ok (.goto 103, 3) := dk_167 0 103 (dk_at dksX2_findBest_1 19 rfl rfl)
theorem dX2_findBest_45 : decode cX2_findBest 45 = .ok (.iload 4, 2) := dk_21 4 (dk_at dksX2_findBest_1 22 rfl rfl)
theorem dX2_findBest_47 : decode cX2_findBest 47 = .ok (.ifCond .lt 58, 3) := dk_155 0 58 (dk_at dksX2_findBest_2 0 rfl rfl)
theorem dX2_findBest_50 : decode cX2_findBest 50 = .ok (.aload_n 0, 1) := dk_42 (dk_at dksX2_findBest_2 3 rfl rfl)
theorem dX2_findBest_51 : decode cX2_findBest 51 = .ok (.getfield 213, 3) := dk_180 0 213 (dk_at dksX2_findBest_2 4 rfl rfl)
theorem dX2_findBest_54 : decode cX2_findBest 54 = .ok (.aload_n 0, 1) := dk_42 (dk_at dksX2_findBest_2 7 rfl rfl)
theorem dX2_findBest_55 : decode cX2_findBest 55 = .ok (.getfield 232, 3) := dk_180 0 232 (dk_at dksX2_findBest_2 8 rfl rfl)
theorem dX2_findBest_58 : decode cX2_findBest 58 = .ok (.if_icmp .gt 47, 3) := dk_163 0 47 (dk_at dksX2_findBest_2 11 rfl rfl)
theorem dX2_findBest_61 : decode cX2_findBest 61 = .ok (.aload_n 0, 1) := dk_42 (dk_at dksX2_findBest_2 14 rfl rfl)
theorem dX2_findBest_62 : decode cX2_findBest 62 = .ok (.getfield 213, 3) := dk_180 0 213 (dk_at dksX2_findBest_2 15 rfl rfl)
theorem dX2_findBest_65 : decode cX2_findBest 65 = .ok (.aload_n 0, 1) := dk_42 (dk_at dksX2_findBest_2 18 rfl rfl)
theorem dX2_findBest_66 : decode cX2_findBest 66 = .ok (.getfield 232, 3) := dk_180 0 232 (dk_at dksX2_findBest_2 19 rfl rfl)
theorem dX2_findBest_69 : decode cX2_findBest 69 = .ok (.if_icmp .ne 40, 3) := dk_160 0 40 (dk_at dksX2_findBest_3 0 rfl rfl)
theorem dX2_findBest_72 : decode cX2_findBest 72 = .ok (.aload_n 0, 1) := dk_42 (dk_at dksX2_findBest_3 3 rfl rfl)
theorem dX2_findBest_73 : decode cX2_findBest 73 = .ok (.getfield 216, 3) := dk_180 0 216 (dk_at dksX2_findBest_3 4 rfl rfl)
theorem dX2_findBest_76 : decode cX2_findBest 76 = .ok (.aload_n 0, 1) := dk_42 (dk_at dksX2_findBest_3 7 rfl rfl)
theorem dX2_findBest_77 : decode cX2_findBest 77 = .ok (.getfield 235, 3) := dk_180 0 235 (dk_at dksX2_findBest_3 8 rfl rfl)
theorem dX2_findBest_80 : decode cX2_findBest 80 = .ok (.if_icmp .lt 25, 3) := dk_161 0 25 (dk_at dksX2_findBest_3 11 rfl rfl)
theorem dX2_findBest_83 : decode cX2_findBest 83 = .ok (.aload_n 0, 1) := dk_42 (dk_at dksX2_findBest_3 14 rfl rfl)
theorem dX2_findBest_84 : decode cX2_findBest 84 = .ok (.getfield 216, 3) := dk_180 0 216 (dk_at dksX2_findBest_3 15 rfl rfl)
theorem dX2_findBest_87 : decode cX2_findBest 87 = .ok (.aload_n 0, 1) := dk_42 (dk_at dksX2_findBest_3 18 rfl rfl)
theorem dX2_findBest_88 : decode cX2_findBest 88 = .ok (.getfield 235, 3) := dk_180 0 235 (dk_at dksX2_findBest_3 19 rfl rfl)
theorem dX2_findBest_91 : decode cX2_findBest 91 = .ok (.if_icmp .ne 18, 3) := dk_160 0 18 (dk_at dksX2_findBest_4 0 rfl rfl)
theorem dX2_findBest_94 : decode cX2_findBest 94 = .ok (.aload_n 0, 1) := dk_42 (dk_at dksX2_findBest_4 3 rfl rfl)
theorem dX2_findBest_95 : decode cX2_findBest 95 = .ok (.getfield 219, 3) := dk_180 0 219 (dk_at dksX2_findBest_4 4 rfl rfl)
theorem dX2_findBest_98 : decode cX2_findBest 98 = .ok (.aload_n 0, 1) := dk_42 (dk_at dksX2_findBest_4 7 rfl rfl)
theorem dX2_findBest_99 : decode cX2_findBest 99 = .ok (.getfield 238, 3) := dk_180 0 238 (dk_at dksX2_findBest_4 8 rfl rfl)
theorem dX2_findBest_102 : decode cX2_findBest 102 = .ok (.if_icmp .ge 7, 3) := dk_162 0 7 (dk_at dksX2_findBest_4 11 rfl rfl)
theorem dX2_findBest_105 : decode cX2_findBest 105 = .ok (.iconst 1, 1) := dk_4 (dk_at dksX2_findBest_4 14 rfl rfl)
theorem dX2_findBest_106 : decode cX2_findBest 106 = .ok (.goto 4, 3) := dk_167 0 4 (dk_at dksX2_findBest_4 15 rfl rfl)
theorem dX2_findBest_109 : decode cX2_findBest 109 = .ok (.iconst 0, 1) := dk_3 (dk_at dksX2_findBest_4 18 rfl rfl)
theorem dX2_findBest_110 : decode cX2_findBest 110 = .ok (.istore 6, 2) := dk_54 6 (dk_at dksX2_findBest_4 19 rfl rfl)
theorem dX2_findBest_112 : decode cX2_findBest 112 = .ok (.iload 6, 2) := dk_21 6 (dk_at dksX2_findBest_4 21 rfl rfl)
theorem dX2_findBest_114 : decode cX2_findBest 114 = .ok (.ifCond .eq 31, 3) := dk_153 0 31 (dk_at dksX2_findBest_5 0 rfl rfl)
theorem dX2_findBest_117 : decode cX2_findBest 117 = .ok (.iload 5, 2) := dk_21 5 (dk_at dksX2_findBest_5 3 rfl rfl)
theorem dX2_findBest_119 : decode cX2_findBest 119 = .ok (.istore 4, 2) := dk_54 4 (dk_at dksX2_findBest_5 5 rfl rfl)
theorem dX2_findBest_121 : decode cX2_findBest 121 = .ok (.aload_n 0, 1) := dk_42 (dk_at dksX2_findBest_5 7 rfl rfl)
theorem dX2_findBest_122 : decode cX2_findBest 122 = .ok (.aload_n 0, 1) := dk_42 (dk_at dksX2_findBest_5 8 rfl rfl)
theorem dX2_findBest_123 : decode cX2_findBest 123 = .ok (.getfield 213, 3) := dk_180 0 213 (dk_at dksX2_findBest_5 9 rfl rfl)
theorem dX2_findBest_126 : decode cX2_findBest 126 = .ok (.putfield 232, 3) := dk_181 0 232 (dk_at dksX2_findBest_5 12 rfl rfl)
theorem dX2_findBest_129 : decode cX2_findBest 129 = .ok (.aload_n 0, 1) := dk_42 (dk_at dksX2_findBest_5 15 rfl rfl)
theorem dX2_findBest_130 : decode cX2_findBest 130 = .ok (.aload_n 0, 1) := dk_42 (dk_at dksX2_findBest_5 16 rfl rfl)
theorem dX2_findBest_131 : decode cX2_findBest 131 = .ok (.getfield 216, 3) := dk_180 0 216 (dk_at dksX2_findBest_5 17 rfl rfl)
theorem dX2_findBest_134 : decode cX2_findBest 134 = .ok (.putfield 235, 3) := dk_181 0 235 (dk_at dksX2_findBest_5 20 rfl rfl)
theorem dX2_findBest_137 : decode cX2_findBest 137 = .ok (.aload_n 0, 1) := dk_42 (dk_at dksX2_findBest_5 23 rfl rfl)
theorem dX2_findBest_138 : decode cX2_findBest 138 = .ok (.aload_n 0, 1) := dk_42 (dk_at dksX2_findBest_6 0 rfl rfl)
theorem dX2_findBest_139 : decode cX2_findBest 139 = .ok (.getfield 219, 3) := dk_180 0 219 (dk_at dksX2_findBest_6 1 rfl rfl)
theorem dX2_findBest_142 : decode cX2_findBest 142 = .ok (.putfield 238, 3) := dk_181 0 238 (dk_at dksX2_findBest_6 4 rfl rfl)
theorem dX2_findBest_145 : decode cX2_findBest 145 = .ok (.iinc 5 1, 3) := dk_132 5 1 (dk_at dksX2_findBest_6 7 rfl rfl)
theorem dX2_findBest_148 : decode cX2_findBest 148 = .ok (.goto (-137), 3) := dk_167 255 119 (dk_at dksX2_findBest_6 10 rfl rfl)
theorem dX2_findBest_151 : decode cX2_findBest 151 = .ok (.aload_n 0, 1) := dk_42 (dk_at dksX2_findBest_6 13 rfl rfl)
theorem dX2_findBest_152 : decode cX2_findBest 152 = .ok (.iload 4, 2) := dk_21 4 (dk_at dksX2_findBest_6 14 rfl rfl)
theorem dX2_findBest_154 : decode cX2_findBest 154 = .ok (.invokevirtual 229, 3) := dk_182 0 229 (dk_at dksX2_findBest_6 16 rfl rfl)
theorem dX2_findBest_157 : decode cX2_findBest 157 = .ok (.iload 4, 2) := dk_21 4 (dk_at dksX2_findBest_6 19 rfl rfl)
theorem dX2_findBest_159 : decode cX2_findBest 159 = .ok (.ireturn, 1) := dk_172 (dk_at dksX2_findBest_6 21 rfl rfl)
abbrev cX2_layWorths : ByteArray := prog_32_method_34_code
def yX2_layWorths : MethodName := ⟨RX2, "layWorths", "(I)V"⟩
def dkwX2_layWorths_2 : List UInt8 := [42, 27, 28, 29, 182, 0, 209, 96, 79, 132, 3, 1, 167, 255, 218, 132, 2, 1, 167, 255, 193, 177]
abbrev dktX2_layWorths_2 : List UInt8 := dkwX2_layWorths_2 ++ []
def dkwX2_layWorths_1 : List UInt8 := [163, 0, 39, 42, 180, 0, 49, 7, 28, 104, 29, 96, 42, 180, 0, 49, 7, 28, 104, 29, 96, 4, 100, 46]
abbrev dktX2_layWorths_1 : List UInt8 := dkwX2_layWorths_1 ++ dktX2_layWorths_2
def dkwX2_layWorths_0 : List UInt8 := [3, 61, 28, 42, 180, 0, 102, 162, 0, 61, 42, 180, 0, 49, 7, 28, 104, 3, 79, 4, 62, 29, 6]
abbrev dktX2_layWorths_0 : List UInt8 := dkwX2_layWorths_0 ++ dktX2_layWorths_1
theorem dksX2_layWorths_0 : cX2_layWorths.data.toList.drop 0 = dktX2_layWorths_0 := by decide +kernel
theorem dksX2_layWorths_1 : cX2_layWorths.data.toList.drop 23 = dktX2_layWorths_1 := dk_seg dksX2_layWorths_0 23 rfl rfl
theorem dksX2_layWorths_2 : cX2_layWorths.data.toList.drop 47 = dktX2_layWorths_2 := dk_seg dksX2_layWorths_1 24 rfl rfl
theorem dX2_layWorths_0 : decode cX2_layWorths 0 = .ok (.iconst 0, 1) := dk_3 (dk_at dksX2_layWorths_0 0 rfl rfl)
theorem dX2_layWorths_1 : decode cX2_layWorths 1 = .ok (.istore_n 2, 1) := dk_61 (dk_at dksX2_layWorths_0 1 rfl rfl)
theorem dX2_layWorths_2 : decode cX2_layWorths 2 = .ok (.iload_n 2, 1) := dk_28 (dk_at dksX2_layWorths_0 2 rfl rfl)
theorem dX2_layWorths_3 : decode cX2_layWorths 3 = .ok (.aload_n 0, 1) := dk_42 (dk_at dksX2_layWorths_0 3 rfl rfl)
theorem dX2_layWorths_4 : decode cX2_layWorths 4 = .ok (.getfield 102, 3) := dk_180 0 102 (dk_at dksX2_layWorths_0 4 rfl rfl)
theorem dX2_layWorths_7 : decode cX2_layWorths 7 = .ok (.if_icmp .ge 61, 3) := dk_162 0 61 (dk_at dksX2_layWorths_0 7 rfl rfl)
theorem dX2_layWorths_10 : decode cX2_layWorths 10 = .ok (.aload_n 0, 1) := dk_42 (dk_at dksX2_layWorths_0 10 rfl rfl)
theorem dX2_layWorths_11 : decode cX2_layWorths 11 = .ok (.getfield 49, 3) := dk_180 0 49 (dk_at dksX2_layWorths_0 11 rfl rfl)
theorem dX2_layWorths_14 : decode cX2_layWorths 14 = .ok (.iconst 4, 1) := dk_7 (dk_at dksX2_layWorths_0 14 rfl rfl)
theorem dX2_layWorths_15 : decode cX2_layWorths 15 = .ok (.iload_n 2, 1) := dk_28 (dk_at dksX2_layWorths_0 15 rfl rfl)
theorem dX2_layWorths_16 : decode cX2_layWorths 16 = .ok (.imul, 1) := dk_104 (dk_at dksX2_layWorths_0 16 rfl rfl)
theorem dX2_layWorths_17 : decode cX2_layWorths 17 = .ok (.iconst 0, 1) := dk_3 (dk_at dksX2_layWorths_0 17 rfl rfl)
theorem dX2_layWorths_18 : decode cX2_layWorths 18 = .ok (.iastore, 1) := dk_79 (dk_at dksX2_layWorths_0 18 rfl rfl)
theorem dX2_layWorths_19 : decode cX2_layWorths 19 = .ok (.iconst 1, 1) := dk_4 (dk_at dksX2_layWorths_0 19 rfl rfl)
theorem dX2_layWorths_20 : decode cX2_layWorths 20 = .ok (.istore_n 3, 1) := dk_62 (dk_at dksX2_layWorths_0 20 rfl rfl)
theorem dX2_layWorths_21 : decode cX2_layWorths 21 = .ok (.iload_n 3, 1) := dk_29 (dk_at dksX2_layWorths_0 21 rfl rfl)
theorem dX2_layWorths_22 : decode cX2_layWorths 22 = .ok (.iconst 3, 1) := dk_6 (dk_at dksX2_layWorths_0 22 rfl rfl)
theorem dX2_layWorths_23 : decode cX2_layWorths 23 = .ok (.if_icmp .gt 39, 3) := dk_163 0 39 (dk_at dksX2_layWorths_1 0 rfl rfl)
theorem dX2_layWorths_26 : decode cX2_layWorths 26 = .ok (.aload_n 0, 1) := dk_42 (dk_at dksX2_layWorths_1 3 rfl rfl)
theorem dX2_layWorths_27 : decode cX2_layWorths 27 = .ok (.getfield 49, 3) := dk_180 0 49 (dk_at dksX2_layWorths_1 4 rfl rfl)
theorem dX2_layWorths_30 : decode cX2_layWorths 30 = .ok (.iconst 4, 1) := dk_7 (dk_at dksX2_layWorths_1 7 rfl rfl)
theorem dX2_layWorths_31 : decode cX2_layWorths 31 = .ok (.iload_n 2, 1) := dk_28 (dk_at dksX2_layWorths_1 8 rfl rfl)
theorem dX2_layWorths_32 : decode cX2_layWorths 32 = .ok (.imul, 1) := dk_104 (dk_at dksX2_layWorths_1 9 rfl rfl)
theorem dX2_layWorths_33 : decode cX2_layWorths 33 = .ok (.iload_n 3, 1) := dk_29 (dk_at dksX2_layWorths_1 10 rfl rfl)
theorem dX2_layWorths_34 : decode cX2_layWorths 34 = .ok (.iadd, 1) := dk_96 (dk_at dksX2_layWorths_1 11 rfl rfl)
theorem dX2_layWorths_35 : decode cX2_layWorths 35 = .ok (.aload_n 0, 1) := dk_42 (dk_at dksX2_layWorths_1 12 rfl rfl)
theorem dX2_layWorths_36 : decode cX2_layWorths 36 = .ok (.getfield 49, 3) := dk_180 0 49 (dk_at dksX2_layWorths_1 13 rfl rfl)
theorem dX2_layWorths_39 : decode cX2_layWorths 39 = .ok (.iconst 4, 1) := dk_7 (dk_at dksX2_layWorths_1 16 rfl rfl)
theorem dX2_layWorths_40 : decode cX2_layWorths 40 = .ok (.iload_n 2, 1) := dk_28 (dk_at dksX2_layWorths_1 17 rfl rfl)
theorem dX2_layWorths_41 : decode cX2_layWorths 41 = .ok (.imul, 1) := dk_104 (dk_at dksX2_layWorths_1 18 rfl rfl)
theorem dX2_layWorths_42 : decode cX2_layWorths 42 = .ok (.iload_n 3, 1) := dk_29 (dk_at dksX2_layWorths_1 19 rfl rfl)
theorem dX2_layWorths_43 : decode cX2_layWorths 43 = .ok (.iadd, 1) := dk_96 (dk_at dksX2_layWorths_1 20 rfl rfl)
theorem dX2_layWorths_44 : decode cX2_layWorths 44 = .ok (.iconst 1, 1) := dk_4 (dk_at dksX2_layWorths_1 21 rfl rfl)
theorem dX2_layWorths_45 : decode cX2_layWorths 45 = .ok (.isub, 1) := dk_100 (dk_at dksX2_layWorths_1 22 rfl rfl)
theorem dX2_layWorths_46 : decode cX2_layWorths 46 = .ok (.iaload, 1) := dk_46 (dk_at dksX2_layWorths_1 23 rfl rfl)
theorem dX2_layWorths_47 : decode cX2_layWorths 47 = .ok (.aload_n 0, 1) := dk_42 (dk_at dksX2_layWorths_2 0 rfl rfl)
theorem dX2_layWorths_48 : decode cX2_layWorths 48 = .ok (.iload_n 1, 1) := dk_27 (dk_at dksX2_layWorths_2 1 rfl rfl)
theorem dX2_layWorths_49 : decode cX2_layWorths 49 = .ok (.iload_n 2, 1) := dk_28 (dk_at dksX2_layWorths_2 2 rfl rfl)
theorem dX2_layWorths_50 : decode cX2_layWorths 50 = .ok (.iload_n 3, 1) := dk_29 (dk_at dksX2_layWorths_2 3 rfl rfl)
theorem dX2_layWorths_51 : decode cX2_layWorths 51 = .ok (.invokevirtual 209, 3) := dk_182 0 209 (dk_at dksX2_layWorths_2 4 rfl rfl)
theorem dX2_layWorths_54 : decode cX2_layWorths 54 = .ok (.iadd, 1) := dk_96 (dk_at dksX2_layWorths_2 7 rfl rfl)
theorem dX2_layWorths_55 : decode cX2_layWorths 55 = .ok (.iastore, 1) := dk_79 (dk_at dksX2_layWorths_2 8 rfl rfl)
theorem dX2_layWorths_56 : decode cX2_layWorths 56 = .ok (.iinc 3 1, 3) := dk_132 3 1 (dk_at dksX2_layWorths_2 9 rfl rfl)
theorem dX2_layWorths_59 : decode cX2_layWorths 59 = .ok (.goto (-38), 3) := dk_167 255 218 (dk_at dksX2_layWorths_2 12 rfl rfl)
theorem dX2_layWorths_62 : decode cX2_layWorths 62 = .ok (.iinc 2 1, 3) := dk_132 2 1 (dk_at dksX2_layWorths_2 15 rfl rfl)
theorem dX2_layWorths_65 : decode cX2_layWorths 65 = .ok (.goto (-63), 3) := dk_167 255 193 (dk_at dksX2_layWorths_2 18 rfl rfl)
theorem dX2_layWorths_68 : decode cX2_layWorths 68 = .ok (.return_, 1) := dk_177 (dk_at dksX2_layWorths_2 21 rfl rfl)
abbrev cX2_baskets : ByteArray := prog_32_method_35_code
def yX2_baskets : MethodName := ⟨RX2, "baskets", "()I"⟩
def dkwX2_baskets_0 : List UInt8 := [4, 5, 42, 180, 0, 102, 104, 120, 172]
abbrev dktX2_baskets_0 : List UInt8 := dkwX2_baskets_0 ++ []
theorem dksX2_baskets_0 : cX2_baskets.data.toList.drop 0 = dktX2_baskets_0 := by decide +kernel
theorem dX2_baskets_0 : decode cX2_baskets 0 = .ok (.iconst 1, 1) := dk_4 (dk_at dksX2_baskets_0 0 rfl rfl)
theorem dX2_baskets_1 : decode cX2_baskets 1 = .ok (.iconst 2, 1) := dk_5 (dk_at dksX2_baskets_0 1 rfl rfl)
theorem dX2_baskets_2 : decode cX2_baskets 2 = .ok (.aload_n 0, 1) := dk_42 (dk_at dksX2_baskets_0 2 rfl rfl)
theorem dX2_baskets_3 : decode cX2_baskets 3 = .ok (.getfield 102, 3) := dk_180 0 102 (dk_at dksX2_baskets_0 3 rfl rfl)
theorem dX2_baskets_6 : decode cX2_baskets 6 = .ok (.imul, 1) := dk_104 (dk_at dksX2_baskets_0 6 rfl rfl)
theorem dX2_baskets_7 : decode cX2_baskets 7 = .ok (.ishl, 1) := dk_120 (dk_at dksX2_baskets_0 7 rfl rfl)
theorem dX2_baskets_8 : decode cX2_baskets 8 = .ok (.ireturn, 1) := dk_172 (dk_at dksX2_baskets_0 8 rfl rfl)
abbrev cX2_unpack : ByteArray := prog_32_method_36_code
def yX2_unpack : MethodName := ⟨RX2, "unpack", "(I)V"⟩
def dkwX2_unpack_5 : List UInt8 := [132, 2, 1, 167, 255, 156, 177]
abbrev dktX2_unpack_5 : List UInt8 := dkwX2_unpack_5 ++ []
def dkwX2_unpack_4 : List UInt8 := [181, 0, 216, 42, 89, 180, 0, 219, 29, 42, 180, 0, 9, 16, 12, 28, 96, 46, 104, 96, 181, 0, 219]
abbrev dktX2_unpack_4 : List UInt8 := dkwX2_unpack_4 ++ dktX2_unpack_5
def dkwX2_unpack_3 : List UInt8 := [180, 0, 216, 29, 42, 180, 0, 9, 16, 6, 28, 96, 46, 42, 180, 0, 55, 104, 16, 100, 108, 104, 96]
abbrev dktX2_unpack_3 : List UInt8 := dkwX2_unpack_3 ++ dktX2_unpack_4
def dkwX2_unpack_2 : List UInt8 := [79, 42, 89, 180, 0, 213, 42, 180, 0, 49, 7, 28, 104, 29, 96, 46, 96, 181, 0, 213, 42, 89]
abbrev dktX2_unpack_2 : List UInt8 := dkwX2_unpack_2 ++ dktX2_unpack_3
def dkwX2_unpack_1 : List UInt8 := [162, 0, 98, 27, 5, 42, 180, 0, 102, 4, 100, 28, 100, 104, 122, 6, 126, 62, 42, 180, 0, 52, 28, 29]
abbrev dktX2_unpack_1 : List UInt8 := dkwX2_unpack_1 ++ dktX2_unpack_2
def dkwX2_unpack_0 : List UInt8 := [42, 3, 181, 0, 213, 42, 3, 181, 0, 216, 42, 3, 181, 0, 219, 3, 61, 28, 42, 180, 0, 102]
abbrev dktX2_unpack_0 : List UInt8 := dkwX2_unpack_0 ++ dktX2_unpack_1
theorem dksX2_unpack_0 : cX2_unpack.data.toList.drop 0 = dktX2_unpack_0 := by decide +kernel
theorem dksX2_unpack_1 : cX2_unpack.data.toList.drop 22 = dktX2_unpack_1 := dk_seg dksX2_unpack_0 22 rfl rfl
theorem dksX2_unpack_2 : cX2_unpack.data.toList.drop 46 = dktX2_unpack_2 := dk_seg dksX2_unpack_1 24 rfl rfl
theorem dksX2_unpack_3 : cX2_unpack.data.toList.drop 68 = dktX2_unpack_3 := dk_seg dksX2_unpack_2 22 rfl rfl
theorem dksX2_unpack_4 : cX2_unpack.data.toList.drop 91 = dktX2_unpack_4 := dk_seg dksX2_unpack_3 23 rfl rfl
theorem dksX2_unpack_5 : cX2_unpack.data.toList.drop 114 = dktX2_unpack_5 := dk_seg dksX2_unpack_4 23 rfl rfl
theorem dX2_unpack_0 : decode cX2_unpack 0 = .ok (.aload_n 0, 1) := dk_42 (dk_at dksX2_unpack_0 0 rfl rfl)
theorem dX2_unpack_1 : decode cX2_unpack 1 = .ok (.iconst 0, 1) := dk_3 (dk_at dksX2_unpack_0 1 rfl rfl)
theorem dX2_unpack_2 : decode cX2_unpack 2 = .ok (.putfield 213, 3) := dk_181 0 213 (dk_at dksX2_unpack_0 2 rfl rfl)
theorem dX2_unpack_5 : decode cX2_unpack 5 = .ok (.aload_n 0, 1) := dk_42 (dk_at dksX2_unpack_0 5 rfl rfl)
theorem dX2_unpack_6 : decode cX2_unpack 6 = .ok (.iconst 0, 1) := dk_3 (dk_at dksX2_unpack_0 6 rfl rfl)
theorem dX2_unpack_7 : decode cX2_unpack 7 = .ok (.putfield 216, 3) := dk_181 0 216 (dk_at dksX2_unpack_0 7 rfl rfl)
theorem dX2_unpack_10 : decode cX2_unpack 10 = .ok (.aload_n 0, 1) := dk_42 (dk_at dksX2_unpack_0 10 rfl rfl)
theorem dX2_unpack_11 : decode cX2_unpack 11 = .ok (.iconst 0, 1) := dk_3 (dk_at dksX2_unpack_0 11 rfl rfl)
theorem dX2_unpack_12 : decode cX2_unpack 12 = .ok (.putfield 219, 3) := dk_181 0 219 (dk_at dksX2_unpack_0 12 rfl rfl)
theorem dX2_unpack_15 : decode cX2_unpack 15 = .ok (.iconst 0, 1) := dk_3 (dk_at dksX2_unpack_0 15 rfl rfl)
theorem dX2_unpack_16 : decode cX2_unpack 16 = .ok (.istore_n 2, 1) := dk_61 (dk_at dksX2_unpack_0 16 rfl rfl)
theorem dX2_unpack_17 : decode cX2_unpack 17 = .ok (.iload_n 2, 1) := dk_28 (dk_at dksX2_unpack_0 17 rfl rfl)
theorem dX2_unpack_18 : decode cX2_unpack 18 = .ok (.aload_n 0, 1) := dk_42 (dk_at dksX2_unpack_0 18 rfl rfl)
theorem dX2_unpack_19 : decode cX2_unpack 19 = .ok (.getfield 102, 3) := dk_180 0 102 (dk_at dksX2_unpack_0 19 rfl rfl)
theorem dX2_unpack_22 : decode cX2_unpack 22 = .ok (.if_icmp .ge 98, 3) := dk_162 0 98 (dk_at dksX2_unpack_1 0 rfl rfl)
theorem dX2_unpack_25 : decode cX2_unpack 25 = .ok (.iload_n 1, 1) := dk_27 (dk_at dksX2_unpack_1 3 rfl rfl)
theorem dX2_unpack_26 : decode cX2_unpack 26 = .ok (.iconst 2, 1) := dk_5 (dk_at dksX2_unpack_1 4 rfl rfl)
theorem dX2_unpack_27 : decode cX2_unpack 27 = .ok (.aload_n 0, 1) := dk_42 (dk_at dksX2_unpack_1 5 rfl rfl)
theorem dX2_unpack_28 : decode cX2_unpack 28 = .ok (.getfield 102, 3) := dk_180 0 102 (dk_at dksX2_unpack_1 6 rfl rfl)
theorem dX2_unpack_31 : decode cX2_unpack 31 = .ok (.iconst 1, 1) := dk_4 (dk_at dksX2_unpack_1 9 rfl rfl)
theorem dX2_unpack_32 : decode cX2_unpack 32 = .ok (.isub, 1) := dk_100 (dk_at dksX2_unpack_1 10 rfl rfl)
theorem dX2_unpack_33 : decode cX2_unpack 33 = .ok (.iload_n 2, 1) := dk_28 (dk_at dksX2_unpack_1 11 rfl rfl)
theorem dX2_unpack_34 : decode cX2_unpack 34 = .ok (.isub, 1) := dk_100 (dk_at dksX2_unpack_1 12 rfl rfl)
theorem dX2_unpack_35 : decode cX2_unpack 35 = .ok (.imul, 1) := dk_104 (dk_at dksX2_unpack_1 13 rfl rfl)
theorem dX2_unpack_36 : decode cX2_unpack 36 = .ok (.ishr, 1) := dk_122 (dk_at dksX2_unpack_1 14 rfl rfl)
theorem dX2_unpack_37 : decode cX2_unpack 37 = .ok (.iconst 3, 1) := dk_6 (dk_at dksX2_unpack_1 15 rfl rfl)
theorem dX2_unpack_38 : decode cX2_unpack 38 = .ok (.iand, 1) := dk_126 (dk_at dksX2_unpack_1 16 rfl rfl)
theorem dX2_unpack_39 : decode cX2_unpack 39 = .ok (.istore_n 3, 1) := dk_62 (dk_at dksX2_unpack_1 17 rfl rfl)
theorem dX2_unpack_40 : decode cX2_unpack 40 = .ok (.aload_n 0, 1) := dk_42 (dk_at dksX2_unpack_1 18 rfl rfl)
theorem dX2_unpack_41 : decode cX2_unpack 41 = .ok (.getfield 52, 3) := dk_180 0 52 (dk_at dksX2_unpack_1 19 rfl rfl)
theorem dX2_unpack_44 : decode cX2_unpack 44 = .ok (.iload_n 2, 1) := dk_28 (dk_at dksX2_unpack_1 22 rfl rfl)
theorem dX2_unpack_45 : decode cX2_unpack 45 = .ok (.iload_n 3, 1) := dk_29 (dk_at dksX2_unpack_1 23 rfl rfl)
theorem dX2_unpack_46 : decode cX2_unpack 46 = .ok (.iastore, 1) := dk_79 (dk_at dksX2_unpack_2 0 rfl rfl)
theorem dX2_unpack_47 : decode cX2_unpack 47 = .ok (.aload_n 0, 1) := dk_42 (dk_at dksX2_unpack_2 1 rfl rfl)
theorem dX2_unpack_48 : decode cX2_unpack 48 = .ok (.dup, 1) := dk_89 (dk_at dksX2_unpack_2 2 rfl rfl)
theorem dX2_unpack_49 : decode cX2_unpack 49 = .ok (.getfield 213, 3) := dk_180 0 213 (dk_at dksX2_unpack_2 3 rfl rfl)
theorem dX2_unpack_52 : decode cX2_unpack 52 = .ok (.aload_n 0, 1) := dk_42 (dk_at dksX2_unpack_2 6 rfl rfl)
theorem dX2_unpack_53 : decode cX2_unpack 53 = .ok (.getfield 49, 3) := dk_180 0 49 (dk_at dksX2_unpack_2 7 rfl rfl)
theorem dX2_unpack_56 : decode cX2_unpack 56 = .ok (.iconst 4, 1) := dk_7 (dk_at dksX2_unpack_2 10 rfl rfl)
theorem dX2_unpack_57 : decode cX2_unpack 57 = .ok (.iload_n 2, 1) := dk_28 (dk_at dksX2_unpack_2 11 rfl rfl)
theorem dX2_unpack_58 : decode cX2_unpack 58 = .ok (.imul, 1) := dk_104 (dk_at dksX2_unpack_2 12 rfl rfl)
theorem dX2_unpack_59 : decode cX2_unpack 59 = .ok (.iload_n 3, 1) := dk_29 (dk_at dksX2_unpack_2 13 rfl rfl)
theorem dX2_unpack_60 : decode cX2_unpack 60 = .ok (.iadd, 1) := dk_96 (dk_at dksX2_unpack_2 14 rfl rfl)
theorem dX2_unpack_61 : decode cX2_unpack 61 = .ok (.iaload, 1) := dk_46 (dk_at dksX2_unpack_2 15 rfl rfl)
theorem dX2_unpack_62 : decode cX2_unpack 62 = .ok (.iadd, 1) := dk_96 (dk_at dksX2_unpack_2 16 rfl rfl)
theorem dX2_unpack_63 : decode cX2_unpack 63 = .ok (.putfield 213, 3) := dk_181 0 213 (dk_at dksX2_unpack_2 17 rfl rfl)
theorem dX2_unpack_66 : decode cX2_unpack 66 = .ok (.aload_n 0, 1) := dk_42 (dk_at dksX2_unpack_2 20 rfl rfl)
theorem dX2_unpack_67 : decode cX2_unpack 67 = .ok (.dup, 1) := dk_89 (dk_at dksX2_unpack_2 21 rfl rfl)
theorem dX2_unpack_68 : decode cX2_unpack 68 = .ok (.getfield 216, 3) := dk_180 0 216 (dk_at dksX2_unpack_3 0 rfl rfl)
theorem dX2_unpack_71 : decode cX2_unpack 71 = .ok (.iload_n 3, 1) := dk_29 (dk_at dksX2_unpack_3 3 rfl rfl)
theorem dX2_unpack_72 : decode cX2_unpack 72 = .ok (.aload_n 0, 1) := dk_42 (dk_at dksX2_unpack_3 4 rfl rfl)
theorem dX2_unpack_73 : decode cX2_unpack 73 = .ok (.getfield 9, 3) := dk_180 0 9 (dk_at dksX2_unpack_3 5 rfl rfl)
theorem dX2_unpack_76 : decode cX2_unpack 76 = .ok (.bipush 6, 2) := dk_16 6 (dk_at dksX2_unpack_3 8 rfl rfl)
theorem dX2_unpack_78 : decode cX2_unpack 78 = .ok (.iload_n 2, 1) := dk_28 (dk_at dksX2_unpack_3 10 rfl rfl)
theorem dX2_unpack_79 : decode cX2_unpack 79 = .ok (.iadd, 1) := dk_96 (dk_at dksX2_unpack_3 11 rfl rfl)
theorem dX2_unpack_80 : decode cX2_unpack 80 = .ok (.iaload, 1) := dk_46 (dk_at dksX2_unpack_3 12 rfl rfl)
theorem dX2_unpack_81 : decode cX2_unpack 81 = .ok (.aload_n 0, 1) := dk_42 (dk_at dksX2_unpack_3 13 rfl rfl)
theorem dX2_unpack_82 : decode cX2_unpack 82 = .ok (.getfield 55, 3) := dk_180 0 55 (dk_at dksX2_unpack_3 14 rfl rfl)
theorem dX2_unpack_85 : decode cX2_unpack 85 = .ok (.imul, 1) := dk_104 (dk_at dksX2_unpack_3 17 rfl rfl)
theorem dX2_unpack_86 : decode cX2_unpack 86 = .ok (.bipush 100, 2) := dk_16 100 (dk_at dksX2_unpack_3 18 rfl rfl)
theorem dX2_unpack_88 : decode cX2_unpack 88 = .ok (.idiv, 1) := dk_108 (dk_at dksX2_unpack_3 20 rfl rfl)
theorem dX2_unpack_89 : decode cX2_unpack 89 = .ok (.imul, 1) := dk_104 (dk_at dksX2_unpack_3 21 rfl rfl)
theorem dX2_unpack_90 : decode cX2_unpack 90 = .ok (.iadd, 1) := dk_96 (dk_at dksX2_unpack_3 22 rfl rfl)
theorem dX2_unpack_91 : decode cX2_unpack 91 = .ok (.putfield 216, 3) := dk_181 0 216 (dk_at dksX2_unpack_4 0 rfl rfl)
theorem dX2_unpack_94 : decode cX2_unpack 94 = .ok (.aload_n 0, 1) := dk_42 (dk_at dksX2_unpack_4 3 rfl rfl)
theorem dX2_unpack_95 : decode cX2_unpack 95 = .ok (.dup, 1) := dk_89 (dk_at dksX2_unpack_4 4 rfl rfl)
theorem dX2_unpack_96 : decode cX2_unpack 96 = .ok (.getfield 219, 3) := dk_180 0 219 (dk_at dksX2_unpack_4 5 rfl rfl)
theorem dX2_unpack_99 : decode cX2_unpack 99 = .ok (.iload_n 3, 1) := dk_29 (dk_at dksX2_unpack_4 8 rfl rfl)
theorem dX2_unpack_100 : decode cX2_unpack 100 = .ok (.aload_n 0, 1) := dk_42 (dk_at dksX2_unpack_4 9 rfl rfl)
theorem dX2_unpack_101 : decode cX2_unpack 101 = .ok (.getfield 9, 3) := dk_180 0 9 (dk_at dksX2_unpack_4 10 rfl rfl)
theorem dX2_unpack_104 : decode cX2_unpack 104 = .ok (.bipush 12, 2) := dk_16 12 (dk_at dksX2_unpack_4 13 rfl rfl)
theorem dX2_unpack_106 : decode cX2_unpack 106 = .ok (.iload_n 2, 1) := dk_28 (dk_at dksX2_unpack_4 15 rfl rfl)
theorem dX2_unpack_107 : decode cX2_unpack 107 = .ok (.iadd, 1) := dk_96 (dk_at dksX2_unpack_4 16 rfl rfl)
theorem dX2_unpack_108 : decode cX2_unpack 108 = .ok (.iaload, 1) := dk_46 (dk_at dksX2_unpack_4 17 rfl rfl)
theorem dX2_unpack_109 : decode cX2_unpack 109 = .ok (.imul, 1) := dk_104 (dk_at dksX2_unpack_4 18 rfl rfl)
theorem dX2_unpack_110 : decode cX2_unpack 110 = .ok (.iadd, 1) := dk_96 (dk_at dksX2_unpack_4 19 rfl rfl)
theorem dX2_unpack_111 : decode cX2_unpack 111 = .ok (.putfield 219, 3) := dk_181 0 219 (dk_at dksX2_unpack_4 20 rfl rfl)
theorem dX2_unpack_114 : decode cX2_unpack 114 = .ok (.iinc 2 1, 3) := dk_132 2 1 (dk_at dksX2_unpack_5 0 rfl rfl)
theorem dX2_unpack_117 : decode cX2_unpack 117 = .ok (.goto (-100), 3) := dk_167 255 156 (dk_at dksX2_unpack_5 3 rfl rfl)
theorem dX2_unpack_120 : decode cX2_unpack 120 = .ok (.return_, 1) := dk_177 (dk_at dksX2_unpack_5 6 rfl rfl)
abbrev cX2_digitsNow : ByteArray := prog_32_method_39_code
def yX2_digitsNow : MethodName := ⟨RX2, "digitsNow", "()I"⟩
def dkwX2_digitsNow_1 : List UInt8 := [132, 2, 1, 167, 255, 233, 27, 172]
abbrev dktX2_digitsNow_1 : List UInt8 := dkwX2_digitsNow_1 ++ []
def dkwX2_digitsNow_0 : List UInt8 := [3, 60, 3, 61, 28, 42, 180, 0, 102, 162, 0, 21, 16, 10, 27, 104, 42, 180, 0, 52, 28, 46, 96, 60]
abbrev dktX2_digitsNow_0 : List UInt8 := dkwX2_digitsNow_0 ++ dktX2_digitsNow_1
theorem dksX2_digitsNow_0 : cX2_digitsNow.data.toList.drop 0 = dktX2_digitsNow_0 := by decide +kernel
theorem dksX2_digitsNow_1 : cX2_digitsNow.data.toList.drop 24 = dktX2_digitsNow_1 := dk_seg dksX2_digitsNow_0 24 rfl rfl
theorem dX2_digitsNow_0 : decode cX2_digitsNow 0 = .ok (.iconst 0, 1) := dk_3 (dk_at dksX2_digitsNow_0 0 rfl rfl)
theorem dX2_digitsNow_1 : decode cX2_digitsNow 1 = .ok (.istore_n 1, 1) := dk_60 (dk_at dksX2_digitsNow_0 1 rfl rfl)
theorem dX2_digitsNow_2 : decode cX2_digitsNow 2 = .ok (.iconst 0, 1) := dk_3 (dk_at dksX2_digitsNow_0 2 rfl rfl)
theorem dX2_digitsNow_3 : decode cX2_digitsNow 3 = .ok (.istore_n 2, 1) := dk_61 (dk_at dksX2_digitsNow_0 3 rfl rfl)
theorem dX2_digitsNow_4 : decode cX2_digitsNow 4 = .ok (.iload_n 2, 1) := dk_28 (dk_at dksX2_digitsNow_0 4 rfl rfl)
theorem dX2_digitsNow_5 : decode cX2_digitsNow 5 = .ok (.aload_n 0, 1) := dk_42 (dk_at dksX2_digitsNow_0 5 rfl rfl)
theorem dX2_digitsNow_6 : decode cX2_digitsNow 6 = .ok (.getfield 102, 3) := dk_180 0 102 (dk_at dksX2_digitsNow_0 6 rfl rfl)
theorem dX2_digitsNow_9 : decode cX2_digitsNow 9 = .ok (.if_icmp .ge 21, 3) := dk_162 0 21 (dk_at dksX2_digitsNow_0 9 rfl rfl)
theorem dX2_digitsNow_12 : decode cX2_digitsNow 12 = .ok (.bipush 10, 2) := dk_16 10 (dk_at dksX2_digitsNow_0 12 rfl rfl)
theorem dX2_digitsNow_14 : decode cX2_digitsNow 14 = .ok (.iload_n 1, 1) := dk_27 (dk_at dksX2_digitsNow_0 14 rfl rfl)
theorem dX2_digitsNow_15 : decode cX2_digitsNow 15 = .ok (.imul, 1) := dk_104 (dk_at dksX2_digitsNow_0 15 rfl rfl)
theorem dX2_digitsNow_16 : decode cX2_digitsNow 16 = .ok (.aload_n 0, 1) := dk_42 (dk_at dksX2_digitsNow_0 16 rfl rfl)
theorem dX2_digitsNow_17 : decode cX2_digitsNow 17 = .ok (.getfield 52, 3) := dk_180 0 52 (dk_at dksX2_digitsNow_0 17 rfl rfl)
theorem dX2_digitsNow_20 : decode cX2_digitsNow 20 = .ok (.iload_n 2, 1) := dk_28 (dk_at dksX2_digitsNow_0 20 rfl rfl)
theorem dX2_digitsNow_21 : decode cX2_digitsNow 21 = .ok (.iaload, 1) := dk_46 (dk_at dksX2_digitsNow_0 21 rfl rfl)
theorem dX2_digitsNow_22 : decode cX2_digitsNow 22 = .ok (.iadd, 1) := dk_96 (dk_at dksX2_digitsNow_0 22 rfl rfl)
theorem dX2_digitsNow_23 : decode cX2_digitsNow 23 = .ok (.istore_n 1, 1) := dk_60 (dk_at dksX2_digitsNow_0 23 rfl rfl)
theorem dX2_digitsNow_24 : decode cX2_digitsNow 24 = .ok (.iinc 2 1, 3) := dk_132 2 1 (dk_at dksX2_digitsNow_1 0 rfl rfl)
theorem dX2_digitsNow_27 : decode cX2_digitsNow 27 = .ok (.goto (-23), 3) := dk_167 255 233 (dk_at dksX2_digitsNow_1 3 rfl rfl)
theorem dX2_digitsNow_30 : decode cX2_digitsNow 30 = .ok (.iload_n 1, 1) := dk_27 (dk_at dksX2_digitsNow_1 6 rfl rfl)
theorem dX2_digitsNow_31 : decode cX2_digitsNow 31 = .ok (.ireturn, 1) := dk_172 (dk_at dksX2_digitsNow_1 7 rfl rfl)
abbrev cX2_wanted : ByteArray := prog_32_method_44_code
def yX2_wanted : MethodName := ⟨RX2, "wanted", "(II)I"⟩
def dkwX2_wanted_3 : List UInt8 := [42, 27, 182, 0, 250, 172]
abbrev dktX2_wanted_3 : List UInt8 := dkwX2_wanted_3 ++ []
def dkwX2_wanted_2 : List UInt8 := [29, 153, 0, 10, 42, 182, 1, 4, 167, 0, 21, 28, 154, 0, 12, 42, 180, 0, 59, 27, 46, 167, 0, 8]
abbrev dktX2_wanted_2 : List UInt8 := dkwX2_wanted_2 ++ dktX2_wanted_3
def dkwX2_wanted_1 : List UInt8 := [182, 0, 132, 153, 0, 13, 28, 133, 9, 10, 184, 0, 105, 154, 0, 7, 19, 1, 0, 172, 42, 182, 1, 1]
abbrev dktX2_wanted_1 : List UInt8 := dkwX2_wanted_1 ++ dktX2_wanted_2
def dkwX2_wanted_0 : List UInt8 := [27, 2, 160, 0, 12, 28, 4, 160, 0, 7, 4, 167, 0, 4, 3, 62, 29, 154, 0, 25, 42, 27]
abbrev dktX2_wanted_0 : List UInt8 := dkwX2_wanted_0 ++ dktX2_wanted_1
theorem dksX2_wanted_0 : cX2_wanted.data.toList.drop 0 = dktX2_wanted_0 := by decide +kernel
theorem dksX2_wanted_1 : cX2_wanted.data.toList.drop 22 = dktX2_wanted_1 := dk_seg dksX2_wanted_0 22 rfl rfl
theorem dksX2_wanted_2 : cX2_wanted.data.toList.drop 46 = dktX2_wanted_2 := dk_seg dksX2_wanted_1 24 rfl rfl
theorem dksX2_wanted_3 : cX2_wanted.data.toList.drop 70 = dktX2_wanted_3 := dk_seg dksX2_wanted_2 24 rfl rfl
theorem dX2_wanted_0 : decode cX2_wanted 0 = .ok (.iload_n 1, 1) := dk_27 (dk_at dksX2_wanted_0 0 rfl rfl)
theorem dX2_wanted_1 : decode cX2_wanted 1 = .ok (.iconst (-1), 1) := dk_2 (dk_at dksX2_wanted_0 1 rfl rfl)
theorem dX2_wanted_2 : decode cX2_wanted 2 = .ok (.if_icmp .ne 12, 3) := dk_160 0 12 (dk_at dksX2_wanted_0 2 rfl rfl)
theorem dX2_wanted_5 : decode cX2_wanted 5 = .ok (.iload_n 2, 1) := dk_28 (dk_at dksX2_wanted_0 5 rfl rfl)
theorem dX2_wanted_6 : decode cX2_wanted 6 = .ok (.iconst 1, 1) := dk_4 (dk_at dksX2_wanted_0 6 rfl rfl)
theorem dX2_wanted_7 : decode cX2_wanted 7 = .ok (.if_icmp .ne 7, 3) := dk_160 0 7 (dk_at dksX2_wanted_0 7 rfl rfl)
theorem dX2_wanted_10 : decode cX2_wanted 10 = .ok (.iconst 1, 1) := dk_4 (dk_at dksX2_wanted_0 10 rfl rfl)
theorem dX2_wanted_11 : decode cX2_wanted 11 = .ok (.goto 4, 3) := dk_167 0 4 (dk_at dksX2_wanted_0 11 rfl rfl)
theorem dX2_wanted_14 : decode cX2_wanted 14 = .ok (.iconst 0, 1) := dk_3 (dk_at dksX2_wanted_0 14 rfl rfl)
theorem dX2_wanted_15 : decode cX2_wanted 15 = .ok (.istore_n 3, 1) := dk_62 (dk_at dksX2_wanted_0 15 rfl rfl)
theorem dX2_wanted_16 : decode cX2_wanted 16 = .ok (.iload_n 3, 1) := dk_29 (dk_at dksX2_wanted_0 16 rfl rfl)
theorem dX2_wanted_17 : decode cX2_wanted 17 = .ok (.ifCond .ne 25, 3) := dk_154 0 25 (dk_at dksX2_wanted_0 17 rfl rfl)
theorem dX2_wanted_20 : decode cX2_wanted 20 = .ok (.aload_n 0, 1) := dk_42 (dk_at dksX2_wanted_0 20 rfl rfl)
theorem dX2_wanted_21 : decode cX2_wanted 21 = .ok (.iload_n 1, 1) := dk_27 (dk_at dksX2_wanted_0 21 rfl rfl)
theorem dX2_wanted_22 : decode cX2_wanted 22 = .ok (.invokevirtual 132, 3) := dk_182 0 132 (dk_at dksX2_wanted_1 0 rfl rfl)
theorem dX2_wanted_25 : decode cX2_wanted 25 = .ok (.ifCond .eq 13, 3) := dk_153 0 13 (dk_at dksX2_wanted_1 3 rfl rfl)
theorem dX2_wanted_28 : decode cX2_wanted 28 = .ok (.iload_n 2, 1) := dk_28 (dk_at dksX2_wanted_1 6 rfl rfl)
theorem dX2_wanted_29 : decode cX2_wanted 29 = .ok (.i2l, 1) := dk_133 (dk_at dksX2_wanted_1 7 rfl rfl)
theorem dX2_wanted_30 : decode cX2_wanted 30 = .ok (.lconst 0, 1) := dk_9 (dk_at dksX2_wanted_1 8 rfl rfl)
theorem dX2_wanted_31 : decode cX2_wanted 31 = .ok (.lconst 1, 1) := dk_10 (dk_at dksX2_wanted_1 9 rfl rfl)
theorem dX2_wanted_32 : decode cX2_wanted 32 = .ok (.invokestatic 105, 3) := dk_184 0 105 (dk_at dksX2_wanted_1 10 rfl rfl)
theorem dX2_wanted_35 : decode cX2_wanted 35 = .ok (.ifCond .ne 7, 3) := dk_154 0 7 (dk_at dksX2_wanted_1 13 rfl rfl)
theorem dX2_wanted_38 : decode cX2_wanted 38 = .ok (.ldc_w 256, 3) := dk_19 1 0 (dk_at dksX2_wanted_1 16 rfl rfl)
theorem dX2_wanted_41 : decode cX2_wanted 41 = .ok (.ireturn, 1) := dk_172 (dk_at dksX2_wanted_1 19 rfl rfl)
theorem dX2_wanted_42 : decode cX2_wanted 42 = .ok (.aload_n 0, 1) := dk_42 (dk_at dksX2_wanted_1 20 rfl rfl)
theorem dX2_wanted_43 : decode cX2_wanted 43 = .ok (.invokevirtual 257, 3) := dk_182 1 1 (dk_at dksX2_wanted_1 21 rfl rfl)
theorem dX2_wanted_46 : decode cX2_wanted 46 = .ok (.iload_n 3, 1) := dk_29 (dk_at dksX2_wanted_2 0 rfl rfl)
theorem dX2_wanted_47 : decode cX2_wanted 47 = .ok (.ifCond .eq 10, 3) := dk_153 0 10 (dk_at dksX2_wanted_2 1 rfl rfl)
theorem dX2_wanted_50 : decode cX2_wanted 50 = .ok (.aload_n 0, 1) := dk_42 (dk_at dksX2_wanted_2 4 rfl rfl)
theorem dX2_wanted_51 : decode cX2_wanted 51 = .ok (.invokevirtual 260, 3) := dk_182 1 4 (dk_at dksX2_wanted_2 5 rfl rfl)
theorem dX2_wanted_54 : decode cX2_wanted 54 = .ok (.goto 21, 3) := dk_167 0 21 (dk_at dksX2_wanted_2 8 rfl rfl)
theorem dX2_wanted_57 : decode cX2_wanted 57 = .ok (.iload_n 2, 1) := dk_28 (dk_at dksX2_wanted_2 11 rfl rfl)
theorem dX2_wanted_58 : decode cX2_wanted 58 = .ok (.ifCond .ne 12, 3) := dk_154 0 12 (dk_at dksX2_wanted_2 12 rfl rfl)
theorem dX2_wanted_61 : decode cX2_wanted 61 = .ok (.aload_n 0, 1) := dk_42 (dk_at dksX2_wanted_2 15 rfl rfl)
theorem dX2_wanted_62 : decode cX2_wanted 62 = .ok (.getfield 59, 3) := dk_180 0 59 (dk_at dksX2_wanted_2 16 rfl rfl)
theorem dX2_wanted_65 : decode cX2_wanted 65 = .ok (.iload_n 1, 1) := dk_27 (dk_at dksX2_wanted_2 19 rfl rfl)
theorem dX2_wanted_66 : decode cX2_wanted 66 = .ok (.iaload, 1) := dk_46 (dk_at dksX2_wanted_2 20 rfl rfl)
theorem dX2_wanted_67 : decode cX2_wanted 67 = .ok (.goto 8, 3) := dk_167 0 8 (dk_at dksX2_wanted_2 21 rfl rfl)
theorem dX2_wanted_70 : decode cX2_wanted 70 = .ok (.aload_n 0, 1) := dk_42 (dk_at dksX2_wanted_3 0 rfl rfl)
theorem dX2_wanted_71 : decode cX2_wanted 71 = .ok (.iload_n 1, 1) := dk_27 (dk_at dksX2_wanted_3 1 rfl rfl)
theorem dX2_wanted_72 : decode cX2_wanted 72 = .ok (.invokevirtual 250, 3) := dk_182 0 250 (dk_at dksX2_wanted_3 2 rfl rfl)
theorem dX2_wanted_75 : decode cX2_wanted 75 = .ok (.ireturn, 1) := dk_172 (dk_at dksX2_wanted_3 5 rfl rfl)
abbrev cX2_findWanted : ByteArray := prog_32_method_41_code
def yX2_findWanted : MethodName := ⟨RX2, "findWanted", "()V"⟩
def dkwX2_findWanted_4 : List UInt8 := [79, 132, 3, 1, 167, 255, 199, 132, 1, 1, 167, 255, 177, 177]
abbrev dktX2_findWanted_4 : List UInt8 := dkwX2_findWanted_4 ++ []
def dkwX2_findWanted_3 : List UInt8 := [46, 104, 79, 42, 180, 0, 59, 29, 92, 46, 42, 180, 0, 25, 27, 46, 42, 180, 0, 52, 29, 46, 104, 96]
abbrev dktX2_findWanted_3 : List UInt8 := dkwX2_findWanted_3 ++ dktX2_findWanted_4
def dkwX2_findWanted_2 : List UInt8 := [162, 0, 55, 42, 180, 0, 62, 16, 6, 27, 104, 29, 96, 42, 180, 0, 25, 27, 46, 42, 180, 0, 52, 29]
abbrev dktX2_findWanted_2 : List UInt8 := dkwX2_findWanted_2 ++ dktX2_findWanted_3
def dkwX2_findWanted_1 : List UInt8 := [60, 27, 42, 180, 0, 109, 162, 0, 77, 42, 27, 182, 0, 244, 61, 3, 62, 29, 42, 180, 0, 102]
abbrev dktX2_findWanted_1 : List UInt8 := dkwX2_findWanted_1 ++ dktX2_findWanted_2
def dkwX2_findWanted_0 : List UInt8 := [3, 60, 27, 42, 180, 0, 102, 162, 0, 16, 42, 180, 0, 59, 27, 3, 79, 132, 1, 1, 167, 255, 238, 3]
abbrev dktX2_findWanted_0 : List UInt8 := dkwX2_findWanted_0 ++ dktX2_findWanted_1
theorem dksX2_findWanted_0 : cX2_findWanted.data.toList.drop 0 = dktX2_findWanted_0 := by decide +kernel
theorem dksX2_findWanted_1 : cX2_findWanted.data.toList.drop 24 = dktX2_findWanted_1 := dk_seg dksX2_findWanted_0 24 rfl rfl
theorem dksX2_findWanted_2 : cX2_findWanted.data.toList.drop 46 = dktX2_findWanted_2 := dk_seg dksX2_findWanted_1 22 rfl rfl
theorem dksX2_findWanted_3 : cX2_findWanted.data.toList.drop 70 = dktX2_findWanted_3 := dk_seg dksX2_findWanted_2 24 rfl rfl
theorem dksX2_findWanted_4 : cX2_findWanted.data.toList.drop 94 = dktX2_findWanted_4 := dk_seg dksX2_findWanted_3 24 rfl rfl
theorem dX2_findWanted_0 : decode cX2_findWanted 0 = .ok (.iconst 0, 1) := dk_3 (dk_at dksX2_findWanted_0 0 rfl rfl)
theorem dX2_findWanted_1 : decode cX2_findWanted 1 = .ok (.istore_n 1, 1) := dk_60 (dk_at dksX2_findWanted_0 1 rfl rfl)
theorem dX2_findWanted_2 : decode cX2_findWanted 2 = .ok (.iload_n 1, 1) := dk_27 (dk_at dksX2_findWanted_0 2 rfl rfl)
theorem dX2_findWanted_3 : decode cX2_findWanted 3 = .ok (.aload_n 0, 1) := dk_42 (dk_at dksX2_findWanted_0 3 rfl rfl)
theorem dX2_findWanted_4 : decode cX2_findWanted 4 = .ok (.getfield 102, 3) := dk_180 0 102 (dk_at dksX2_findWanted_0 4 rfl rfl)
theorem dX2_findWanted_7 : decode cX2_findWanted 7 = .ok (.if_icmp .ge 16, 3) := dk_162 0 16 (dk_at dksX2_findWanted_0 7 rfl rfl)
theorem dX2_findWanted_10 : decode cX2_findWanted 10 = .ok (.aload_n 0, 1) := dk_42 (dk_at dksX2_findWanted_0 10 rfl rfl)
theorem dX2_findWanted_11 : decode cX2_findWanted 11 = .ok (.getfield 59, 3) := dk_180 0 59 (dk_at dksX2_findWanted_0 11 rfl rfl)
theorem dX2_findWanted_14 : decode cX2_findWanted 14 = .ok (.iload_n 1, 1) := dk_27 (dk_at dksX2_findWanted_0 14 rfl rfl)
theorem dX2_findWanted_15 : decode cX2_findWanted 15 = .ok (.iconst 0, 1) := dk_3 (dk_at dksX2_findWanted_0 15 rfl rfl)
theorem dX2_findWanted_16 : decode cX2_findWanted 16 = .ok (.iastore, 1) := dk_79 (dk_at dksX2_findWanted_0 16 rfl rfl)
theorem dX2_findWanted_17 : decode cX2_findWanted 17 = .ok (.iinc 1 1, 3) := dk_132 1 1 (dk_at dksX2_findWanted_0 17 rfl rfl)
theorem dX2_findWanted_20 : decode cX2_findWanted 20 = .ok (.goto (-18), 3) := dk_167 255 238 (dk_at dksX2_findWanted_0 20 rfl rfl)
theorem dX2_findWanted_23 : decode cX2_findWanted 23 = .ok (.iconst 0, 1) := dk_3 (dk_at dksX2_findWanted_0 23 rfl rfl)
theorem dX2_findWanted_24 : decode cX2_findWanted 24 = .ok (.istore_n 1, 1) := dk_60 (dk_at dksX2_findWanted_1 0 rfl rfl)
theorem dX2_findWanted_25 : decode cX2_findWanted 25 = .ok (.iload_n 1, 1) := dk_27 (dk_at dksX2_findWanted_1 1 rfl rfl)
theorem dX2_findWanted_26 : decode cX2_findWanted 26 = .ok (.aload_n 0, 1) := dk_42 (dk_at dksX2_findWanted_1 2 rfl rfl)
theorem dX2_findWanted_27 : decode cX2_findWanted 27 = .ok (.getfield 109, 3) := dk_180 0 109 (dk_at dksX2_findWanted_1 3 rfl rfl)
theorem dX2_findWanted_30 : decode cX2_findWanted 30 = .ok (.if_icmp .ge 77, 3) := dk_162 0 77 (dk_at dksX2_findWanted_1 6 rfl rfl)
theorem dX2_findWanted_33 : decode cX2_findWanted 33 = .ok (.aload_n 0, 1) := dk_42 (dk_at dksX2_findWanted_1 9 rfl rfl)
theorem dX2_findWanted_34 : decode cX2_findWanted 34 = .ok (.iload_n 1, 1) := dk_27 (dk_at dksX2_findWanted_1 10 rfl rfl)
theorem dX2_findWanted_35 : decode cX2_findWanted 35 = .ok (.invokevirtual 244, 3) := dk_182 0 244 (dk_at dksX2_findWanted_1 11 rfl rfl)
theorem dX2_findWanted_38 : decode cX2_findWanted 38 = .ok (.istore_n 2, 1) := dk_61 (dk_at dksX2_findWanted_1 14 rfl rfl)
theorem dX2_findWanted_39 : decode cX2_findWanted 39 = .ok (.iconst 0, 1) := dk_3 (dk_at dksX2_findWanted_1 15 rfl rfl)
theorem dX2_findWanted_40 : decode cX2_findWanted 40 = .ok (.istore_n 3, 1) := dk_62 (dk_at dksX2_findWanted_1 16 rfl rfl)
theorem dX2_findWanted_41 : decode cX2_findWanted 41 = .ok (.iload_n 3, 1) := dk_29 (dk_at dksX2_findWanted_1 17 rfl rfl)
theorem dX2_findWanted_42 : decode cX2_findWanted 42 = .ok (.aload_n 0, 1) := dk_42 (dk_at dksX2_findWanted_1 18 rfl rfl)
theorem dX2_findWanted_43 : decode cX2_findWanted 43 = .ok (.getfield 102, 3) := dk_180 0 102 (dk_at dksX2_findWanted_1 19 rfl rfl)
theorem dX2_findWanted_46 : decode cX2_findWanted 46 = .ok (.if_icmp .ge 55, 3) := dk_162 0 55 (dk_at dksX2_findWanted_2 0 rfl rfl)
theorem dX2_findWanted_49 : decode cX2_findWanted 49 = .ok (.aload_n 0, 1) := dk_42 (dk_at dksX2_findWanted_2 3 rfl rfl)
theorem dX2_findWanted_50 : decode cX2_findWanted 50 = .ok (.getfield 62, 3) := dk_180 0 62 (dk_at dksX2_findWanted_2 4 rfl rfl)
theorem dX2_findWanted_53 : decode cX2_findWanted 53 = .ok (.bipush 6, 2) := dk_16 6 (dk_at dksX2_findWanted_2 7 rfl rfl)
theorem dX2_findWanted_55 : decode cX2_findWanted 55 = .ok (.iload_n 1, 1) := dk_27 (dk_at dksX2_findWanted_2 9 rfl rfl)
theorem dX2_findWanted_56 : decode cX2_findWanted 56 = .ok (.imul, 1) := dk_104 (dk_at dksX2_findWanted_2 10 rfl rfl)
theorem dX2_findWanted_57 : decode cX2_findWanted 57 = .ok (.iload_n 3, 1) := dk_29 (dk_at dksX2_findWanted_2 11 rfl rfl)
theorem dX2_findWanted_58 : decode cX2_findWanted 58 = .ok (.iadd, 1) := dk_96 (dk_at dksX2_findWanted_2 12 rfl rfl)
theorem dX2_findWanted_59 : decode cX2_findWanted 59 = .ok (.aload_n 0, 1) := dk_42 (dk_at dksX2_findWanted_2 13 rfl rfl)
theorem dX2_findWanted_60 : decode cX2_findWanted 60 = .ok (.getfield 25, 3) := dk_180 0 25 (dk_at dksX2_findWanted_2 14 rfl rfl)
theorem dX2_findWanted_63 : decode cX2_findWanted 63 = .ok (.iload_n 1, 1) := dk_27 (dk_at dksX2_findWanted_2 17 rfl rfl)
theorem dX2_findWanted_64 : decode cX2_findWanted 64 = .ok (.iaload, 1) := dk_46 (dk_at dksX2_findWanted_2 18 rfl rfl)
theorem dX2_findWanted_65 : decode cX2_findWanted 65 = .ok (.aload_n 0, 1) := dk_42 (dk_at dksX2_findWanted_2 19 rfl rfl)
theorem dX2_findWanted_66 : decode cX2_findWanted 66 = .ok (.getfield 52, 3) := dk_180 0 52 (dk_at dksX2_findWanted_2 20 rfl rfl)
theorem dX2_findWanted_69 : decode cX2_findWanted 69 = .ok (.iload_n 3, 1) := dk_29 (dk_at dksX2_findWanted_2 23 rfl rfl)
theorem dX2_findWanted_70 : decode cX2_findWanted 70 = .ok (.iaload, 1) := dk_46 (dk_at dksX2_findWanted_3 0 rfl rfl)
theorem dX2_findWanted_71 : decode cX2_findWanted 71 = .ok (.imul, 1) := dk_104 (dk_at dksX2_findWanted_3 1 rfl rfl)
theorem dX2_findWanted_72 : decode cX2_findWanted 72 = .ok (.iastore, 1) := dk_79 (dk_at dksX2_findWanted_3 2 rfl rfl)
theorem dX2_findWanted_73 : decode cX2_findWanted 73 = .ok (.aload_n 0, 1) := dk_42 (dk_at dksX2_findWanted_3 3 rfl rfl)
theorem dX2_findWanted_74 : decode cX2_findWanted 74 = .ok (.getfield 59, 3) := dk_180 0 59 (dk_at dksX2_findWanted_3 4 rfl rfl)
theorem dX2_findWanted_77 : decode cX2_findWanted 77 = .ok (.iload_n 3, 1) := dk_29 (dk_at dksX2_findWanted_3 7 rfl rfl)
theorem dX2_findWanted_78 : decode cX2_findWanted 78 = .ok (.dup2, 1) := dk_92 (dk_at dksX2_findWanted_3 8 rfl rfl)
theorem dX2_findWanted_79 : decode cX2_findWanted 79 = .ok (.iaload, 1) := dk_46 (dk_at dksX2_findWanted_3 9 rfl rfl)
theorem dX2_findWanted_80 : decode cX2_findWanted 80 = .ok (.aload_n 0, 1) := dk_42 (dk_at dksX2_findWanted_3 10 rfl rfl)
theorem dX2_findWanted_81 : decode cX2_findWanted 81 = .ok (.getfield 25, 3) := dk_180 0 25 (dk_at dksX2_findWanted_3 11 rfl rfl)
theorem dX2_findWanted_84 : decode cX2_findWanted 84 = .ok (.iload_n 1, 1) := dk_27 (dk_at dksX2_findWanted_3 14 rfl rfl)
theorem dX2_findWanted_85 : decode cX2_findWanted 85 = .ok (.iaload, 1) := dk_46 (dk_at dksX2_findWanted_3 15 rfl rfl)
theorem dX2_findWanted_86 : decode cX2_findWanted 86 = .ok (.aload_n 0, 1) := dk_42 (dk_at dksX2_findWanted_3 16 rfl rfl)
theorem dX2_findWanted_87 : decode cX2_findWanted 87 = .ok (.getfield 52, 3) := dk_180 0 52 (dk_at dksX2_findWanted_3 17 rfl rfl)
theorem dX2_findWanted_90 : decode cX2_findWanted 90 = .ok (.iload_n 3, 1) := dk_29 (dk_at dksX2_findWanted_3 20 rfl rfl)
theorem dX2_findWanted_91 : decode cX2_findWanted 91 = .ok (.iaload, 1) := dk_46 (dk_at dksX2_findWanted_3 21 rfl rfl)
theorem dX2_findWanted_92 : decode cX2_findWanted 92 = .ok (.imul, 1) := dk_104 (dk_at dksX2_findWanted_3 22 rfl rfl)
theorem dX2_findWanted_93 : decode cX2_findWanted 93 = .ok (.iadd, 1) := dk_96 (dk_at dksX2_findWanted_3 23 rfl rfl)
theorem dX2_findWanted_94 : decode cX2_findWanted 94 = .ok (.iastore, 1) := dk_79 (dk_at dksX2_findWanted_4 0 rfl rfl)
theorem dX2_findWanted_95 : decode cX2_findWanted 95 = .ok (.iinc 3 1, 3) := dk_132 3 1 (dk_at dksX2_findWanted_4 1 rfl rfl)
theorem dX2_findWanted_98 : decode cX2_findWanted 98 = .ok (.goto (-57), 3) := dk_167 255 199 (dk_at dksX2_findWanted_4 4 rfl rfl)
theorem dX2_findWanted_101 : decode cX2_findWanted 101 = .ok (.iinc 1 1, 3) := dk_132 1 1 (dk_at dksX2_findWanted_4 7 rfl rfl)
theorem dX2_findWanted_104 : decode cX2_findWanted 104 = .ok (.goto (-79), 3) := dk_167 255 177 (dk_at dksX2_findWanted_4 10 rfl rfl)
theorem dX2_findWanted_107 : decode cX2_findWanted 107 = .ok (.return_, 1) := dk_177 (dk_at dksX2_findWanted_4 13 rfl rfl)
abbrev cX2_bothOver : ByteArray := prog_32_method_43_code
def yX2_bothOver : MethodName := ⟨RX2, "bothOver", "()I"⟩
def dkwX2_bothOver_1 : List UInt8 := [132, 2, 1, 167, 255, 234, 27, 172]
abbrev dktX2_bothOver_1 : List UInt8 := dkwX2_bothOver_1 ++ []
def dkwX2_bothOver_0 : List UInt8 := [3, 60, 3, 61, 28, 42, 180, 0, 102, 162, 0, 20, 27, 42, 28, 182, 0, 250, 184, 0, 253, 96, 60]
abbrev dktX2_bothOver_0 : List UInt8 := dkwX2_bothOver_0 ++ dktX2_bothOver_1
theorem dksX2_bothOver_0 : cX2_bothOver.data.toList.drop 0 = dktX2_bothOver_0 := by decide +kernel
theorem dksX2_bothOver_1 : cX2_bothOver.data.toList.drop 23 = dktX2_bothOver_1 := dk_seg dksX2_bothOver_0 23 rfl rfl
theorem dX2_bothOver_0 : decode cX2_bothOver 0 = .ok (.iconst 0, 1) := dk_3 (dk_at dksX2_bothOver_0 0 rfl rfl)
theorem dX2_bothOver_1 : decode cX2_bothOver 1 = .ok (.istore_n 1, 1) := dk_60 (dk_at dksX2_bothOver_0 1 rfl rfl)
theorem dX2_bothOver_2 : decode cX2_bothOver 2 = .ok (.iconst 0, 1) := dk_3 (dk_at dksX2_bothOver_0 2 rfl rfl)
theorem dX2_bothOver_3 : decode cX2_bothOver 3 = .ok (.istore_n 2, 1) := dk_61 (dk_at dksX2_bothOver_0 3 rfl rfl)
theorem dX2_bothOver_4 : decode cX2_bothOver 4 = .ok (.iload_n 2, 1) := dk_28 (dk_at dksX2_bothOver_0 4 rfl rfl)
theorem dX2_bothOver_5 : decode cX2_bothOver 5 = .ok (.aload_n 0, 1) := dk_42 (dk_at dksX2_bothOver_0 5 rfl rfl)
theorem dX2_bothOver_6 : decode cX2_bothOver 6 = .ok (.getfield 102, 3) := dk_180 0 102 (dk_at dksX2_bothOver_0 6 rfl rfl)
theorem dX2_bothOver_9 : decode cX2_bothOver 9 = .ok (.if_icmp .ge 20, 3) := dk_162 0 20 (dk_at dksX2_bothOver_0 9 rfl rfl)
theorem dX2_bothOver_12 : decode cX2_bothOver 12 = .ok (.iload_n 1, 1) := dk_27 (dk_at dksX2_bothOver_0 12 rfl rfl)
theorem dX2_bothOver_13 : decode cX2_bothOver 13 = .ok (.aload_n 0, 1) := dk_42 (dk_at dksX2_bothOver_0 13 rfl rfl)
theorem dX2_bothOver_14 : decode cX2_bothOver 14 = .ok (.iload_n 2, 1) := dk_28 (dk_at dksX2_bothOver_0 14 rfl rfl)
theorem dX2_bothOver_15 : decode cX2_bothOver 15 = .ok (.invokevirtual 250, 3) := dk_182 0 250 (dk_at dksX2_bothOver_0 15 rfl rfl)
theorem dX2_bothOver_18 : decode cX2_bothOver 18 = .ok (.invokestatic 253, 3) := dk_184 0 253 (dk_at dksX2_bothOver_0 18 rfl rfl)
theorem dX2_bothOver_21 : decode cX2_bothOver 21 = .ok (.iadd, 1) := dk_96 (dk_at dksX2_bothOver_0 21 rfl rfl)
theorem dX2_bothOver_22 : decode cX2_bothOver 22 = .ok (.istore_n 1, 1) := dk_60 (dk_at dksX2_bothOver_0 22 rfl rfl)
theorem dX2_bothOver_23 : decode cX2_bothOver 23 = .ok (.iinc 2 1, 3) := dk_132 2 1 (dk_at dksX2_bothOver_1 0 rfl rfl)
theorem dX2_bothOver_26 : decode cX2_bothOver 26 = .ok (.goto (-22), 3) := dk_167 255 234 (dk_at dksX2_bothOver_1 3 rfl rfl)
theorem dX2_bothOver_29 : decode cX2_bothOver 29 = .ok (.iload_n 1, 1) := dk_27 (dk_at dksX2_bothOver_1 6 rfl rfl)
theorem dX2_bothOver_30 : decode cX2_bothOver 30 = .ok (.ireturn, 1) := dk_172 (dk_at dksX2_bothOver_1 7 rfl rfl)
abbrev cX2_over : ByteArray := prog_32_method_42_code
def yX2_over : MethodName := ⟨RX2, "over", "(I)I"⟩
def dkwX2_over_0 : List UInt8 := [42, 180, 0, 9, 27, 46, 42, 180, 0, 59, 27, 46, 100, 172]
abbrev dktX2_over_0 : List UInt8 := dkwX2_over_0 ++ []
theorem dksX2_over_0 : cX2_over.data.toList.drop 0 = dktX2_over_0 := by decide +kernel
theorem dX2_over_0 : decode cX2_over 0 = .ok (.aload_n 0, 1) := dk_42 (dk_at dksX2_over_0 0 rfl rfl)
theorem dX2_over_1 : decode cX2_over 1 = .ok (.getfield 9, 3) := dk_180 0 9 (dk_at dksX2_over_0 1 rfl rfl)
theorem dX2_over_4 : decode cX2_over 4 = .ok (.iload_n 1, 1) := dk_27 (dk_at dksX2_over_0 4 rfl rfl)
theorem dX2_over_5 : decode cX2_over 5 = .ok (.iaload, 1) := dk_46 (dk_at dksX2_over_0 5 rfl rfl)
theorem dX2_over_6 : decode cX2_over 6 = .ok (.aload_n 0, 1) := dk_42 (dk_at dksX2_over_0 6 rfl rfl)
theorem dX2_over_7 : decode cX2_over 7 = .ok (.getfield 59, 3) := dk_180 0 59 (dk_at dksX2_over_0 7 rfl rfl)
theorem dX2_over_10 : decode cX2_over 10 = .ok (.iload_n 1, 1) := dk_27 (dk_at dksX2_over_0 10 rfl rfl)
theorem dX2_over_11 : decode cX2_over 11 = .ok (.iaload, 1) := dk_46 (dk_at dksX2_over_0 11 rfl rfl)
theorem dX2_over_12 : decode cX2_over 12 = .ok (.isub, 1) := dk_100 (dk_at dksX2_over_0 12 rfl rfl)
theorem dX2_over_13 : decode cX2_over 13 = .ok (.ireturn, 1) := dk_172 (dk_at dksX2_over_0 13 rfl rfl)
abbrev cX2_size : ByteArray := prog_32_method_2_code
def yX2_size : MethodName := ⟨RX2, "size", "(I)I"⟩
def dkwX2_size_0 : List UInt8 := [26, 156, 0, 8, 26, 116, 167, 0, 4, 26, 172]
abbrev dktX2_size_0 : List UInt8 := dkwX2_size_0 ++ []
theorem dksX2_size_0 : cX2_size.data.toList.drop 0 = dktX2_size_0 := by decide +kernel
theorem dX2_size_0 : decode cX2_size 0 = .ok (.iload_n 0, 1) := dk_26 (dk_at dksX2_size_0 0 rfl rfl)
theorem dX2_size_1 : decode cX2_size 1 = .ok (.ifCond .ge 8, 3) := dk_156 0 8 (dk_at dksX2_size_0 1 rfl rfl)
theorem dX2_size_4 : decode cX2_size 4 = .ok (.iload_n 0, 1) := dk_26 (dk_at dksX2_size_0 4 rfl rfl)
theorem dX2_size_5 : decode cX2_size 5 = .ok (.ineg, 1) := dk_116 (dk_at dksX2_size_0 5 rfl rfl)
theorem dX2_size_6 : decode cX2_size 6 = .ok (.goto 4, 3) := dk_167 0 4 (dk_at dksX2_size_0 6 rfl rfl)
theorem dX2_size_9 : decode cX2_size 9 = .ok (.iload_n 0, 1) := dk_26 (dk_at dksX2_size_0 9 rfl rfl)
theorem dX2_size_10 : decode cX2_size 10 = .ok (.ireturn, 1) := dk_172 (dk_at dksX2_size_0 10 rfl rfl)
abbrev cX2_led : ByteArray := prog_32_method_45_code
def yX2_led : MethodName := ⟨RX2, "led", "(II)I"⟩
def dkwX2_led_1 : List UInt8 := [180, 0, 62, 16, 6, 28, 104, 27, 96, 46, 172]
abbrev dktX2_led_1 : List UInt8 := dkwX2_led_1 ++ []
def dkwX2_led_0 : List UInt8 := [42, 27, 182, 0, 132, 153, 0, 11, 42, 28, 182, 0, 144, 154, 0, 5, 2, 172, 42, 182, 1, 1, 42]
abbrev dktX2_led_0 : List UInt8 := dkwX2_led_0 ++ dktX2_led_1
theorem dksX2_led_0 : cX2_led.data.toList.drop 0 = dktX2_led_0 := by decide +kernel
theorem dksX2_led_1 : cX2_led.data.toList.drop 23 = dktX2_led_1 := dk_seg dksX2_led_0 23 rfl rfl
theorem dX2_led_0 : decode cX2_led 0 = .ok (.aload_n 0, 1) := dk_42 (dk_at dksX2_led_0 0 rfl rfl)
theorem dX2_led_1 : decode cX2_led 1 = .ok (.iload_n 1, 1) := dk_27 (dk_at dksX2_led_0 1 rfl rfl)
theorem dX2_led_2 : decode cX2_led 2 = .ok (.invokevirtual 132, 3) := dk_182 0 132 (dk_at dksX2_led_0 2 rfl rfl)
theorem dX2_led_5 : decode cX2_led 5 = .ok (.ifCond .eq 11, 3) := dk_153 0 11 (dk_at dksX2_led_0 5 rfl rfl)
theorem dX2_led_8 : decode cX2_led 8 = .ok (.aload_n 0, 1) := dk_42 (dk_at dksX2_led_0 8 rfl rfl)
theorem dX2_led_9 : decode cX2_led 9 = .ok (.iload_n 2, 1) := dk_28 (dk_at dksX2_led_0 9 rfl rfl)
theorem dX2_led_10 : decode cX2_led 10 = .ok (.invokevirtual 144, 3) := dk_182 0 144 (dk_at dksX2_led_0 10 rfl rfl)
theorem dX2_led_13 : decode cX2_led 13 = .ok (.ifCond .ne 5, 3) := dk_154 0 5 (dk_at dksX2_led_0 13 rfl rfl)
theorem dX2_led_16 : decode cX2_led 16 = .ok (.iconst (-1), 1) := dk_2 (dk_at dksX2_led_0 16 rfl rfl)
theorem dX2_led_17 : decode cX2_led 17 = .ok (.ireturn, 1) := dk_172 (dk_at dksX2_led_0 17 rfl rfl)
theorem dX2_led_18 : decode cX2_led 18 = .ok (.aload_n 0, 1) := dk_42 (dk_at dksX2_led_0 18 rfl rfl)
theorem dX2_led_19 : decode cX2_led 19 = .ok (.invokevirtual 257, 3) := dk_182 1 1 (dk_at dksX2_led_0 19 rfl rfl)
theorem dX2_led_22 : decode cX2_led 22 = .ok (.aload_n 0, 1) := dk_42 (dk_at dksX2_led_0 22 rfl rfl)
theorem dX2_led_23 : decode cX2_led 23 = .ok (.getfield 62, 3) := dk_180 0 62 (dk_at dksX2_led_1 0 rfl rfl)
theorem dX2_led_26 : decode cX2_led 26 = .ok (.bipush 6, 2) := dk_16 6 (dk_at dksX2_led_1 3 rfl rfl)
theorem dX2_led_28 : decode cX2_led 28 = .ok (.iload_n 2, 1) := dk_28 (dk_at dksX2_led_1 5 rfl rfl)
theorem dX2_led_29 : decode cX2_led 29 = .ok (.imul, 1) := dk_104 (dk_at dksX2_led_1 6 rfl rfl)
theorem dX2_led_30 : decode cX2_led 30 = .ok (.iload_n 1, 1) := dk_27 (dk_at dksX2_led_1 7 rfl rfl)
theorem dX2_led_31 : decode cX2_led 31 = .ok (.iadd, 1) := dk_96 (dk_at dksX2_led_1 8 rfl rfl)
theorem dX2_led_32 : decode cX2_led 32 = .ok (.iaload, 1) := dk_46 (dk_at dksX2_led_1 9 rfl rfl)
theorem dX2_led_33 : decode cX2_led 33 = .ok (.ireturn, 1) := dk_172 (dk_at dksX2_led_1 10 rfl rfl)
abbrev cX2_found : ByteArray := prog_32_method_49_code
def yX2_found : MethodName := ⟨RX2, "found", "(II)I"⟩
def dkwX2_found_4 : List UInt8 := [28, 46, 172]
abbrev dktX2_found_4 : List UInt8 := dkwX2_found_4 ++ []
def dkwX2_found_3 : List UInt8 := [42, 180, 1, 7, 172, 42, 180, 1, 10, 172, 42, 180, 1, 13, 172, 42, 180, 1, 16, 172, 42, 180, 0, 65]
abbrev dktX2_found_3 : List UInt8 := dkwX2_found_3 ++ dktX2_found_4
def dkwX2_found_2 : List UInt8 := [170, 0, 0, 0, 0, 0, 51, 255, 255, 255, 252, 255, 255, 255, 255, 0, 0, 0, 46, 0, 0, 0, 41, 0, 0, 0, 36, 0, 0, 0, 31]
abbrev dktX2_found_2 : List UInt8 := dkwX2_found_2 ++ dktX2_found_3
def dkwX2_found_1 : List UInt8 := [154, 0, 5, 2, 172, 42, 27, 182, 1, 29, 28]
abbrev dktX2_found_1 : List UInt8 := dkwX2_found_1 ++ dktX2_found_2
def dkwX2_found_0 : List UInt8 := [27, 184, 1, 24, 153, 0, 21, 28, 133, 20, 1, 27, 42, 180, 0, 102, 4, 100, 133, 184, 0, 105]
abbrev dktX2_found_0 : List UInt8 := dkwX2_found_0 ++ dktX2_found_1
theorem dksX2_found_0 : cX2_found.data.toList.drop 0 = dktX2_found_0 := by decide +kernel
theorem dksX2_found_1 : cX2_found.data.toList.drop 22 = dktX2_found_1 := dk_seg dksX2_found_0 22 rfl rfl
theorem dksX2_found_2 : cX2_found.data.toList.drop 33 = dktX2_found_2 := dk_seg dksX2_found_1 11 rfl rfl
theorem dksX2_found_3 : cX2_found.data.toList.drop 64 = dktX2_found_3 := dk_seg dksX2_found_2 31 rfl rfl
theorem dksX2_found_4 : cX2_found.data.toList.drop 88 = dktX2_found_4 := dk_seg dksX2_found_3 24 rfl rfl
theorem dX2_found_0 : decode cX2_found 0 = .ok (.iload_n 1, 1) := dk_27 (dk_at dksX2_found_0 0 rfl rfl)
theorem dX2_found_1 : decode cX2_found 1 = .ok (.invokestatic 280, 3) := dk_184 1 24 (dk_at dksX2_found_0 1 rfl rfl)
theorem dX2_found_4 : decode cX2_found 4 = .ok (.ifCond .eq 21, 3) := dk_153 0 21 (dk_at dksX2_found_0 4 rfl rfl)
theorem dX2_found_7 : decode cX2_found 7 = .ok (.iload_n 2, 1) := dk_28 (dk_at dksX2_found_0 7 rfl rfl)
theorem dX2_found_8 : decode cX2_found 8 = .ok (.i2l, 1) := dk_133 (dk_at dksX2_found_0 8 rfl rfl)
theorem dX2_found_9 : decode cX2_found 9 = .ok (.ldc2_w 283, 3) := dk_20 1 27 (dk_at dksX2_found_0 9 rfl rfl)
theorem dX2_found_12 : decode cX2_found 12 = .ok (.aload_n 0, 1) := dk_42 (dk_at dksX2_found_0 12 rfl rfl)
theorem dX2_found_13 : decode cX2_found 13 = .ok (.getfield 102, 3) := dk_180 0 102 (dk_at dksX2_found_0 13 rfl rfl)
theorem dX2_found_16 : decode cX2_found 16 = .ok (.iconst 1, 1) := dk_4 (dk_at dksX2_found_0 16 rfl rfl)
theorem dX2_found_17 : decode cX2_found 17 = .ok (.isub, 1) := dk_100 (dk_at dksX2_found_0 17 rfl rfl)
theorem dX2_found_18 : decode cX2_found 18 = .ok (.i2l, 1) := dk_133 (dk_at dksX2_found_0 18 rfl rfl)
theorem dX2_found_19 : decode cX2_found 19 = .ok (.invokestatic 105, 3) := dk_184 0 105 (dk_at dksX2_found_0 19 rfl rfl)
theorem dX2_found_22 : decode cX2_found 22 = .ok (.ifCond .ne 5, 3) := dk_154 0 5 (dk_at dksX2_found_1 0 rfl rfl)
theorem dX2_found_25 : decode cX2_found 25 = .ok (.iconst (-1), 1) := dk_2 (dk_at dksX2_found_1 3 rfl rfl)
theorem dX2_found_26 : decode cX2_found 26 = .ok (.ireturn, 1) := dk_172 (dk_at dksX2_found_1 4 rfl rfl)
theorem dX2_found_27 : decode cX2_found 27 = .ok (.aload_n 0, 1) := dk_42 (dk_at dksX2_found_1 5 rfl rfl)
theorem dX2_found_28 : decode cX2_found 28 = .ok (.iload_n 1, 1) := dk_27 (dk_at dksX2_found_1 6 rfl rfl)
theorem dX2_found_29 : decode cX2_found 29 = .ok (.invokevirtual 285, 3) := dk_182 1 29 (dk_at dksX2_found_1 7 rfl rfl)
theorem dX2_found_32 : decode cX2_found 32 = .ok (.iload_n 2, 1) := dk_28 (dk_at dksX2_found_1 10 rfl rfl)
theorem dX2_found_33 : decode cX2_found 33 = .ok (.tableswitch 51 (-4) (-1) #[46, 41, 36, 31], 31) := by decide +kernel
theorem dX2_found_64 : decode cX2_found 64 = .ok (.aload_n 0, 1) := dk_42 (dk_at dksX2_found_3 0 rfl rfl)
theorem dX2_found_65 : decode cX2_found 65 = .ok (.getfield 263, 3) := dk_180 1 7 (dk_at dksX2_found_3 1 rfl rfl)
theorem dX2_found_68 : decode cX2_found 68 = .ok (.ireturn, 1) := dk_172 (dk_at dksX2_found_3 4 rfl rfl)
theorem dX2_found_69 : decode cX2_found 69 = .ok (.aload_n 0, 1) := dk_42 (dk_at dksX2_found_3 5 rfl rfl)
theorem dX2_found_70 : decode cX2_found 70 = .ok (.getfield 266, 3) := dk_180 1 10 (dk_at dksX2_found_3 6 rfl rfl)
theorem dX2_found_73 : decode cX2_found 73 = .ok (.ireturn, 1) := dk_172 (dk_at dksX2_found_3 9 rfl rfl)
theorem dX2_found_74 : decode cX2_found 74 = .ok (.aload_n 0, 1) := dk_42 (dk_at dksX2_found_3 10 rfl rfl)
theorem dX2_found_75 : decode cX2_found 75 = .ok (.getfield 269, 3) := dk_180 1 13 (dk_at dksX2_found_3 11 rfl rfl)
theorem dX2_found_78 : decode cX2_found 78 = .ok (.ireturn, 1) := dk_172 (dk_at dksX2_found_3 14 rfl rfl)
theorem dX2_found_79 : decode cX2_found 79 = .ok (.aload_n 0, 1) := dk_42 (dk_at dksX2_found_3 15 rfl rfl)
theorem dX2_found_80 : decode cX2_found 80 = .ok (.getfield 272, 3) := dk_180 1 16 (dk_at dksX2_found_3 16 rfl rfl)
theorem dX2_found_83 : decode cX2_found 83 = .ok (.ireturn, 1) := dk_172 (dk_at dksX2_found_3 19 rfl rfl)
theorem dX2_found_84 : decode cX2_found 84 = .ok (.aload_n 0, 1) := dk_42 (dk_at dksX2_found_3 20 rfl rfl)
theorem dX2_found_85 : decode cX2_found 85 = .ok (.getfield 65, 3) := dk_180 0 65 (dk_at dksX2_found_3 21 rfl rfl)
theorem dX2_found_88 : decode cX2_found 88 = .ok (.iload_n 2, 1) := dk_28 (dk_at dksX2_found_4 0 rfl rfl)
theorem dX2_found_89 : decode cX2_found 89 = .ok (.iaload, 1) := dk_46 (dk_at dksX2_found_4 1 rfl rfl)
theorem dX2_found_90 : decode cX2_found 90 = .ok (.ireturn, 1) := dk_172 (dk_at dksX2_found_4 2 rfl rfl)
abbrev cX2_areRounds : ByteArray := prog_32_method_48_code
def yX2_areRounds : MethodName := ⟨RX2, "areRounds", "(I)Z"⟩
def dkwX2_areRounds_0 : List UInt8 := [26, 133, 10, 20, 1, 22, 184, 0, 105, 172]
abbrev dktX2_areRounds_0 : List UInt8 := dkwX2_areRounds_0 ++ []
theorem dksX2_areRounds_0 : cX2_areRounds.data.toList.drop 0 = dktX2_areRounds_0 := by decide +kernel
theorem dX2_areRounds_0 : decode cX2_areRounds 0 = .ok (.iload_n 0, 1) := dk_26 (dk_at dksX2_areRounds_0 0 rfl rfl)
theorem dX2_areRounds_1 : decode cX2_areRounds 1 = .ok (.i2l, 1) := dk_133 (dk_at dksX2_areRounds_0 1 rfl rfl)
theorem dX2_areRounds_2 : decode cX2_areRounds 2 = .ok (.lconst 1, 1) := dk_10 (dk_at dksX2_areRounds_0 2 rfl rfl)
theorem dX2_areRounds_3 : decode cX2_areRounds 3 = .ok (.ldc2_w 278, 3) := dk_20 1 22 (dk_at dksX2_areRounds_0 3 rfl rfl)
theorem dX2_areRounds_6 : decode cX2_areRounds 6 = .ok (.invokestatic 105, 3) := dk_184 0 105 (dk_at dksX2_areRounds_0 6 rfl rfl)
theorem dX2_areRounds_9 : decode cX2_areRounds 9 = .ok (.ireturn, 1) := dk_172 (dk_at dksX2_areRounds_0 9 rfl rfl)
abbrev cX2_goRounds : ByteArray := prog_32_method_46_code
def yX2_goRounds : MethodName := ⟨RX2, "goRounds", "(I)V"⟩
def dkwX2_goRounds_11 : List UInt8 := [180, 0, 71, 29, 46, 79, 132, 3, 1, 167, 255, 215, 177]
abbrev dktX2_goRounds_11 : List UInt8 := dkwX2_goRounds_11 ++ []
def dkwX2_goRounds_10 : List UInt8 := [180, 0, 65, 29, 42, 180, 0, 9, 16, 12, 29, 96, 46, 79, 42, 180, 0, 9, 16, 12, 29, 96, 42]
abbrev dktX2_goRounds_10 : List UInt8 := dkwX2_goRounds_10 ++ dktX2_goRounds_11
def dkwX2_goRounds_9 : List UInt8 := [42, 29, 182, 1, 19, 132, 3, 1, 167, 255, 115, 3, 62, 29, 42, 180, 0, 102, 162, 0, 39, 42]
abbrev dktX2_goRounds_9 : List UInt8 := dkwX2_goRounds_9 ++ dktX2_goRounds_10
def dkwX2_goRounds_8 : List UInt8 := [167, 255, 161, 28, 153, 0, 25, 42, 182, 1, 1, 42, 29, 181, 1, 7, 42, 42, 182, 1, 4, 181, 1, 10]
abbrev dktX2_goRounds_8 : List UInt8 := dkwX2_goRounds_8 ++ dktX2_goRounds_9
def dkwX2_goRounds_7 : List UInt8 := [21, 5, 21, 6, 96, 79, 28, 154, 0, 8, 21, 6, 153, 0, 7, 4, 167, 0, 4, 3, 61, 132, 4, 1]
abbrev dktX2_goRounds_7 : List UInt8 := dkwX2_goRounds_7 ++ dktX2_goRounds_8
def dkwX2_goRounds_6 : List UInt8 := [158, 0, 12, 21, 5, 158, 0, 7, 2, 167, 0, 4, 3, 54, 6, 42, 180, 0, 9, 16, 12, 21, 4, 96]
abbrev dktX2_goRounds_6 : List UInt8 := dkwX2_goRounds_6 ++ dktX2_goRounds_7
def dkwX2_goRounds_5 : List UInt8 := [182, 0, 250, 156, 0, 14, 21, 5, 16, 99, 162, 0, 7, 4, 167, 0, 22, 42, 21, 4, 182, 0, 250]
abbrev dktX2_goRounds_5 : List UInt8 := dkwX2_goRounds_5 ++ dktX2_goRounds_6
def dkwX2_goRounds_4 : List UInt8 := [21, 4, 42, 180, 0, 102, 162, 0, 92, 42, 180, 0, 9, 16, 12, 21, 4, 96, 46, 54, 5, 42, 21, 4]
abbrev dktX2_goRounds_4 : List UInt8 := dkwX2_goRounds_4 ++ dktX2_goRounds_5
def dkwX2_goRounds_3 : List UInt8 := [42, 3, 181, 1, 16, 4, 61, 4, 62, 29, 27, 163, 0, 142, 28, 153, 0, 138, 3, 61, 3, 54, 4]
abbrev dktX2_goRounds_3 : List UInt8 := dkwX2_goRounds_3 ++ dktX2_goRounds_4
def dkwX2_goRounds_2 : List UInt8 := [182, 1, 1, 42, 3, 181, 1, 7, 42, 42, 182, 1, 4, 181, 1, 10, 42, 42, 180, 1, 10, 181, 1, 13]
abbrev dktX2_goRounds_2 : List UInt8 := dkwX2_goRounds_2 ++ dktX2_goRounds_3
def dkwX2_goRounds_1 : List UInt8 := [79, 42, 180, 0, 68, 28, 42, 180, 0, 9, 16, 12, 28, 96, 46, 79, 132, 2, 1, 167, 255, 215, 42]
abbrev dktX2_goRounds_1 : List UInt8 := dkwX2_goRounds_1 ++ dktX2_goRounds_2
def dkwX2_goRounds_0 : List UInt8 := [3, 61, 28, 42, 180, 0, 102, 162, 0, 39, 42, 180, 0, 71, 28, 42, 180, 0, 9, 16, 12, 28, 96, 46]
abbrev dktX2_goRounds_0 : List UInt8 := dkwX2_goRounds_0 ++ dktX2_goRounds_1
theorem dksX2_goRounds_0 : cX2_goRounds.data.toList.drop 0 = dktX2_goRounds_0 := by decide +kernel
theorem dksX2_goRounds_1 : cX2_goRounds.data.toList.drop 24 = dktX2_goRounds_1 := dk_seg dksX2_goRounds_0 24 rfl rfl
theorem dksX2_goRounds_2 : cX2_goRounds.data.toList.drop 47 = dktX2_goRounds_2 := dk_seg dksX2_goRounds_1 23 rfl rfl
theorem dksX2_goRounds_3 : cX2_goRounds.data.toList.drop 71 = dktX2_goRounds_3 := dk_seg dksX2_goRounds_2 24 rfl rfl
theorem dksX2_goRounds_4 : cX2_goRounds.data.toList.drop 94 = dktX2_goRounds_4 := dk_seg dksX2_goRounds_3 23 rfl rfl
theorem dksX2_goRounds_5 : cX2_goRounds.data.toList.drop 118 = dktX2_goRounds_5 := dk_seg dksX2_goRounds_4 24 rfl rfl
theorem dksX2_goRounds_6 : cX2_goRounds.data.toList.drop 141 = dktX2_goRounds_6 := dk_seg dksX2_goRounds_5 23 rfl rfl
theorem dksX2_goRounds_7 : cX2_goRounds.data.toList.drop 165 = dktX2_goRounds_7 := dk_seg dksX2_goRounds_6 24 rfl rfl
theorem dksX2_goRounds_8 : cX2_goRounds.data.toList.drop 189 = dktX2_goRounds_8 := dk_seg dksX2_goRounds_7 24 rfl rfl
theorem dksX2_goRounds_9 : cX2_goRounds.data.toList.drop 213 = dktX2_goRounds_9 := dk_seg dksX2_goRounds_8 24 rfl rfl
theorem dksX2_goRounds_10 : cX2_goRounds.data.toList.drop 235 = dktX2_goRounds_10 := dk_seg dksX2_goRounds_9 22 rfl rfl
theorem dksX2_goRounds_11 : cX2_goRounds.data.toList.drop 258 = dktX2_goRounds_11 := dk_seg dksX2_goRounds_10 23 rfl rfl
theorem dX2_goRounds_0 : decode cX2_goRounds 0 = .ok (.iconst 0, 1) := dk_3 (dk_at dksX2_goRounds_0 0 rfl rfl)
theorem dX2_goRounds_1 : decode cX2_goRounds 1 = .ok (.istore_n 2, 1) := dk_61 (dk_at dksX2_goRounds_0 1 rfl rfl)
theorem dX2_goRounds_2 : decode cX2_goRounds 2 = .ok (.iload_n 2, 1) := dk_28 (dk_at dksX2_goRounds_0 2 rfl rfl)
theorem dX2_goRounds_3 : decode cX2_goRounds 3 = .ok (.aload_n 0, 1) := dk_42 (dk_at dksX2_goRounds_0 3 rfl rfl)
theorem dX2_goRounds_4 : decode cX2_goRounds 4 = .ok (.getfield 102, 3) := dk_180 0 102 (dk_at dksX2_goRounds_0 4 rfl rfl)
theorem dX2_goRounds_7 : decode cX2_goRounds 7 = .ok (.if_icmp .ge 39, 3) := dk_162 0 39 (dk_at dksX2_goRounds_0 7 rfl rfl)
theorem dX2_goRounds_10 : decode cX2_goRounds 10 = .ok (.aload_n 0, 1) := dk_42 (dk_at dksX2_goRounds_0 10 rfl rfl)
theorem dX2_goRounds_11 : decode cX2_goRounds 11 = .ok (.getfield 71, 3) := dk_180 0 71 (dk_at dksX2_goRounds_0 11 rfl rfl)
theorem dX2_goRounds_14 : decode cX2_goRounds 14 = .ok (.iload_n 2, 1) := dk_28 (dk_at dksX2_goRounds_0 14 rfl rfl)
theorem dX2_goRounds_15 : decode cX2_goRounds 15 = .ok (.aload_n 0, 1) := dk_42 (dk_at dksX2_goRounds_0 15 rfl rfl)
theorem dX2_goRounds_16 : decode cX2_goRounds 16 = .ok (.getfield 9, 3) := dk_180 0 9 (dk_at dksX2_goRounds_0 16 rfl rfl)
theorem dX2_goRounds_19 : decode cX2_goRounds 19 = .ok (.bipush 12, 2) := dk_16 12 (dk_at dksX2_goRounds_0 19 rfl rfl)
theorem dX2_goRounds_21 : decode cX2_goRounds 21 = .ok (.iload_n 2, 1) := dk_28 (dk_at dksX2_goRounds_0 21 rfl rfl)
theorem dX2_goRounds_22 : decode cX2_goRounds 22 = .ok (.iadd, 1) := dk_96 (dk_at dksX2_goRounds_0 22 rfl rfl)
theorem dX2_goRounds_23 : decode cX2_goRounds 23 = .ok (.iaload, 1) := dk_46 (dk_at dksX2_goRounds_0 23 rfl rfl)
theorem dX2_goRounds_24 : decode cX2_goRounds 24 = .ok (.iastore, 1) := dk_79 (dk_at dksX2_goRounds_1 0 rfl rfl)
theorem dX2_goRounds_25 : decode cX2_goRounds 25 = .ok (.aload_n 0, 1) := dk_42 (dk_at dksX2_goRounds_1 1 rfl rfl)
theorem dX2_goRounds_26 : decode cX2_goRounds 26 = .ok (.getfield 68, 3) := dk_180 0 68 (dk_at dksX2_goRounds_1 2 rfl rfl)
theorem dX2_goRounds_29 : decode cX2_goRounds 29 = .ok (.iload_n 2, 1) := dk_28 (dk_at dksX2_goRounds_1 5 rfl rfl)
theorem dX2_goRounds_30 : decode cX2_goRounds 30 = .ok (.aload_n 0, 1) := dk_42 (dk_at dksX2_goRounds_1 6 rfl rfl)
theorem dX2_goRounds_31 : decode cX2_goRounds 31 = .ok (.getfield 9, 3) := dk_180 0 9 (dk_at dksX2_goRounds_1 7 rfl rfl)
theorem dX2_goRounds_34 : decode cX2_goRounds 34 = .ok (.bipush 12, 2) := dk_16 12 (dk_at dksX2_goRounds_1 10 rfl rfl)
theorem dX2_goRounds_36 : decode cX2_goRounds 36 = .ok (.iload_n 2, 1) := dk_28 (dk_at dksX2_goRounds_1 12 rfl rfl)
theorem dX2_goRounds_37 : decode cX2_goRounds 37 = .ok (.iadd, 1) := dk_96 (dk_at dksX2_goRounds_1 13 rfl rfl)
theorem dX2_goRounds_38 : decode cX2_goRounds 38 = .ok (.iaload, 1) := dk_46 (dk_at dksX2_goRounds_1 14 rfl rfl)
theorem dX2_goRounds_39 : decode cX2_goRounds 39 = .ok (.iastore, 1) := dk_79 (dk_at dksX2_goRounds_1 15 rfl rfl)
theorem dX2_goRounds_40 : decode cX2_goRounds 40 = .ok (.iinc 2 1, 3) := dk_132 2 1 (dk_at dksX2_goRounds_1 16 rfl rfl)
theorem dX2_goRounds_43 : decode cX2_goRounds 43 = .ok (.goto (-41), 3) := dk_167 255 215 (dk_at dksX2_goRounds_1 19 rfl rfl)
theorem dX2_goRounds_46 : decode cX2_goRounds 46 = .ok (.aload_n 0, 1) := dk_42 (dk_at dksX2_goRounds_1 22 rfl rfl)
theorem dX2_goRounds_47 : decode cX2_goRounds 47 = .ok (.invokevirtual 257, 3) := dk_182 1 1 (dk_at dksX2_goRounds_2 0 rfl rfl)
theorem dX2_goRounds_50 : decode cX2_goRounds 50 = .ok (.aload_n 0, 1) := dk_42 (dk_at dksX2_goRounds_2 3 rfl rfl)
theorem dX2_goRounds_51 : decode cX2_goRounds 51 = .ok (.iconst 0, 1) := dk_3 (dk_at dksX2_goRounds_2 4 rfl rfl)
theorem dX2_goRounds_52 : decode cX2_goRounds 52 = .ok (.putfield 263, 3) := dk_181 1 7 (dk_at dksX2_goRounds_2 5 rfl rfl)
theorem dX2_goRounds_55 : decode cX2_goRounds 55 = .ok (.aload_n 0, 1) := dk_42 (dk_at dksX2_goRounds_2 8 rfl rfl)
theorem dX2_goRounds_56 : decode cX2_goRounds 56 = .ok (.aload_n 0, 1) := dk_42 (dk_at dksX2_goRounds_2 9 rfl rfl)
theorem dX2_goRounds_57 : decode cX2_goRounds 57 = .ok (.invokevirtual 260, 3) := dk_182 1 4 (dk_at dksX2_goRounds_2 10 rfl rfl)
theorem dX2_goRounds_60 : decode cX2_goRounds 60 = .ok (.putfield 266, 3) := dk_181 1 10 (dk_at dksX2_goRounds_2 13 rfl rfl)
theorem dX2_goRounds_63 : decode cX2_goRounds 63 = .ok (.aload_n 0, 1) := dk_42 (dk_at dksX2_goRounds_2 16 rfl rfl)
theorem dX2_goRounds_64 : decode cX2_goRounds 64 = .ok (.aload_n 0, 1) := dk_42 (dk_at dksX2_goRounds_2 17 rfl rfl)
theorem dX2_goRounds_65 : decode cX2_goRounds 65 = .ok (.getfield 266, 3) := dk_180 1 10 (dk_at dksX2_goRounds_2 18 rfl rfl)
theorem dX2_goRounds_68 : decode cX2_goRounds 68 = .ok (.putfield 269, 3) := dk_181 1 13 (dk_at dksX2_goRounds_2 21 rfl rfl)
theorem dX2_goRounds_71 : decode cX2_goRounds 71 = .ok (.aload_n 0, 1) := dk_42 (dk_at dksX2_goRounds_3 0 rfl rfl)
theorem dX2_goRounds_72 : decode cX2_goRounds 72 = .ok (.iconst 0, 1) := dk_3 (dk_at dksX2_goRounds_3 1 rfl rfl)
theorem dX2_goRounds_73 : decode cX2_goRounds 73 = .ok (.putfield 272, 3) := dk_181 1 16 (dk_at dksX2_goRounds_3 2 rfl rfl)
theorem dX2_goRounds_76 : decode cX2_goRounds 76 = .ok (.iconst 1, 1) := dk_4 (dk_at dksX2_goRounds_3 5 rfl rfl)
theorem dX2_goRounds_77 : decode cX2_goRounds 77 = .ok (.istore_n 2, 1) := dk_61 (dk_at dksX2_goRounds_3 6 rfl rfl)
theorem dX2_goRounds_78 : decode cX2_goRounds 78 = .ok (.iconst 1, 1) := dk_4 (dk_at dksX2_goRounds_3 7 rfl rfl)
theorem dX2_goRounds_79 : decode cX2_goRounds 79 = .ok (.istore_n 3, 1) := dk_62 (dk_at dksX2_goRounds_3 8 rfl rfl)
theorem dX2_goRounds_80 : decode cX2_goRounds 80 = .ok (.iload_n 3, 1) := dk_29 (dk_at dksX2_goRounds_3 9 rfl rfl)
theorem dX2_goRounds_81 : decode cX2_goRounds 81 = .ok (.iload_n 1, 1) := dk_27 (dk_at dksX2_goRounds_3 10 rfl rfl)
theorem dX2_goRounds_82 : decode cX2_goRounds 82 = .ok (.if_icmp .gt 142, 3) := dk_163 0 142 (dk_at dksX2_goRounds_3 11 rfl rfl)
theorem dX2_goRounds_85 : decode cX2_goRounds 85 = .ok (.iload_n 2, 1) := dk_28 (dk_at dksX2_goRounds_3 14 rfl rfl)
theorem dX2_goRounds_86 : decode cX2_goRounds 86 = .ok (.ifCond .eq 138, 3) := dk_153 0 138 (dk_at dksX2_goRounds_3 15 rfl rfl)
theorem dX2_goRounds_89 : decode cX2_goRounds 89 = .ok (.iconst 0, 1) := dk_3 (dk_at dksX2_goRounds_3 18 rfl rfl)
theorem dX2_goRounds_90 : decode cX2_goRounds 90 = .ok (.istore_n 2, 1) := dk_61 (dk_at dksX2_goRounds_3 19 rfl rfl)
theorem dX2_goRounds_91 : decode cX2_goRounds 91 = .ok (.iconst 0, 1) := dk_3 (dk_at dksX2_goRounds_3 20 rfl rfl)
theorem dX2_goRounds_92 : decode cX2_goRounds 92 = .ok (.istore 4, 2) := dk_54 4 (dk_at dksX2_goRounds_3 21 rfl rfl)
theorem dX2_goRounds_94 : decode cX2_goRounds 94 = .ok (.iload 4, 2) := dk_21 4 (dk_at dksX2_goRounds_4 0 rfl rfl)
theorem dX2_goRounds_96 : decode cX2_goRounds 96 = .ok (.aload_n 0, 1) := dk_42 (dk_at dksX2_goRounds_4 2 rfl rfl)
theorem dX2_goRounds_97 : decode cX2_goRounds 97 = .ok (.getfield 102, 3) := dk_180 0 102 (dk_at dksX2_goRounds_4 3 rfl rfl)
theorem dX2_goRounds_100 : decode cX2_goRounds 100 = .ok (.if_icmp .ge 92, 3) := dk_162 0 92 (dk_at dksX2_goRounds_4 6 rfl rfl)
theorem dX2_goRounds_103 : decode cX2_goRounds 103 = .ok (.aload_n 0, 1) := dk_42 (dk_at dksX2_goRounds_4 9 rfl rfl)
theorem dX2_goRounds_104 : decode cX2_goRounds 104 = .ok (.getfield 9, 3) := dk_180 0 9 (dk_at dksX2_goRounds_4 10 rfl rfl)
theorem dX2_goRounds_107 : decode cX2_goRounds 107 = .ok (.bipush 12, 2) := dk_16 12 (dk_at dksX2_goRounds_4 13 rfl rfl)
theorem dX2_goRounds_109 : decode cX2_goRounds 109 = .ok (.iload 4, 2) := dk_21 4 (dk_at dksX2_goRounds_4 15 rfl rfl)
theorem dX2_goRounds_111 : decode cX2_goRounds 111 = .ok (.iadd, 1) := dk_96 (dk_at dksX2_goRounds_4 17 rfl rfl)
theorem dX2_goRounds_112 : decode cX2_goRounds 112 = .ok (.iaload, 1) := dk_46 (dk_at dksX2_goRounds_4 18 rfl rfl)
theorem dX2_goRounds_113 : decode cX2_goRounds 113 = .ok (.istore 5, 2) := dk_54 5 (dk_at dksX2_goRounds_4 19 rfl rfl)
theorem dX2_goRounds_115 : decode cX2_goRounds 115 = .ok (.aload_n 0, 1) := dk_42 (dk_at dksX2_goRounds_4 21 rfl rfl)
theorem dX2_goRounds_116 : decode cX2_goRounds 116 = .ok (.iload 4, 2) := dk_21 4 (dk_at dksX2_goRounds_4 22 rfl rfl)
theorem dX2_goRounds_118 : decode cX2_goRounds 118 = .ok (.invokevirtual 250, 3) := dk_182 0 250 (dk_at dksX2_goRounds_5 0 rfl rfl)
theorem dX2_goRounds_121 : decode cX2_goRounds 121 = .ok (.ifCond .ge 14, 3) := dk_156 0 14 (dk_at dksX2_goRounds_5 3 rfl rfl)
theorem dX2_goRounds_124 : decode cX2_goRounds 124 = .ok (.iload 5, 2) := dk_21 5 (dk_at dksX2_goRounds_5 6 rfl rfl)
theorem dX2_goRounds_126 : decode cX2_goRounds 126 = .ok (.bipush 99, 2) := dk_16 99 (dk_at dksX2_goRounds_5 8 rfl rfl)
theorem dX2_goRounds_128 : decode cX2_goRounds 128 = .ok (.if_icmp .ge 7, 3) := dk_162 0 7 (dk_at dksX2_goRounds_5 10 rfl rfl)
theorem dX2_goRounds_131 : decode cX2_goRounds 131 = .ok (.iconst 1, 1) := dk_4 (dk_at dksX2_goRounds_5 13 rfl rfl)
theorem dX2_goRounds_132 : decode cX2_goRounds 132 = .ok (.goto 22, 3) := dk_167 0 22 (dk_at dksX2_goRounds_5 14 rfl rfl)
theorem dX2_goRounds_135 : decode cX2_goRounds 135 = .ok (.aload_n 0, 1) := dk_42 (dk_at dksX2_goRounds_5 17 rfl rfl)
theorem dX2_goRounds_136 : decode cX2_goRounds 136 = .ok (.iload 4, 2) := dk_21 4 (dk_at dksX2_goRounds_5 18 rfl rfl)
theorem dX2_goRounds_138 : decode cX2_goRounds 138 = .ok (.invokevirtual 250, 3) := dk_182 0 250 (dk_at dksX2_goRounds_5 20 rfl rfl)
theorem dX2_goRounds_141 : decode cX2_goRounds 141 = .ok (.ifCond .le 12, 3) := dk_158 0 12 (dk_at dksX2_goRounds_6 0 rfl rfl)
theorem dX2_goRounds_144 : decode cX2_goRounds 144 = .ok (.iload 5, 2) := dk_21 5 (dk_at dksX2_goRounds_6 3 rfl rfl)
theorem dX2_goRounds_146 : decode cX2_goRounds 146 = .ok (.ifCond .le 7, 3) := dk_158 0 7 (dk_at dksX2_goRounds_6 5 rfl rfl)
theorem dX2_goRounds_149 : decode cX2_goRounds 149 = .ok (.iconst (-1), 1) := dk_2 (dk_at dksX2_goRounds_6 8 rfl rfl)
theorem dX2_goRounds_150 : decode cX2_goRounds 150 = .ok (.goto 4, 3) := dk_167 0 4 (dk_at dksX2_goRounds_6 9 rfl rfl)
theorem dX2_goRounds_153 : decode cX2_goRounds 153 = .ok (.iconst 0, 1) := dk_3 (dk_at dksX2_goRounds_6 12 rfl rfl)
theorem dX2_goRounds_154 : decode cX2_goRounds 154 = .ok (.istore 6, 2) := dk_54 6 (dk_at dksX2_goRounds_6 13 rfl rfl)
theorem dX2_goRounds_156 : decode cX2_goRounds 156 = .ok (.aload_n 0, 1) := dk_42 (dk_at dksX2_goRounds_6 15 rfl rfl)
theorem dX2_goRounds_157 : decode cX2_goRounds 157 = .ok (.getfield 9, 3) := dk_180 0 9 (dk_at dksX2_goRounds_6 16 rfl rfl)
theorem dX2_goRounds_160 : decode cX2_goRounds 160 = .ok (.bipush 12, 2) := dk_16 12 (dk_at dksX2_goRounds_6 19 rfl rfl)
theorem dX2_goRounds_162 : decode cX2_goRounds 162 = .ok (.iload 4, 2) := dk_21 4 (dk_at dksX2_goRounds_6 21 rfl rfl)
theorem dX2_goRounds_164 : decode cX2_goRounds 164 = .ok (.iadd, 1) := dk_96 (dk_at dksX2_goRounds_6 23 rfl rfl)
theorem dX2_goRounds_165 : decode cX2_goRounds 165 = .ok (.iload 5, 2) := dk_21 5 (dk_at dksX2_goRounds_7 0 rfl rfl)
theorem dX2_goRounds_167 : decode cX2_goRounds 167 = .ok (.iload 6, 2) := dk_21 6 (dk_at dksX2_goRounds_7 2 rfl rfl)
theorem dX2_goRounds_169 : decode cX2_goRounds 169 = .ok (.iadd, 1) := dk_96 (dk_at dksX2_goRounds_7 4 rfl rfl)
theorem dX2_goRounds_170 : decode cX2_goRounds 170 = .ok (.iastore, 1) := dk_79 (dk_at dksX2_goRounds_7 5 rfl rfl)
theorem dX2_goRounds_171 : decode cX2_goRounds 171 = .ok (.iload_n 2, 1) := dk_28 (dk_at dksX2_goRounds_7 6 rfl rfl)
theorem dX2_goRounds_172 : decode cX2_goRounds 172 = .ok (.ifCond .ne 8, 3) := dk_154 0 8 (dk_at dksX2_goRounds_7 7 rfl rfl)
theorem dX2_goRounds_175 : decode cX2_goRounds 175 = .ok (.iload 6, 2) := dk_21 6 (dk_at dksX2_goRounds_7 10 rfl rfl)
theorem dX2_goRounds_177 : decode cX2_goRounds 177 = .ok (.ifCond .eq 7, 3) := dk_153 0 7 (dk_at dksX2_goRounds_7 12 rfl rfl)
theorem dX2_goRounds_180 : decode cX2_goRounds 180 = .ok (.iconst 1, 1) := dk_4 (dk_at dksX2_goRounds_7 15 rfl rfl)
theorem dX2_goRounds_181 : decode cX2_goRounds 181 = .ok (.goto 4, 3) := dk_167 0 4 (dk_at dksX2_goRounds_7 16 rfl rfl)
theorem dX2_goRounds_184 : decode cX2_goRounds 184 = .ok (.iconst 0, 1) := dk_3 (dk_at dksX2_goRounds_7 19 rfl rfl)
theorem dX2_goRounds_185 : decode cX2_goRounds 185 = .ok (.istore_n 2, 1) := dk_61 (dk_at dksX2_goRounds_7 20 rfl rfl)
theorem dX2_goRounds_186 : decode cX2_goRounds 186 = .ok (.iinc 4 1, 3) := dk_132 4 1 (dk_at dksX2_goRounds_7 21 rfl rfl)
theorem dX2_goRounds_189 : decode cX2_goRounds 189 = .ok (.goto (-95), 3) := dk_167 255 161 (dk_at dksX2_goRounds_8 0 rfl rfl)
theorem dX2_goRounds_192 : decode cX2_goRounds 192 = .ok (.iload_n 2, 1) := dk_28 (dk_at dksX2_goRounds_8 3 rfl rfl)
theorem dX2_goRounds_193 : decode cX2_goRounds 193 = .ok (.ifCond .eq 25, 3) := dk_153 0 25 (dk_at dksX2_goRounds_8 4 rfl rfl)
theorem dX2_goRounds_196 : decode cX2_goRounds 196 = .ok (.aload_n 0, 1) := dk_42 (dk_at dksX2_goRounds_8 7 rfl rfl)
theorem dX2_goRounds_197 : decode cX2_goRounds 197 = .ok (.invokevirtual 257, 3) := dk_182 1 1 (dk_at dksX2_goRounds_8 8 rfl rfl)
theorem dX2_goRounds_200 : decode cX2_goRounds 200 = .ok (.aload_n 0, 1) := dk_42 (dk_at dksX2_goRounds_8 11 rfl rfl)
theorem dX2_goRounds_201 : decode cX2_goRounds 201 = .ok (.iload_n 3, 1) := dk_29 (dk_at dksX2_goRounds_8 12 rfl rfl)
theorem dX2_goRounds_202 : decode cX2_goRounds 202 = .ok (.putfield 263, 3) := dk_181 1 7 (dk_at dksX2_goRounds_8 13 rfl rfl)
theorem dX2_goRounds_205 : decode cX2_goRounds 205 = .ok (.aload_n 0, 1) := dk_42 (dk_at dksX2_goRounds_8 16 rfl rfl)
theorem dX2_goRounds_206 : decode cX2_goRounds 206 = .ok (.aload_n 0, 1) := dk_42 (dk_at dksX2_goRounds_8 17 rfl rfl)
theorem dX2_goRounds_207 : decode cX2_goRounds 207 = .ok (.invokevirtual 260, 3) := dk_182 1 4 (dk_at dksX2_goRounds_8 18 rfl rfl)
theorem dX2_goRounds_210 : decode cX2_goRounds 210 = .ok (.putfield 266, 3) := dk_181 1 10 (dk_at dksX2_goRounds_8 21 rfl rfl)
theorem dX2_goRounds_213 : decode cX2_goRounds 213 = .ok (.aload_n 0, 1) := dk_42 (dk_at dksX2_goRounds_9 0 rfl rfl)
theorem dX2_goRounds_214 : decode cX2_goRounds 214 = .ok (.iload_n 3, 1) := dk_29 (dk_at dksX2_goRounds_9 1 rfl rfl)
theorem dX2_goRounds_215 : decode cX2_goRounds 215 = .ok (.invokevirtual 275, 3) := dk_182 1 19 (dk_at dksX2_goRounds_9 2 rfl rfl)
theorem dX2_goRounds_218 : decode cX2_goRounds 218 = .ok (.iinc 3 1, 3) := dk_132 3 1 (dk_at dksX2_goRounds_9 5 rfl rfl)
theorem dX2_goRounds_221 : decode cX2_goRounds 221 = .ok (.goto (-141), 3) := dk_167 255 115 (dk_at dksX2_goRounds_9 8 rfl rfl)
theorem dX2_goRounds_224 : decode cX2_goRounds 224 = .ok (.iconst 0, 1) := dk_3 (dk_at dksX2_goRounds_9 11 rfl rfl)
theorem dX2_goRounds_225 : decode cX2_goRounds 225 = .ok (.istore_n 3, 1) := dk_62 (dk_at dksX2_goRounds_9 12 rfl rfl)
theorem dX2_goRounds_226 : decode cX2_goRounds 226 = .ok (.iload_n 3, 1) := dk_29 (dk_at dksX2_goRounds_9 13 rfl rfl)
theorem dX2_goRounds_227 : decode cX2_goRounds 227 = .ok (.aload_n 0, 1) := dk_42 (dk_at dksX2_goRounds_9 14 rfl rfl)
theorem dX2_goRounds_228 : decode cX2_goRounds 228 = .ok (.getfield 102, 3) := dk_180 0 102 (dk_at dksX2_goRounds_9 15 rfl rfl)
theorem dX2_goRounds_231 : decode cX2_goRounds 231 = .ok (.if_icmp .ge 39, 3) := dk_162 0 39 (dk_at dksX2_goRounds_9 18 rfl rfl)
theorem dX2_goRounds_234 : decode cX2_goRounds 234 = .ok (.aload_n 0, 1) := dk_42 (dk_at dksX2_goRounds_9 21 rfl rfl)
theorem dX2_goRounds_235 : decode cX2_goRounds 235 = .ok (.getfield 65, 3) := dk_180 0 65 (dk_at dksX2_goRounds_10 0 rfl rfl)
theorem dX2_goRounds_238 : decode cX2_goRounds 238 = .ok (.iload_n 3, 1) := dk_29 (dk_at dksX2_goRounds_10 3 rfl rfl)
theorem dX2_goRounds_239 : decode cX2_goRounds 239 = .ok (.aload_n 0, 1) := dk_42 (dk_at dksX2_goRounds_10 4 rfl rfl)
theorem dX2_goRounds_240 : decode cX2_goRounds 240 = .ok (.getfield 9, 3) := dk_180 0 9 (dk_at dksX2_goRounds_10 5 rfl rfl)
theorem dX2_goRounds_243 : decode cX2_goRounds 243 = .ok (.bipush 12, 2) := dk_16 12 (dk_at dksX2_goRounds_10 8 rfl rfl)
theorem dX2_goRounds_245 : decode cX2_goRounds 245 = .ok (.iload_n 3, 1) := dk_29 (dk_at dksX2_goRounds_10 10 rfl rfl)
theorem dX2_goRounds_246 : decode cX2_goRounds 246 = .ok (.iadd, 1) := dk_96 (dk_at dksX2_goRounds_10 11 rfl rfl)
theorem dX2_goRounds_247 : decode cX2_goRounds 247 = .ok (.iaload, 1) := dk_46 (dk_at dksX2_goRounds_10 12 rfl rfl)
theorem dX2_goRounds_248 : decode cX2_goRounds 248 = .ok (.iastore, 1) := dk_79 (dk_at dksX2_goRounds_10 13 rfl rfl)
theorem dX2_goRounds_249 : decode cX2_goRounds 249 = .ok (.aload_n 0, 1) := dk_42 (dk_at dksX2_goRounds_10 14 rfl rfl)
theorem dX2_goRounds_250 : decode cX2_goRounds 250 = .ok (.getfield 9, 3) := dk_180 0 9 (dk_at dksX2_goRounds_10 15 rfl rfl)
theorem dX2_goRounds_253 : decode cX2_goRounds 253 = .ok (.bipush 12, 2) := dk_16 12 (dk_at dksX2_goRounds_10 18 rfl rfl)
theorem dX2_goRounds_255 : decode cX2_goRounds 255 = .ok (.iload_n 3, 1) := dk_29 (dk_at dksX2_goRounds_10 20 rfl rfl)
theorem dX2_goRounds_256 : decode cX2_goRounds 256 = .ok (.iadd, 1) := dk_96 (dk_at dksX2_goRounds_10 21 rfl rfl)
theorem dX2_goRounds_257 : decode cX2_goRounds 257 = .ok (.aload_n 0, 1) := dk_42 (dk_at dksX2_goRounds_10 22 rfl rfl)
theorem dX2_goRounds_258 : decode cX2_goRounds 258 = .ok (.getfield 71, 3) := dk_180 0 71 (dk_at dksX2_goRounds_11 0 rfl rfl)
theorem dX2_goRounds_261 : decode cX2_goRounds 261 = .ok (.iload_n 3, 1) := dk_29 (dk_at dksX2_goRounds_11 3 rfl rfl)
theorem dX2_goRounds_262 : decode cX2_goRounds 262 = .ok (.iaload, 1) := dk_46 (dk_at dksX2_goRounds_11 4 rfl rfl)
theorem dX2_goRounds_263 : decode cX2_goRounds 263 = .ok (.iastore, 1) := dk_79 (dk_at dksX2_goRounds_11 5 rfl rfl)
theorem dX2_goRounds_264 : decode cX2_goRounds 264 = .ok (.iinc 3 1, 3) := dk_132 3 1 (dk_at dksX2_goRounds_11 6 rfl rfl)
theorem dX2_goRounds_267 : decode cX2_goRounds 267 = .ok (.goto (-41), 3) := dk_167 255 215 (dk_at dksX2_goRounds_11 9 rfl rfl)
theorem dX2_goRounds_270 : decode cX2_goRounds 270 = .ok (.return_, 1) := dk_177 (dk_at dksX2_goRounds_11 12 rfl rfl)
abbrev cX2_keepsLeast : ByteArray := prog_32_method_47_code
def yX2_keepsLeast : MethodName := ⟨RX2, "keepsLeast", "(I)V"⟩
def dkwX2_keepsLeast_2 : List UInt8 := [28, 96, 46, 79, 132, 2, 1, 167, 255, 230, 177]
abbrev dktX2_keepsLeast_2 : List UInt8 := dkwX2_keepsLeast_2 ++ []
def dkwX2_keepsLeast_1 : List UInt8 := [181, 1, 16, 3, 61, 28, 42, 180, 0, 102, 162, 0, 24, 42, 180, 0, 68, 28, 42, 180, 0, 9, 16, 12]
abbrev dktX2_keepsLeast_1 : List UInt8 := dkwX2_keepsLeast_1 ++ dktX2_keepsLeast_2
def dkwX2_keepsLeast_0 : List UInt8 := [42, 180, 1, 10, 42, 180, 1, 13, 161, 0, 4, 177, 42, 42, 180, 1, 10, 181, 1, 13, 42, 27]
abbrev dktX2_keepsLeast_0 : List UInt8 := dkwX2_keepsLeast_0 ++ dktX2_keepsLeast_1
theorem dksX2_keepsLeast_0 : cX2_keepsLeast.data.toList.drop 0 = dktX2_keepsLeast_0 := by decide +kernel
theorem dksX2_keepsLeast_1 : cX2_keepsLeast.data.toList.drop 22 = dktX2_keepsLeast_1 := dk_seg dksX2_keepsLeast_0 22 rfl rfl
theorem dksX2_keepsLeast_2 : cX2_keepsLeast.data.toList.drop 46 = dktX2_keepsLeast_2 := dk_seg dksX2_keepsLeast_1 24 rfl rfl
theorem dX2_keepsLeast_0 : decode cX2_keepsLeast 0 = .ok (.aload_n 0, 1) := dk_42 (dk_at dksX2_keepsLeast_0 0 rfl rfl)
theorem dX2_keepsLeast_1 : decode cX2_keepsLeast 1 = .ok (.getfield 266, 3) := dk_180 1 10 (dk_at dksX2_keepsLeast_0 1 rfl rfl)
theorem dX2_keepsLeast_4 : decode cX2_keepsLeast 4 = .ok (.aload_n 0, 1) := dk_42 (dk_at dksX2_keepsLeast_0 4 rfl rfl)
theorem dX2_keepsLeast_5 : decode cX2_keepsLeast 5 = .ok (.getfield 269, 3) := dk_180 1 13 (dk_at dksX2_keepsLeast_0 5 rfl rfl)
theorem dX2_keepsLeast_8 : decode cX2_keepsLeast 8 = .ok (.if_icmp .lt 4, 3) := dk_161 0 4 (dk_at dksX2_keepsLeast_0 8 rfl rfl)
theorem dX2_keepsLeast_11 : decode cX2_keepsLeast 11 = .ok (.return_, 1) := dk_177 (dk_at dksX2_keepsLeast_0 11 rfl rfl)
theorem dX2_keepsLeast_12 : decode cX2_keepsLeast 12 = .ok (.aload_n 0, 1) := dk_42 (dk_at dksX2_keepsLeast_0 12 rfl rfl)
theorem dX2_keepsLeast_13 : decode cX2_keepsLeast 13 = .ok (.aload_n 0, 1) := dk_42 (dk_at dksX2_keepsLeast_0 13 rfl rfl)
theorem dX2_keepsLeast_14 : decode cX2_keepsLeast 14 = .ok (.getfield 266, 3) := dk_180 1 10 (dk_at dksX2_keepsLeast_0 14 rfl rfl)
theorem dX2_keepsLeast_17 : decode cX2_keepsLeast 17 = .ok (.putfield 269, 3) := dk_181 1 13 (dk_at dksX2_keepsLeast_0 17 rfl rfl)
theorem dX2_keepsLeast_20 : decode cX2_keepsLeast 20 = .ok (.aload_n 0, 1) := dk_42 (dk_at dksX2_keepsLeast_0 20 rfl rfl)
theorem dX2_keepsLeast_21 : decode cX2_keepsLeast 21 = .ok (.iload_n 1, 1) := dk_27 (dk_at dksX2_keepsLeast_0 21 rfl rfl)
theorem dX2_keepsLeast_22 : decode cX2_keepsLeast 22 = .ok (.putfield 272, 3) := dk_181 1 16 (dk_at dksX2_keepsLeast_1 0 rfl rfl)
theorem dX2_keepsLeast_25 : decode cX2_keepsLeast 25 = .ok (.iconst 0, 1) := dk_3 (dk_at dksX2_keepsLeast_1 3 rfl rfl)
theorem dX2_keepsLeast_26 : decode cX2_keepsLeast 26 = .ok (.istore_n 2, 1) := dk_61 (dk_at dksX2_keepsLeast_1 4 rfl rfl)
theorem dX2_keepsLeast_27 : decode cX2_keepsLeast 27 = .ok (.iload_n 2, 1) := dk_28 (dk_at dksX2_keepsLeast_1 5 rfl rfl)
theorem dX2_keepsLeast_28 : decode cX2_keepsLeast 28 = .ok (.aload_n 0, 1) := dk_42 (dk_at dksX2_keepsLeast_1 6 rfl rfl)
theorem dX2_keepsLeast_29 : decode cX2_keepsLeast 29 = .ok (.getfield 102, 3) := dk_180 0 102 (dk_at dksX2_keepsLeast_1 7 rfl rfl)
theorem dX2_keepsLeast_32 : decode cX2_keepsLeast 32 = .ok (.if_icmp .ge 24, 3) := dk_162 0 24 (dk_at dksX2_keepsLeast_1 10 rfl rfl)
theorem dX2_keepsLeast_35 : decode cX2_keepsLeast 35 = .ok (.aload_n 0, 1) := dk_42 (dk_at dksX2_keepsLeast_1 13 rfl rfl)
theorem dX2_keepsLeast_36 : decode cX2_keepsLeast 36 = .ok (.getfield 68, 3) := dk_180 0 68 (dk_at dksX2_keepsLeast_1 14 rfl rfl)
theorem dX2_keepsLeast_39 : decode cX2_keepsLeast 39 = .ok (.iload_n 2, 1) := dk_28 (dk_at dksX2_keepsLeast_1 17 rfl rfl)
theorem dX2_keepsLeast_40 : decode cX2_keepsLeast 40 = .ok (.aload_n 0, 1) := dk_42 (dk_at dksX2_keepsLeast_1 18 rfl rfl)
theorem dX2_keepsLeast_41 : decode cX2_keepsLeast 41 = .ok (.getfield 9, 3) := dk_180 0 9 (dk_at dksX2_keepsLeast_1 19 rfl rfl)
theorem dX2_keepsLeast_44 : decode cX2_keepsLeast 44 = .ok (.bipush 12, 2) := dk_16 12 (dk_at dksX2_keepsLeast_1 22 rfl rfl)
theorem dX2_keepsLeast_46 : decode cX2_keepsLeast 46 = .ok (.iload_n 2, 1) := dk_28 (dk_at dksX2_keepsLeast_2 0 rfl rfl)
theorem dX2_keepsLeast_47 : decode cX2_keepsLeast 47 = .ok (.iadd, 1) := dk_96 (dk_at dksX2_keepsLeast_2 1 rfl rfl)
theorem dX2_keepsLeast_48 : decode cX2_keepsLeast 48 = .ok (.iaload, 1) := dk_46 (dk_at dksX2_keepsLeast_2 2 rfl rfl)
theorem dX2_keepsLeast_49 : decode cX2_keepsLeast 49 = .ok (.iastore, 1) := dk_79 (dk_at dksX2_keepsLeast_2 3 rfl rfl)
theorem dX2_keepsLeast_50 : decode cX2_keepsLeast 50 = .ok (.iinc 2 1, 3) := dk_132 2 1 (dk_at dksX2_keepsLeast_2 4 rfl rfl)
theorem dX2_keepsLeast_53 : decode cX2_keepsLeast 53 = .ok (.goto (-26), 3) := dk_167 255 230 (dk_at dksX2_keepsLeast_2 7 rfl rfl)
theorem dX2_keepsLeast_56 : decode cX2_keepsLeast 56 = .ok (.return_, 1) := dk_177 (dk_at dksX2_keepsLeast_2 10 rfl rfl)
abbrev cX2_set : ByteArray := prog_32_method_50_code
def yX2_set : MethodName := ⟨RX2, "set", "(I)I"⟩
def dkwX2_set_2 : List UInt8 := [132, 3, 1, 167, 255, 229, 28, 172]
abbrev dktX2_set_2 : List UInt8 := dkwX2_set_2 ++ []
def dkwX2_set_1 : List UInt8 := [180, 0, 102, 162, 0, 25, 42, 16, 12, 29, 96, 42, 180, 0, 68, 29, 46, 182, 0, 137, 54, 4]
abbrev dktX2_set_1 : List UInt8 := dkwX2_set_1 ++ dktX2_set_2
def dkwX2_set_0 : List UInt8 := [27, 184, 1, 24, 154, 0, 5, 2, 172, 42, 27, 182, 1, 29, 42, 180, 1, 13, 61, 3, 62, 29, 42]
abbrev dktX2_set_0 : List UInt8 := dkwX2_set_0 ++ dktX2_set_1
theorem dksX2_set_0 : cX2_set.data.toList.drop 0 = dktX2_set_0 := by decide +kernel
theorem dksX2_set_1 : cX2_set.data.toList.drop 23 = dktX2_set_1 := dk_seg dksX2_set_0 23 rfl rfl
theorem dksX2_set_2 : cX2_set.data.toList.drop 45 = dktX2_set_2 := dk_seg dksX2_set_1 22 rfl rfl
theorem dX2_set_0 : decode cX2_set 0 = .ok (.iload_n 1, 1) := dk_27 (dk_at dksX2_set_0 0 rfl rfl)
theorem dX2_set_1 : decode cX2_set 1 = .ok (.invokestatic 280, 3) := dk_184 1 24 (dk_at dksX2_set_0 1 rfl rfl)
theorem dX2_set_4 : decode cX2_set 4 = .ok (.ifCond .ne 5, 3) := dk_154 0 5 (dk_at dksX2_set_0 4 rfl rfl)
theorem dX2_set_7 : decode cX2_set 7 = .ok (.iconst (-1), 1) := dk_2 (dk_at dksX2_set_0 7 rfl rfl)
theorem dX2_set_8 : decode cX2_set 8 = .ok (.ireturn, 1) := dk_172 (dk_at dksX2_set_0 8 rfl rfl)
theorem dX2_set_9 : decode cX2_set 9 = .ok (.aload_n 0, 1) := dk_42 (dk_at dksX2_set_0 9 rfl rfl)
theorem dX2_set_10 : decode cX2_set 10 = .ok (.iload_n 1, 1) := dk_27 (dk_at dksX2_set_0 10 rfl rfl)
theorem dX2_set_11 : decode cX2_set 11 = .ok (.invokevirtual 285, 3) := dk_182 1 29 (dk_at dksX2_set_0 11 rfl rfl)
theorem dX2_set_14 : decode cX2_set 14 = .ok (.aload_n 0, 1) := dk_42 (dk_at dksX2_set_0 14 rfl rfl)
theorem dX2_set_15 : decode cX2_set 15 = .ok (.getfield 269, 3) := dk_180 1 13 (dk_at dksX2_set_0 15 rfl rfl)
theorem dX2_set_18 : decode cX2_set 18 = .ok (.istore_n 2, 1) := dk_61 (dk_at dksX2_set_0 18 rfl rfl)
theorem dX2_set_19 : decode cX2_set 19 = .ok (.iconst 0, 1) := dk_3 (dk_at dksX2_set_0 19 rfl rfl)
theorem dX2_set_20 : decode cX2_set 20 = .ok (.istore_n 3, 1) := dk_62 (dk_at dksX2_set_0 20 rfl rfl)
theorem dX2_set_21 : decode cX2_set 21 = .ok (.iload_n 3, 1) := dk_29 (dk_at dksX2_set_0 21 rfl rfl)
theorem dX2_set_22 : decode cX2_set 22 = .ok (.aload_n 0, 1) := dk_42 (dk_at dksX2_set_0 22 rfl rfl)
theorem dX2_set_23 : decode cX2_set 23 = .ok (.getfield 102, 3) := dk_180 0 102 (dk_at dksX2_set_1 0 rfl rfl)
theorem dX2_set_26 : decode cX2_set 26 = .ok (.if_icmp .ge 25, 3) := dk_162 0 25 (dk_at dksX2_set_1 3 rfl rfl)
theorem dX2_set_29 : decode cX2_set 29 = .ok (.aload_n 0, 1) := dk_42 (dk_at dksX2_set_1 6 rfl rfl)
theorem dX2_set_30 : decode cX2_set 30 = .ok (.bipush 12, 2) := dk_16 12 (dk_at dksX2_set_1 7 rfl rfl)
theorem dX2_set_32 : decode cX2_set 32 = .ok (.iload_n 3, 1) := dk_29 (dk_at dksX2_set_1 9 rfl rfl)
theorem dX2_set_33 : decode cX2_set 33 = .ok (.iadd, 1) := dk_96 (dk_at dksX2_set_1 10 rfl rfl)
theorem dX2_set_34 : decode cX2_set 34 = .ok (.aload_n 0, 1) := dk_42 (dk_at dksX2_set_1 11 rfl rfl)
theorem dX2_set_35 : decode cX2_set 35 = .ok (.getfield 68, 3) := dk_180 0 68 (dk_at dksX2_set_1 12 rfl rfl)
theorem dX2_set_38 : decode cX2_set 38 = .ok (.iload_n 3, 1) := dk_29 (dk_at dksX2_set_1 15 rfl rfl)
theorem dX2_set_39 : decode cX2_set 39 = .ok (.iaload, 1) := dk_46 (dk_at dksX2_set_1 16 rfl rfl)
theorem dX2_set_40 : decode cX2_set 40 = .ok (.invokevirtual 137, 3) := dk_182 0 137 (dk_at dksX2_set_1 17 rfl rfl)
theorem dX2_set_43 : decode cX2_set 43 = .ok (.istore 4, 2) := dk_54 4 (dk_at dksX2_set_1 20 rfl rfl)
theorem dX2_set_45 : decode cX2_set 45 = .ok (.iinc 3 1, 3) := dk_132 3 1 (dk_at dksX2_set_2 0 rfl rfl)
theorem dX2_set_48 : decode cX2_set 48 = .ok (.goto (-27), 3) := dk_167 255 229 (dk_at dksX2_set_2 3 rfl rfl)
theorem dX2_set_51 : decode cX2_set 51 = .ok (.iload_n 2, 1) := dk_28 (dk_at dksX2_set_2 6 rfl rfl)
theorem dX2_set_52 : decode cX2_set 52 = .ok (.ireturn, 1) := dk_172 (dk_at dksX2_set_2 7 rfl rfl)
abbrev cX2_tell : ByteArray := prog_32_method_52_code
def yX2_tell : MethodName := ⟨RX2, "tell", "(II)I"⟩
def dkwX2_tell_1 : List UInt8 := [62, 42, 180, 0, 34, 27, 28, 79, 29, 172]
abbrev dktX2_tell_1 : List UInt8 := dkwX2_tell_1 ++ []
def dkwX2_tell_0 : List UInt8 := [42, 27, 182, 0, 144, 153, 0, 11, 42, 28, 182, 1, 32, 154, 0, 5, 2, 172, 42, 180, 0, 34, 27, 46]
abbrev dktX2_tell_0 : List UInt8 := dkwX2_tell_0 ++ dktX2_tell_1
theorem dksX2_tell_0 : cX2_tell.data.toList.drop 0 = dktX2_tell_0 := by decide +kernel
theorem dksX2_tell_1 : cX2_tell.data.toList.drop 24 = dktX2_tell_1 := dk_seg dksX2_tell_0 24 rfl rfl
theorem dX2_tell_0 : decode cX2_tell 0 = .ok (.aload_n 0, 1) := dk_42 (dk_at dksX2_tell_0 0 rfl rfl)
theorem dX2_tell_1 : decode cX2_tell 1 = .ok (.iload_n 1, 1) := dk_27 (dk_at dksX2_tell_0 1 rfl rfl)
theorem dX2_tell_2 : decode cX2_tell 2 = .ok (.invokevirtual 144, 3) := dk_182 0 144 (dk_at dksX2_tell_0 2 rfl rfl)
theorem dX2_tell_5 : decode cX2_tell 5 = .ok (.ifCond .eq 11, 3) := dk_153 0 11 (dk_at dksX2_tell_0 5 rfl rfl)
theorem dX2_tell_8 : decode cX2_tell 8 = .ok (.aload_n 0, 1) := dk_42 (dk_at dksX2_tell_0 8 rfl rfl)
theorem dX2_tell_9 : decode cX2_tell 9 = .ok (.iload_n 2, 1) := dk_28 (dk_at dksX2_tell_0 9 rfl rfl)
theorem dX2_tell_10 : decode cX2_tell 10 = .ok (.invokevirtual 288, 3) := dk_182 1 32 (dk_at dksX2_tell_0 10 rfl rfl)
theorem dX2_tell_13 : decode cX2_tell 13 = .ok (.ifCond .ne 5, 3) := dk_154 0 5 (dk_at dksX2_tell_0 13 rfl rfl)
theorem dX2_tell_16 : decode cX2_tell 16 = .ok (.iconst (-1), 1) := dk_2 (dk_at dksX2_tell_0 16 rfl rfl)
theorem dX2_tell_17 : decode cX2_tell 17 = .ok (.ireturn, 1) := dk_172 (dk_at dksX2_tell_0 17 rfl rfl)
theorem dX2_tell_18 : decode cX2_tell 18 = .ok (.aload_n 0, 1) := dk_42 (dk_at dksX2_tell_0 18 rfl rfl)
theorem dX2_tell_19 : decode cX2_tell 19 = .ok (.getfield 34, 3) := dk_180 0 34 (dk_at dksX2_tell_0 19 rfl rfl)
theorem dX2_tell_22 : decode cX2_tell 22 = .ok (.iload_n 1, 1) := dk_27 (dk_at dksX2_tell_0 22 rfl rfl)
theorem dX2_tell_23 : decode cX2_tell 23 = .ok (.iaload, 1) := dk_46 (dk_at dksX2_tell_0 23 rfl rfl)
theorem dX2_tell_24 : decode cX2_tell 24 = .ok (.istore_n 3, 1) := dk_62 (dk_at dksX2_tell_1 0 rfl rfl)
theorem dX2_tell_25 : decode cX2_tell 25 = .ok (.aload_n 0, 1) := dk_42 (dk_at dksX2_tell_1 1 rfl rfl)
theorem dX2_tell_26 : decode cX2_tell 26 = .ok (.getfield 34, 3) := dk_180 0 34 (dk_at dksX2_tell_1 2 rfl rfl)
theorem dX2_tell_29 : decode cX2_tell 29 = .ok (.iload_n 1, 1) := dk_27 (dk_at dksX2_tell_1 5 rfl rfl)
theorem dX2_tell_30 : decode cX2_tell 30 = .ok (.iload_n 2, 1) := dk_28 (dk_at dksX2_tell_1 6 rfl rfl)
theorem dX2_tell_31 : decode cX2_tell 31 = .ok (.iastore, 1) := dk_79 (dk_at dksX2_tell_1 7 rfl rfl)
theorem dX2_tell_32 : decode cX2_tell 32 = .ok (.iload_n 3, 1) := dk_29 (dk_at dksX2_tell_1 8 rfl rfl)
theorem dX2_tell_33 : decode cX2_tell 33 = .ok (.ireturn, 1) := dk_172 (dk_at dksX2_tell_1 9 rfl rfl)
abbrev cX2_areDigits : ByteArray := prog_32_method_51_code
def yX2_areDigits : MethodName := ⟨RX2, "areDigits", "(I)Z"⟩
def dkwX2_areDigits_2 : List UInt8 := [172]
abbrev dktX2_areDigits_2 : List UInt8 := dkwX2_areDigits_2 ++ []
def dkwX2_areDigits_1 : List UInt8 := [132, 2, 1, 29, 16, 10, 108, 62, 167, 255, 234, 28, 42, 180, 0, 102, 163, 0, 7, 4, 167, 0, 4, 3]
abbrev dktX2_areDigits_1 : List UInt8 := dkwX2_areDigits_1 ++ dktX2_areDigits_2
def dkwX2_areDigits_0 : List UInt8 := [27, 156, 0, 5, 3, 172, 3, 61, 27, 62, 29, 158, 0, 24, 29, 16, 10, 112, 6, 164, 0, 5, 3, 172]
abbrev dktX2_areDigits_0 : List UInt8 := dkwX2_areDigits_0 ++ dktX2_areDigits_1
theorem dksX2_areDigits_0 : cX2_areDigits.data.toList.drop 0 = dktX2_areDigits_0 := by decide +kernel
theorem dksX2_areDigits_1 : cX2_areDigits.data.toList.drop 24 = dktX2_areDigits_1 := dk_seg dksX2_areDigits_0 24 rfl rfl
theorem dksX2_areDigits_2 : cX2_areDigits.data.toList.drop 48 = dktX2_areDigits_2 := dk_seg dksX2_areDigits_1 24 rfl rfl
theorem dX2_areDigits_0 : decode cX2_areDigits 0 = .ok (.iload_n 1, 1) := dk_27 (dk_at dksX2_areDigits_0 0 rfl rfl)
theorem dX2_areDigits_1 : decode cX2_areDigits 1 = .ok (.ifCond .ge 5, 3) := dk_156 0 5 (dk_at dksX2_areDigits_0 1 rfl rfl)
theorem dX2_areDigits_4 : decode cX2_areDigits 4 = .ok (.iconst 0, 1) := dk_3 (dk_at dksX2_areDigits_0 4 rfl rfl)
theorem dX2_areDigits_5 : decode cX2_areDigits 5 = .ok (.ireturn, 1) := dk_172 (dk_at dksX2_areDigits_0 5 rfl rfl)
theorem dX2_areDigits_6 : decode cX2_areDigits 6 = .ok (.iconst 0, 1) := dk_3 (dk_at dksX2_areDigits_0 6 rfl rfl)
theorem dX2_areDigits_7 : decode cX2_areDigits 7 = .ok (.istore_n 2, 1) := dk_61 (dk_at dksX2_areDigits_0 7 rfl rfl)
theorem dX2_areDigits_8 : decode cX2_areDigits 8 = .ok (.iload_n 1, 1) := dk_27 (dk_at dksX2_areDigits_0 8 rfl rfl)
theorem dX2_areDigits_9 : decode cX2_areDigits 9 = .ok (.istore_n 3, 1) := dk_62 (dk_at dksX2_areDigits_0 9 rfl rfl)
theorem dX2_areDigits_10 : decode cX2_areDigits 10 = .ok (.iload_n 3, 1) := dk_29 (dk_at dksX2_areDigits_0 10 rfl rfl)
theorem dX2_areDigits_11 : decode cX2_areDigits 11 = .ok (.ifCond .le 24, 3) := dk_158 0 24 (dk_at dksX2_areDigits_0 11 rfl rfl)
theorem dX2_areDigits_14 : decode cX2_areDigits 14 = .ok (.iload_n 3, 1) := dk_29 (dk_at dksX2_areDigits_0 14 rfl rfl)
theorem dX2_areDigits_15 : decode cX2_areDigits 15 = .ok (.bipush 10, 2) := dk_16 10 (dk_at dksX2_areDigits_0 15 rfl rfl)
theorem dX2_areDigits_17 : decode cX2_areDigits 17 = .ok (.irem, 1) := dk_112 (dk_at dksX2_areDigits_0 17 rfl rfl)
theorem dX2_areDigits_18 : decode cX2_areDigits 18 = .ok (.iconst 3, 1) := dk_6 (dk_at dksX2_areDigits_0 18 rfl rfl)
theorem dX2_areDigits_19 : decode cX2_areDigits 19 = .ok (.if_icmp .le 5, 3) := dk_164 0 5 (dk_at dksX2_areDigits_0 19 rfl rfl)
theorem dX2_areDigits_22 : decode cX2_areDigits 22 = .ok (.iconst 0, 1) := dk_3 (dk_at dksX2_areDigits_0 22 rfl rfl)
theorem dX2_areDigits_23 : decode cX2_areDigits 23 = .ok (.ireturn, 1) := dk_172 (dk_at dksX2_areDigits_0 23 rfl rfl)
theorem dX2_areDigits_24 : decode cX2_areDigits 24 = .ok (.iinc 2 1, 3) := dk_132 2 1 (dk_at dksX2_areDigits_1 0 rfl rfl)
theorem dX2_areDigits_27 : decode cX2_areDigits 27 = .ok (.iload_n 3, 1) := dk_29 (dk_at dksX2_areDigits_1 3 rfl rfl)
theorem dX2_areDigits_28 : decode cX2_areDigits 28 = .ok (.bipush 10, 2) := dk_16 10 (dk_at dksX2_areDigits_1 4 rfl rfl)
theorem dX2_areDigits_30 : decode cX2_areDigits 30 = .ok (.idiv, 1) := dk_108 (dk_at dksX2_areDigits_1 6 rfl rfl)
theorem dX2_areDigits_31 : decode cX2_areDigits 31 = .ok (.istore_n 3, 1) := dk_62 (dk_at dksX2_areDigits_1 7 rfl rfl)
theorem dX2_areDigits_32 : decode cX2_areDigits 32 = .ok (.goto (-22), 3) := dk_167 255 234 (dk_at dksX2_areDigits_1 8 rfl rfl)
theorem dX2_areDigits_35 : decode cX2_areDigits 35 = .ok (.iload_n 2, 1) := dk_28 (dk_at dksX2_areDigits_1 11 rfl rfl)
theorem dX2_areDigits_36 : decode cX2_areDigits 36 = .ok (.aload_n 0, 1) := dk_42 (dk_at dksX2_areDigits_1 12 rfl rfl)
theorem dX2_areDigits_37 : decode cX2_areDigits 37 = .ok (.getfield 102, 3) := dk_180 0 102 (dk_at dksX2_areDigits_1 13 rfl rfl)
theorem dX2_areDigits_40 : decode cX2_areDigits 40 = .ok (.if_icmp .gt 7, 3) := dk_163 0 7 (dk_at dksX2_areDigits_1 16 rfl rfl)
theorem dX2_areDigits_43 : decode cX2_areDigits 43 = .ok (.iconst 1, 1) := dk_4 (dk_at dksX2_areDigits_1 19 rfl rfl)
theorem dX2_areDigits_44 : decode cX2_areDigits 44 = .ok (.goto 4, 3) := dk_167 0 4 (dk_at dksX2_areDigits_1 20 rfl rfl)
theorem dX2_areDigits_47 : decode cX2_areDigits 47 = .ok (.iconst 0, 1) := dk_3 (dk_at dksX2_areDigits_1 23 rfl rfl)
theorem dX2_areDigits_48 : decode cX2_areDigits 48 = .ok (.ireturn, 1) := dk_172 (dk_at dksX2_areDigits_2 0 rfl rfl)
abbrev cX2_judge : ByteArray := prog_32_method_54_code
def yX2_judge : MethodName := ⟨RX2, "judge", "()I"⟩
def dkwX2_judge_6 : List UInt8 := [180, 0, 9, 27, 46, 164, 0, 8, 16, 30, 27, 96, 172, 132, 1, 1, 167, 255, 179, 16, 254, 172]
abbrev dktX2_judge_6 : List UInt8 := dkwX2_judge_6 ++ []
def dkwX2_judge_5 : List UInt8 := [5, 42, 180, 0, 102, 4, 100, 27, 100, 104, 122, 6, 126, 104, 96, 61, 132, 3, 1, 167, 255, 212, 28, 42]
abbrev dktX2_judge_5 : List UInt8 := dkwX2_judge_5 ++ dktX2_judge_6
def dkwX2_judge_4 : List UInt8 := [42, 180, 0, 109, 162, 0, 42, 28, 42, 180, 0, 25, 29, 46, 42, 42, 180, 0, 34, 29, 46, 182, 1, 35]
abbrev dktX2_judge_4 : List UInt8 := dkwX2_judge_4 ++ dktX2_judge_5
def dkwX2_judge_3 : List UInt8 := [27, 96, 172, 132, 1, 1, 167, 255, 180, 3, 60, 27, 42, 180, 0, 102, 162, 0, 75, 3, 61, 3, 62, 29]
abbrev dktX2_judge_3 : List UInt8 := dkwX2_judge_3 ++ dktX2_judge_4
def dkwX2_judge_2 : List UInt8 := [182, 0, 153, 164, 0, 8, 16, 10, 27, 96, 172, 42, 180, 0, 213, 42, 180, 0, 232, 162, 0, 8, 16, 20]
abbrev dktX2_judge_2 : List UInt8 := dkwX2_judge_2 ++ dktX2_judge_3
def dkwX2_judge_1 : List UInt8 := [182, 1, 35, 182, 0, 229, 42, 180, 0, 216, 42, 27, 182, 0, 149, 163, 0, 15, 42, 180, 0, 219, 42, 27]
abbrev dktX2_judge_1 : List UInt8 := dkwX2_judge_1 ++ dktX2_judge_2
def dkwX2_judge_0 : List UInt8 := [3, 60, 27, 42, 180, 0, 109, 162, 0, 74, 42, 27, 182, 0, 244, 61, 42, 42, 42, 180, 0, 34, 27, 46]
abbrev dktX2_judge_0 : List UInt8 := dkwX2_judge_0 ++ dktX2_judge_1
theorem dksX2_judge_0 : cX2_judge.data.toList.drop 0 = dktX2_judge_0 := by decide +kernel
theorem dksX2_judge_1 : cX2_judge.data.toList.drop 24 = dktX2_judge_1 := dk_seg dksX2_judge_0 24 rfl rfl
theorem dksX2_judge_2 : cX2_judge.data.toList.drop 48 = dktX2_judge_2 := dk_seg dksX2_judge_1 24 rfl rfl
theorem dksX2_judge_3 : cX2_judge.data.toList.drop 72 = dktX2_judge_3 := dk_seg dksX2_judge_2 24 rfl rfl
theorem dksX2_judge_4 : cX2_judge.data.toList.drop 96 = dktX2_judge_4 := dk_seg dksX2_judge_3 24 rfl rfl
theorem dksX2_judge_5 : cX2_judge.data.toList.drop 120 = dktX2_judge_5 := dk_seg dksX2_judge_4 24 rfl rfl
theorem dksX2_judge_6 : cX2_judge.data.toList.drop 144 = dktX2_judge_6 := dk_seg dksX2_judge_5 24 rfl rfl
theorem dX2_judge_0 : decode cX2_judge 0 = .ok (.iconst 0, 1) := dk_3 (dk_at dksX2_judge_0 0 rfl rfl)
theorem dX2_judge_1 : decode cX2_judge 1 = .ok (.istore_n 1, 1) := dk_60 (dk_at dksX2_judge_0 1 rfl rfl)
theorem dX2_judge_2 : decode cX2_judge 2 = .ok (.iload_n 1, 1) := dk_27 (dk_at dksX2_judge_0 2 rfl rfl)
theorem dX2_judge_3 : decode cX2_judge 3 = .ok (.aload_n 0, 1) := dk_42 (dk_at dksX2_judge_0 3 rfl rfl)
theorem dX2_judge_4 : decode cX2_judge 4 = .ok (.getfield 109, 3) := dk_180 0 109 (dk_at dksX2_judge_0 4 rfl rfl)
theorem dX2_judge_7 : decode cX2_judge 7 = .ok (.if_icmp .ge 74, 3) := dk_162 0 74 (dk_at dksX2_judge_0 7 rfl rfl)
theorem dX2_judge_10 : decode cX2_judge 10 = .ok (.aload_n 0, 1) := dk_42 (dk_at dksX2_judge_0 10 rfl rfl)
theorem dX2_judge_11 : decode cX2_judge 11 = .ok (.iload_n 1, 1) := dk_27 (dk_at dksX2_judge_0 11 rfl rfl)
theorem dX2_judge_12 : decode cX2_judge 12 = .ok (.invokevirtual 244, 3) := dk_182 0 244 (dk_at dksX2_judge_0 12 rfl rfl)
theorem dX2_judge_15 : decode cX2_judge 15 = .ok (.istore_n 2, 1) := dk_61 (dk_at dksX2_judge_0 15 rfl rfl)
theorem dX2_judge_16 : decode cX2_judge 16 = .ok (.aload_n 0, 1) := dk_42 (dk_at dksX2_judge_0 16 rfl rfl)
theorem dX2_judge_17 : decode cX2_judge 17 = .ok (.aload_n 0, 1) := dk_42 (dk_at dksX2_judge_0 17 rfl rfl)
theorem dX2_judge_18 : decode cX2_judge 18 = .ok (.aload_n 0, 1) := dk_42 (dk_at dksX2_judge_0 18 rfl rfl)
theorem dX2_judge_19 : decode cX2_judge 19 = .ok (.getfield 34, 3) := dk_180 0 34 (dk_at dksX2_judge_0 19 rfl rfl)
theorem dX2_judge_22 : decode cX2_judge 22 = .ok (.iload_n 1, 1) := dk_27 (dk_at dksX2_judge_0 22 rfl rfl)
theorem dX2_judge_23 : decode cX2_judge 23 = .ok (.iaload, 1) := dk_46 (dk_at dksX2_judge_0 23 rfl rfl)
theorem dX2_judge_24 : decode cX2_judge 24 = .ok (.invokevirtual 291, 3) := dk_182 1 35 (dk_at dksX2_judge_1 0 rfl rfl)
theorem dX2_judge_27 : decode cX2_judge 27 = .ok (.invokevirtual 229, 3) := dk_182 0 229 (dk_at dksX2_judge_1 3 rfl rfl)
theorem dX2_judge_30 : decode cX2_judge 30 = .ok (.aload_n 0, 1) := dk_42 (dk_at dksX2_judge_1 6 rfl rfl)
theorem dX2_judge_31 : decode cX2_judge 31 = .ok (.getfield 216, 3) := dk_180 0 216 (dk_at dksX2_judge_1 7 rfl rfl)
theorem dX2_judge_34 : decode cX2_judge 34 = .ok (.aload_n 0, 1) := dk_42 (dk_at dksX2_judge_1 10 rfl rfl)
theorem dX2_judge_35 : decode cX2_judge 35 = .ok (.iload_n 1, 1) := dk_27 (dk_at dksX2_judge_1 11 rfl rfl)
theorem dX2_judge_36 : decode cX2_judge 36 = .ok (.invokevirtual 149, 3) := dk_182 0 149 (dk_at dksX2_judge_1 12 rfl rfl)
theorem dX2_judge_39 : decode cX2_judge 39 = .ok (.if_icmp .gt 15, 3) := dk_163 0 15 (dk_at dksX2_judge_1 15 rfl rfl)
theorem dX2_judge_42 : decode cX2_judge 42 = .ok (.aload_n 0, 1) := dk_42 (dk_at dksX2_judge_1 18 rfl rfl)
theorem dX2_judge_43 : decode cX2_judge 43 = .ok (.getfield 219, 3) := dk_180 0 219 (dk_at dksX2_judge_1 19 rfl rfl)
theorem dX2_judge_46 : decode cX2_judge 46 = .ok (.aload_n 0, 1) := dk_42 (dk_at dksX2_judge_1 22 rfl rfl)
theorem dX2_judge_47 : decode cX2_judge 47 = .ok (.iload_n 1, 1) := dk_27 (dk_at dksX2_judge_1 23 rfl rfl)
theorem dX2_judge_48 : decode cX2_judge 48 = .ok (.invokevirtual 153, 3) := dk_182 0 153 (dk_at dksX2_judge_2 0 rfl rfl)
theorem dX2_judge_51 : decode cX2_judge 51 = .ok (.if_icmp .le 8, 3) := dk_164 0 8 (dk_at dksX2_judge_2 3 rfl rfl)
theorem dX2_judge_54 : decode cX2_judge 54 = .ok (.bipush 10, 2) := dk_16 10 (dk_at dksX2_judge_2 6 rfl rfl)
theorem dX2_judge_56 : decode cX2_judge 56 = .ok (.iload_n 1, 1) := dk_27 (dk_at dksX2_judge_2 8 rfl rfl)
theorem dX2_judge_57 : decode cX2_judge 57 = .ok (.iadd, 1) := dk_96 (dk_at dksX2_judge_2 9 rfl rfl)
theorem dX2_judge_58 : decode cX2_judge 58 = .ok (.ireturn, 1) := dk_172 (dk_at dksX2_judge_2 10 rfl rfl)
theorem dX2_judge_59 : decode cX2_judge 59 = .ok (.aload_n 0, 1) := dk_42 (dk_at dksX2_judge_2 11 rfl rfl)
theorem dX2_judge_60 : decode cX2_judge 60 = .ok (.getfield 213, 3) := dk_180 0 213 (dk_at dksX2_judge_2 12 rfl rfl)
theorem dX2_judge_63 : decode cX2_judge 63 = .ok (.aload_n 0, 1) := dk_42 (dk_at dksX2_judge_2 15 rfl rfl)
theorem dX2_judge_64 : decode cX2_judge 64 = .ok (.getfield 232, 3) := dk_180 0 232 (dk_at dksX2_judge_2 16 rfl rfl)
theorem dX2_judge_67 : decode cX2_judge 67 = .ok (.if_icmp .ge 8, 3) := dk_162 0 8 (dk_at dksX2_judge_2 19 rfl rfl)
theorem dX2_judge_70 : decode cX2_judge 70 = .ok (.bipush 20, 2) := dk_16 20 (dk_at dksX2_judge_2 22 rfl rfl)
theorem dX2_judge_72 : decode cX2_judge 72 = .ok (.iload_n 1, 1) := dk_27 (dk_at dksX2_judge_3 0 rfl rfl)
theorem dX2_judge_73 : decode cX2_judge 73 = .ok (.iadd, 1) := dk_96 (dk_at dksX2_judge_3 1 rfl rfl)
theorem dX2_judge_74 : decode cX2_judge 74 = .ok (.ireturn, 1) := dk_172 (dk_at dksX2_judge_3 2 rfl rfl)
theorem dX2_judge_75 : decode cX2_judge 75 = .ok (.iinc 1 1, 3) := dk_132 1 1 (dk_at dksX2_judge_3 3 rfl rfl)
theorem dX2_judge_78 : decode cX2_judge 78 = .ok (.goto (-76), 3) := dk_167 255 180 (dk_at dksX2_judge_3 6 rfl rfl)
theorem dX2_judge_81 : decode cX2_judge 81 = .ok (.iconst 0, 1) := dk_3 (dk_at dksX2_judge_3 9 rfl rfl)
theorem dX2_judge_82 : decode cX2_judge 82 = .ok (.istore_n 1, 1) := dk_60 (dk_at dksX2_judge_3 10 rfl rfl)
theorem dX2_judge_83 : decode cX2_judge 83 = .ok (.iload_n 1, 1) := dk_27 (dk_at dksX2_judge_3 11 rfl rfl)
theorem dX2_judge_84 : decode cX2_judge 84 = .ok (.aload_n 0, 1) := dk_42 (dk_at dksX2_judge_3 12 rfl rfl)
theorem dX2_judge_85 : decode cX2_judge 85 = .ok (.getfield 102, 3) := dk_180 0 102 (dk_at dksX2_judge_3 13 rfl rfl)
theorem dX2_judge_88 : decode cX2_judge 88 = .ok (.if_icmp .ge 75, 3) := dk_162 0 75 (dk_at dksX2_judge_3 16 rfl rfl)
theorem dX2_judge_91 : decode cX2_judge 91 = .ok (.iconst 0, 1) := dk_3 (dk_at dksX2_judge_3 19 rfl rfl)
theorem dX2_judge_92 : decode cX2_judge 92 = .ok (.istore_n 2, 1) := dk_61 (dk_at dksX2_judge_3 20 rfl rfl)
theorem dX2_judge_93 : decode cX2_judge 93 = .ok (.iconst 0, 1) := dk_3 (dk_at dksX2_judge_3 21 rfl rfl)
theorem dX2_judge_94 : decode cX2_judge 94 = .ok (.istore_n 3, 1) := dk_62 (dk_at dksX2_judge_3 22 rfl rfl)
theorem dX2_judge_95 : decode cX2_judge 95 = .ok (.iload_n 3, 1) := dk_29 (dk_at dksX2_judge_3 23 rfl rfl)
theorem dX2_judge_96 : decode cX2_judge 96 = .ok (.aload_n 0, 1) := dk_42 (dk_at dksX2_judge_4 0 rfl rfl)
theorem dX2_judge_97 : decode cX2_judge 97 = .ok (.getfield 109, 3) := dk_180 0 109 (dk_at dksX2_judge_4 1 rfl rfl)
theorem dX2_judge_100 : decode cX2_judge 100 = .ok (.if_icmp .ge 42, 3) := dk_162 0 42 (dk_at dksX2_judge_4 4 rfl rfl)
theorem dX2_judge_103 : decode cX2_judge 103 = .ok (.iload_n 2, 1) := dk_28 (dk_at dksX2_judge_4 7 rfl rfl)
theorem dX2_judge_104 : decode cX2_judge 104 = .ok (.aload_n 0, 1) := dk_42 (dk_at dksX2_judge_4 8 rfl rfl)
theorem dX2_judge_105 : decode cX2_judge 105 = .ok (.getfield 25, 3) := dk_180 0 25 (dk_at dksX2_judge_4 9 rfl rfl)
theorem dX2_judge_108 : decode cX2_judge 108 = .ok (.iload_n 3, 1) := dk_29 (dk_at dksX2_judge_4 12 rfl rfl)
theorem dX2_judge_109 : decode cX2_judge 109 = .ok (.iaload, 1) := dk_46 (dk_at dksX2_judge_4 13 rfl rfl)
theorem dX2_judge_110 : decode cX2_judge 110 = .ok (.aload_n 0, 1) := dk_42 (dk_at dksX2_judge_4 14 rfl rfl)
theorem dX2_judge_111 : decode cX2_judge 111 = .ok (.aload_n 0, 1) := dk_42 (dk_at dksX2_judge_4 15 rfl rfl)
theorem dX2_judge_112 : decode cX2_judge 112 = .ok (.getfield 34, 3) := dk_180 0 34 (dk_at dksX2_judge_4 16 rfl rfl)
theorem dX2_judge_115 : decode cX2_judge 115 = .ok (.iload_n 3, 1) := dk_29 (dk_at dksX2_judge_4 19 rfl rfl)
theorem dX2_judge_116 : decode cX2_judge 116 = .ok (.iaload, 1) := dk_46 (dk_at dksX2_judge_4 20 rfl rfl)
theorem dX2_judge_117 : decode cX2_judge 117 = .ok (.invokevirtual 291, 3) := dk_182 1 35 (dk_at dksX2_judge_4 21 rfl rfl)
theorem dX2_judge_120 : decode cX2_judge 120 = .ok (.iconst 2, 1) := dk_5 (dk_at dksX2_judge_5 0 rfl rfl)
theorem dX2_judge_121 : decode cX2_judge 121 = .ok (.aload_n 0, 1) := dk_42 (dk_at dksX2_judge_5 1 rfl rfl)
theorem dX2_judge_122 : decode cX2_judge 122 = .ok (.getfield 102, 3) := dk_180 0 102 (dk_at dksX2_judge_5 2 rfl rfl)
theorem dX2_judge_125 : decode cX2_judge 125 = .ok (.iconst 1, 1) := dk_4 (dk_at dksX2_judge_5 5 rfl rfl)
theorem dX2_judge_126 : decode cX2_judge 126 = .ok (.isub, 1) := dk_100 (dk_at dksX2_judge_5 6 rfl rfl)
theorem dX2_judge_127 : decode cX2_judge 127 = .ok (.iload_n 1, 1) := dk_27 (dk_at dksX2_judge_5 7 rfl rfl)
theorem dX2_judge_128 : decode cX2_judge 128 = .ok (.isub, 1) := dk_100 (dk_at dksX2_judge_5 8 rfl rfl)
theorem dX2_judge_129 : decode cX2_judge 129 = .ok (.imul, 1) := dk_104 (dk_at dksX2_judge_5 9 rfl rfl)
theorem dX2_judge_130 : decode cX2_judge 130 = .ok (.ishr, 1) := dk_122 (dk_at dksX2_judge_5 10 rfl rfl)
theorem dX2_judge_131 : decode cX2_judge 131 = .ok (.iconst 3, 1) := dk_6 (dk_at dksX2_judge_5 11 rfl rfl)
theorem dX2_judge_132 : decode cX2_judge 132 = .ok (.iand, 1) := dk_126 (dk_at dksX2_judge_5 12 rfl rfl)
theorem dX2_judge_133 : decode cX2_judge 133 = .ok (.imul, 1) := dk_104 (dk_at dksX2_judge_5 13 rfl rfl)
theorem dX2_judge_134 : decode cX2_judge 134 = .ok (.iadd, 1) := dk_96 (dk_at dksX2_judge_5 14 rfl rfl)
theorem dX2_judge_135 : decode cX2_judge 135 = .ok (.istore_n 2, 1) := dk_61 (dk_at dksX2_judge_5 15 rfl rfl)
theorem dX2_judge_136 : decode cX2_judge 136 = .ok (.iinc 3 1, 3) := dk_132 3 1 (dk_at dksX2_judge_5 16 rfl rfl)
theorem dX2_judge_139 : decode cX2_judge 139 = .ok (.goto (-44), 3) := dk_167 255 212 (dk_at dksX2_judge_5 19 rfl rfl)
theorem dX2_judge_142 : decode cX2_judge 142 = .ok (.iload_n 2, 1) := dk_28 (dk_at dksX2_judge_5 22 rfl rfl)
theorem dX2_judge_143 : decode cX2_judge 143 = .ok (.aload_n 0, 1) := dk_42 (dk_at dksX2_judge_5 23 rfl rfl)
theorem dX2_judge_144 : decode cX2_judge 144 = .ok (.getfield 9, 3) := dk_180 0 9 (dk_at dksX2_judge_6 0 rfl rfl)
theorem dX2_judge_147 : decode cX2_judge 147 = .ok (.iload_n 1, 1) := dk_27 (dk_at dksX2_judge_6 3 rfl rfl)
theorem dX2_judge_148 : decode cX2_judge 148 = .ok (.iaload, 1) := dk_46 (dk_at dksX2_judge_6 4 rfl rfl)
theorem dX2_judge_149 : decode cX2_judge 149 = .ok (.if_icmp .le 8, 3) := dk_164 0 8 (dk_at dksX2_judge_6 5 rfl rfl)
theorem dX2_judge_152 : decode cX2_judge 152 = .ok (.bipush 30, 2) := dk_16 30 (dk_at dksX2_judge_6 8 rfl rfl)
theorem dX2_judge_154 : decode cX2_judge 154 = .ok (.iload_n 1, 1) := dk_27 (dk_at dksX2_judge_6 10 rfl rfl)
theorem dX2_judge_155 : decode cX2_judge 155 = .ok (.iadd, 1) := dk_96 (dk_at dksX2_judge_6 11 rfl rfl)
theorem dX2_judge_156 : decode cX2_judge 156 = .ok (.ireturn, 1) := dk_172 (dk_at dksX2_judge_6 12 rfl rfl)
theorem dX2_judge_157 : decode cX2_judge 157 = .ok (.iinc 1 1, 3) := dk_132 1 1 (dk_at dksX2_judge_6 13 rfl rfl)
theorem dX2_judge_160 : decode cX2_judge 160 = .ok (.goto (-77), 3) := dk_167 255 179 (dk_at dksX2_judge_6 16 rfl rfl)
theorem dX2_judge_163 : decode cX2_judge 163 = .ok (.bipush (-2), 2) := dk_16 254 (dk_at dksX2_judge_6 19 rfl rfl)
theorem dX2_judge_165 : decode cX2_judge 165 = .ok (.ireturn, 1) := dk_172 (dk_at dksX2_judge_6 21 rfl rfl)
abbrev cX2_packed : ByteArray := prog_32_method_53_code
def yX2_packed : MethodName := ⟨RX2, "packed", "(I)I"⟩
def dkwX2_packed_1 : List UInt8 := [104, 120, 128, 61, 29, 16, 10, 108, 62, 132, 4, 1, 167, 255, 227, 28, 172]
abbrev dktX2_packed_1 : List UInt8 := dkwX2_packed_1 ++ []
def dkwX2_packed_0 : List UInt8 := [3, 61, 27, 62, 3, 54, 4, 21, 4, 42, 180, 0, 102, 162, 0, 26, 28, 29, 16, 10, 112, 5, 21, 4]
abbrev dktX2_packed_0 : List UInt8 := dkwX2_packed_0 ++ dktX2_packed_1
theorem dksX2_packed_0 : cX2_packed.data.toList.drop 0 = dktX2_packed_0 := by decide +kernel
theorem dksX2_packed_1 : cX2_packed.data.toList.drop 24 = dktX2_packed_1 := dk_seg dksX2_packed_0 24 rfl rfl
theorem dX2_packed_0 : decode cX2_packed 0 = .ok (.iconst 0, 1) := dk_3 (dk_at dksX2_packed_0 0 rfl rfl)
theorem dX2_packed_1 : decode cX2_packed 1 = .ok (.istore_n 2, 1) := dk_61 (dk_at dksX2_packed_0 1 rfl rfl)
theorem dX2_packed_2 : decode cX2_packed 2 = .ok (.iload_n 1, 1) := dk_27 (dk_at dksX2_packed_0 2 rfl rfl)
theorem dX2_packed_3 : decode cX2_packed 3 = .ok (.istore_n 3, 1) := dk_62 (dk_at dksX2_packed_0 3 rfl rfl)
theorem dX2_packed_4 : decode cX2_packed 4 = .ok (.iconst 0, 1) := dk_3 (dk_at dksX2_packed_0 4 rfl rfl)
theorem dX2_packed_5 : decode cX2_packed 5 = .ok (.istore 4, 2) := dk_54 4 (dk_at dksX2_packed_0 5 rfl rfl)
theorem dX2_packed_7 : decode cX2_packed 7 = .ok (.iload 4, 2) := dk_21 4 (dk_at dksX2_packed_0 7 rfl rfl)
theorem dX2_packed_9 : decode cX2_packed 9 = .ok (.aload_n 0, 1) := dk_42 (dk_at dksX2_packed_0 9 rfl rfl)
theorem dX2_packed_10 : decode cX2_packed 10 = .ok (.getfield 102, 3) := dk_180 0 102 (dk_at dksX2_packed_0 10 rfl rfl)
theorem dX2_packed_13 : decode cX2_packed 13 = .ok (.if_icmp .ge 26, 3) := dk_162 0 26 (dk_at dksX2_packed_0 13 rfl rfl)
theorem dX2_packed_16 : decode cX2_packed 16 = .ok (.iload_n 2, 1) := dk_28 (dk_at dksX2_packed_0 16 rfl rfl)
theorem dX2_packed_17 : decode cX2_packed 17 = .ok (.iload_n 3, 1) := dk_29 (dk_at dksX2_packed_0 17 rfl rfl)
theorem dX2_packed_18 : decode cX2_packed 18 = .ok (.bipush 10, 2) := dk_16 10 (dk_at dksX2_packed_0 18 rfl rfl)
theorem dX2_packed_20 : decode cX2_packed 20 = .ok (.irem, 1) := dk_112 (dk_at dksX2_packed_0 20 rfl rfl)
theorem dX2_packed_21 : decode cX2_packed 21 = .ok (.iconst 2, 1) := dk_5 (dk_at dksX2_packed_0 21 rfl rfl)
theorem dX2_packed_22 : decode cX2_packed 22 = .ok (.iload 4, 2) := dk_21 4 (dk_at dksX2_packed_0 22 rfl rfl)
theorem dX2_packed_24 : decode cX2_packed 24 = .ok (.imul, 1) := dk_104 (dk_at dksX2_packed_1 0 rfl rfl)
theorem dX2_packed_25 : decode cX2_packed 25 = .ok (.ishl, 1) := dk_120 (dk_at dksX2_packed_1 1 rfl rfl)
theorem dX2_packed_26 : decode cX2_packed 26 = .ok (.ior, 1) := dk_128 (dk_at dksX2_packed_1 2 rfl rfl)
theorem dX2_packed_27 : decode cX2_packed 27 = .ok (.istore_n 2, 1) := dk_61 (dk_at dksX2_packed_1 3 rfl rfl)
theorem dX2_packed_28 : decode cX2_packed 28 = .ok (.iload_n 3, 1) := dk_29 (dk_at dksX2_packed_1 4 rfl rfl)
theorem dX2_packed_29 : decode cX2_packed 29 = .ok (.bipush 10, 2) := dk_16 10 (dk_at dksX2_packed_1 5 rfl rfl)
theorem dX2_packed_31 : decode cX2_packed 31 = .ok (.idiv, 1) := dk_108 (dk_at dksX2_packed_1 7 rfl rfl)
theorem dX2_packed_32 : decode cX2_packed 32 = .ok (.istore_n 3, 1) := dk_62 (dk_at dksX2_packed_1 8 rfl rfl)
theorem dX2_packed_33 : decode cX2_packed 33 = .ok (.iinc 4 1, 3) := dk_132 4 1 (dk_at dksX2_packed_1 9 rfl rfl)
theorem dX2_packed_36 : decode cX2_packed 36 = .ok (.goto (-29), 3) := dk_167 255 227 (dk_at dksX2_packed_1 12 rfl rfl)
theorem dX2_packed_39 : decode cX2_packed 39 = .ok (.iload_n 2, 1) := dk_28 (dk_at dksX2_packed_1 15 rfl rfl)
theorem dX2_packed_40 : decode cX2_packed 40 = .ok (.ireturn, 1) := dk_172 (dk_at dksX2_packed_1 16 rfl rfl)
abbrev cX2_changed : ByteArray := prog_32_method_57_code
def yX2_changed : MethodName := ⟨RX2, "changed", "(III)I"⟩
def dkwX2_changed_2 : List UInt8 := [180, 1, 38, 167, 0, 12, 42, 180, 1, 38, 42, 180, 0, 232, 100, 172]
abbrev dktX2_changed_2 : List UInt8 := dkwX2_changed_2 ++ []
def dkwX2_changed_1 : List UInt8 := [154, 0, 5, 2, 172, 42, 27, 182, 0, 244, 54, 4, 42, 27, 28, 182, 1, 47, 29, 154, 0, 10, 42]
abbrev dktX2_changed_1 : List UInt8 := dkwX2_changed_1 ++ dktX2_changed_2
def dkwX2_changed_0 : List UInt8 := [42, 27, 182, 0, 144, 153, 0, 20, 28, 184, 1, 44, 153, 0, 13, 29, 133, 9, 10, 184, 0, 105]
abbrev dktX2_changed_0 : List UInt8 := dkwX2_changed_0 ++ dktX2_changed_1
theorem dksX2_changed_0 : cX2_changed.data.toList.drop 0 = dktX2_changed_0 := by decide +kernel
theorem dksX2_changed_1 : cX2_changed.data.toList.drop 22 = dktX2_changed_1 := dk_seg dksX2_changed_0 22 rfl rfl
theorem dksX2_changed_2 : cX2_changed.data.toList.drop 45 = dktX2_changed_2 := dk_seg dksX2_changed_1 23 rfl rfl
theorem dX2_changed_0 : decode cX2_changed 0 = .ok (.aload_n 0, 1) := dk_42 (dk_at dksX2_changed_0 0 rfl rfl)
theorem dX2_changed_1 : decode cX2_changed 1 = .ok (.iload_n 1, 1) := dk_27 (dk_at dksX2_changed_0 1 rfl rfl)
theorem dX2_changed_2 : decode cX2_changed 2 = .ok (.invokevirtual 144, 3) := dk_182 0 144 (dk_at dksX2_changed_0 2 rfl rfl)
theorem dX2_changed_5 : decode cX2_changed 5 = .ok (.ifCond .eq 20, 3) := dk_153 0 20 (dk_at dksX2_changed_0 5 rfl rfl)
theorem dX2_changed_8 : decode cX2_changed 8 = .ok (.iload_n 2, 1) := dk_28 (dk_at dksX2_changed_0 8 rfl rfl)
theorem dX2_changed_9 : decode cX2_changed 9 = .ok (.invokestatic 300, 3) := dk_184 1 44 (dk_at dksX2_changed_0 9 rfl rfl)
theorem dX2_changed_12 : decode cX2_changed 12 = .ok (.ifCond .eq 13, 3) := dk_153 0 13 (dk_at dksX2_changed_0 12 rfl rfl)
theorem dX2_changed_15 : decode cX2_changed 15 = .ok (.iload_n 3, 1) := dk_29 (dk_at dksX2_changed_0 15 rfl rfl)
theorem dX2_changed_16 : decode cX2_changed 16 = .ok (.i2l, 1) := dk_133 (dk_at dksX2_changed_0 16 rfl rfl)
theorem dX2_changed_17 : decode cX2_changed 17 = .ok (.lconst 0, 1) := dk_9 (dk_at dksX2_changed_0 17 rfl rfl)
theorem dX2_changed_18 : decode cX2_changed 18 = .ok (.lconst 1, 1) := dk_10 (dk_at dksX2_changed_0 18 rfl rfl)
theorem dX2_changed_19 : decode cX2_changed 19 = .ok (.invokestatic 105, 3) := dk_184 0 105 (dk_at dksX2_changed_0 19 rfl rfl)
theorem dX2_changed_22 : decode cX2_changed 22 = .ok (.ifCond .ne 5, 3) := dk_154 0 5 (dk_at dksX2_changed_1 0 rfl rfl)
theorem dX2_changed_25 : decode cX2_changed 25 = .ok (.iconst (-1), 1) := dk_2 (dk_at dksX2_changed_1 3 rfl rfl)
theorem dX2_changed_26 : decode cX2_changed 26 = .ok (.ireturn, 1) := dk_172 (dk_at dksX2_changed_1 4 rfl rfl)
theorem dX2_changed_27 : decode cX2_changed 27 = .ok (.aload_n 0, 1) := dk_42 (dk_at dksX2_changed_1 5 rfl rfl)
theorem dX2_changed_28 : decode cX2_changed 28 = .ok (.iload_n 1, 1) := dk_27 (dk_at dksX2_changed_1 6 rfl rfl)
theorem dX2_changed_29 : decode cX2_changed 29 = .ok (.invokevirtual 244, 3) := dk_182 0 244 (dk_at dksX2_changed_1 7 rfl rfl)
theorem dX2_changed_32 : decode cX2_changed 32 = .ok (.istore 4, 2) := dk_54 4 (dk_at dksX2_changed_1 10 rfl rfl)
theorem dX2_changed_34 : decode cX2_changed 34 = .ok (.aload_n 0, 1) := dk_42 (dk_at dksX2_changed_1 12 rfl rfl)
theorem dX2_changed_35 : decode cX2_changed 35 = .ok (.iload_n 1, 1) := dk_27 (dk_at dksX2_changed_1 13 rfl rfl)
theorem dX2_changed_36 : decode cX2_changed 36 = .ok (.iload_n 2, 1) := dk_28 (dk_at dksX2_changed_1 14 rfl rfl)
theorem dX2_changed_37 : decode cX2_changed 37 = .ok (.invokevirtual 303, 3) := dk_182 1 47 (dk_at dksX2_changed_1 15 rfl rfl)
theorem dX2_changed_40 : decode cX2_changed 40 = .ok (.iload_n 3, 1) := dk_29 (dk_at dksX2_changed_1 18 rfl rfl)
theorem dX2_changed_41 : decode cX2_changed 41 = .ok (.ifCond .ne 10, 3) := dk_154 0 10 (dk_at dksX2_changed_1 19 rfl rfl)
theorem dX2_changed_44 : decode cX2_changed 44 = .ok (.aload_n 0, 1) := dk_42 (dk_at dksX2_changed_1 22 rfl rfl)
theorem dX2_changed_45 : decode cX2_changed 45 = .ok (.getfield 294, 3) := dk_180 1 38 (dk_at dksX2_changed_2 0 rfl rfl)
theorem dX2_changed_48 : decode cX2_changed 48 = .ok (.goto 12, 3) := dk_167 0 12 (dk_at dksX2_changed_2 3 rfl rfl)
theorem dX2_changed_51 : decode cX2_changed 51 = .ok (.aload_n 0, 1) := dk_42 (dk_at dksX2_changed_2 6 rfl rfl)
theorem dX2_changed_52 : decode cX2_changed 52 = .ok (.getfield 294, 3) := dk_180 1 38 (dk_at dksX2_changed_2 7 rfl rfl)
theorem dX2_changed_55 : decode cX2_changed 55 = .ok (.aload_n 0, 1) := dk_42 (dk_at dksX2_changed_2 10 rfl rfl)
theorem dX2_changed_56 : decode cX2_changed 56 = .ok (.getfield 232, 3) := dk_180 0 232 (dk_at dksX2_changed_2 11 rfl rfl)
theorem dX2_changed_59 : decode cX2_changed 59 = .ok (.isub, 1) := dk_100 (dk_at dksX2_changed_2 14 rfl rfl)
theorem dX2_changed_60 : decode cX2_changed 60 = .ok (.ireturn, 1) := dk_172 (dk_at dksX2_changed_2 15 rfl rfl)
abbrev cX2_isRate : ByteArray := prog_32_method_56_code
def yX2_isRate : MethodName := ⟨RX2, "isRate", "(I)Z"⟩
def dkwX2_isRate_0 : List UInt8 := [26, 133, 10, 20, 0, 112, 184, 0, 105, 172]
abbrev dktX2_isRate_0 : List UInt8 := dkwX2_isRate_0 ++ []
theorem dksX2_isRate_0 : cX2_isRate.data.toList.drop 0 = dktX2_isRate_0 := by decide +kernel
theorem dX2_isRate_0 : decode cX2_isRate 0 = .ok (.iload_n 0, 1) := dk_26 (dk_at dksX2_isRate_0 0 rfl rfl)
theorem dX2_isRate_1 : decode cX2_isRate 1 = .ok (.i2l, 1) := dk_133 (dk_at dksX2_isRate_0 1 rfl rfl)
theorem dX2_isRate_2 : decode cX2_isRate 2 = .ok (.lconst 1, 1) := dk_10 (dk_at dksX2_isRate_0 2 rfl rfl)
theorem dX2_isRate_3 : decode cX2_isRate 3 = .ok (.ldc2_w 112, 3) := dk_20 0 112 (dk_at dksX2_isRate_0 3 rfl rfl)
theorem dX2_isRate_6 : decode cX2_isRate 6 = .ok (.invokestatic 105, 3) := dk_184 0 105 (dk_at dksX2_isRate_0 6 rfl rfl)
theorem dX2_isRate_9 : decode cX2_isRate 9 = .ok (.ireturn, 1) := dk_172 (dk_at dksX2_isRate_0 9 rfl rfl)
abbrev cX2_findChanged : ByteArray := prog_32_method_55_code
def yX2_findChanged : MethodName := ⟨RX2, "findChanged", "(II)V"⟩
def dkwX2_findChanged_6 : List UInt8 := [181, 1, 38, 42, 42, 180, 0, 219, 181, 1, 41, 132, 5, 1, 167, 255, 118, 177]
abbrev dktX2_findChanged_6 : List UInt8 := dkwX2_findChanged_6 ++ []
def dkwX2_findChanged_5 : List UInt8 := [167, 0, 4, 3, 54, 7, 21, 7, 153, 0, 26, 21, 5, 62, 21, 6, 54, 4, 42, 42, 180, 0, 213]
abbrev dktX2_findChanged_5 : List UInt8 := dkwX2_findChanged_5 ++ dktX2_findChanged_6
def dkwX2_findChanged_4 : List UInt8 := [161, 0, 21, 21, 6, 21, 4, 160, 0, 18, 42, 180, 0, 219, 42, 180, 1, 41, 162, 0, 7, 4]
abbrev dktX2_findChanged_4 : List UInt8 := dkwX2_findChanged_4 ++ dktX2_findChanged_5
def dkwX2_findChanged_3 : List UInt8 := [42, 180, 1, 38, 163, 0, 39, 42, 180, 0, 213, 42, 180, 1, 38, 160, 0, 32, 21, 6, 21, 4]
abbrev dktX2_findChanged_3 : List UInt8 := dkwX2_findChanged_3 ++ dktX2_findChanged_4
def dkwX2_findChanged_2 : List UInt8 := [182, 0, 153, 104, 100, 42, 27, 182, 0, 149, 164, 0, 6, 167, 0, 89, 29, 155, 0, 50, 42, 180, 0, 213]
abbrev dktX2_findChanged_2 : List UInt8 := dkwX2_findChanged_2 ++ dktX2_findChanged_3
def dkwX2_findChanged_1 : List UInt8 := [21, 5, 182, 0, 229, 42, 180, 0, 216, 28, 42, 180, 0, 219, 104, 96, 54, 6, 21, 6, 28, 42, 27]
abbrev dktX2_findChanged_1 : List UInt8 := dkwX2_findChanged_1 ++ dktX2_findChanged_2
def dkwX2_findChanged_0 : List UInt8 := [42, 27, 182, 0, 222, 2, 62, 3, 54, 4, 3, 54, 5, 21, 5, 42, 182, 0, 226, 162, 0, 135, 42]
abbrev dktX2_findChanged_0 : List UInt8 := dkwX2_findChanged_0 ++ dktX2_findChanged_1
theorem dksX2_findChanged_0 : cX2_findChanged.data.toList.drop 0 = dktX2_findChanged_0 := by decide +kernel
theorem dksX2_findChanged_1 : cX2_findChanged.data.toList.drop 23 = dktX2_findChanged_1 := dk_seg dksX2_findChanged_0 23 rfl rfl
theorem dksX2_findChanged_2 : cX2_findChanged.data.toList.drop 46 = dktX2_findChanged_2 := dk_seg dksX2_findChanged_1 23 rfl rfl
theorem dksX2_findChanged_3 : cX2_findChanged.data.toList.drop 70 = dktX2_findChanged_3 := dk_seg dksX2_findChanged_2 24 rfl rfl
theorem dksX2_findChanged_4 : cX2_findChanged.data.toList.drop 92 = dktX2_findChanged_4 := dk_seg dksX2_findChanged_3 22 rfl rfl
theorem dksX2_findChanged_5 : cX2_findChanged.data.toList.drop 114 = dktX2_findChanged_5 := dk_seg dksX2_findChanged_4 22 rfl rfl
theorem dksX2_findChanged_6 : cX2_findChanged.data.toList.drop 137 = dktX2_findChanged_6 := dk_seg dksX2_findChanged_5 23 rfl rfl
theorem dX2_findChanged_0 : decode cX2_findChanged 0 = .ok (.aload_n 0, 1) := dk_42 (dk_at dksX2_findChanged_0 0 rfl rfl)
theorem dX2_findChanged_1 : decode cX2_findChanged 1 = .ok (.iload_n 1, 1) := dk_27 (dk_at dksX2_findChanged_0 1 rfl rfl)
theorem dX2_findChanged_2 : decode cX2_findChanged 2 = .ok (.invokevirtual 222, 3) := dk_182 0 222 (dk_at dksX2_findChanged_0 2 rfl rfl)
theorem dX2_findChanged_5 : decode cX2_findChanged 5 = .ok (.iconst (-1), 1) := dk_2 (dk_at dksX2_findChanged_0 5 rfl rfl)
theorem dX2_findChanged_6 : decode cX2_findChanged 6 = .ok (.istore_n 3, 1) := dk_62 (dk_at dksX2_findChanged_0 6 rfl rfl)
theorem dX2_findChanged_7 : decode cX2_findChanged 7 = .ok (.iconst 0, 1) := dk_3 (dk_at dksX2_findChanged_0 7 rfl rfl)
theorem dX2_findChanged_8 : decode cX2_findChanged 8 = .ok (.istore 4, 2) := dk_54 4 (dk_at dksX2_findChanged_0 8 rfl rfl)
theorem dX2_findChanged_10 : decode cX2_findChanged 10 = .ok (.iconst 0, 1) := dk_3 (dk_at dksX2_findChanged_0 10 rfl rfl)
theorem dX2_findChanged_11 : decode cX2_findChanged 11 = .ok (.istore 5, 2) := dk_54 5 (dk_at dksX2_findChanged_0 11 rfl rfl)
theorem dX2_findChanged_13 : decode cX2_findChanged 13 = .ok (.iload 5, 2) := dk_21 5 (dk_at dksX2_findChanged_0 13 rfl rfl)
theorem dX2_findChanged_15 : decode cX2_findChanged 15 = .ok (.aload_n 0, 1) := dk_42 (dk_at dksX2_findChanged_0 15 rfl rfl)
theorem dX2_findChanged_16 : decode cX2_findChanged 16 = .ok (.invokevirtual 226, 3) := dk_182 0 226 (dk_at dksX2_findChanged_0 16 rfl rfl)
theorem dX2_findChanged_19 : decode cX2_findChanged 19 = .ok (.if_icmp .ge 135, 3) := dk_162 0 135 (dk_at dksX2_findChanged_0 19 rfl rfl)
theorem dX2_findChanged_22 : decode cX2_findChanged 22 = .ok (.aload_n 0, 1) := dk_42 (dk_at dksX2_findChanged_0 22 rfl rfl)
theorem dX2_findChanged_23 : decode cX2_findChanged 23 = .ok (.iload 5, 2) := dk_21 5 (dk_at dksX2_findChanged_1 0 rfl rfl)
theorem dX2_findChanged_25 : decode cX2_findChanged 25 = .ok (.invokevirtual 229, 3) := dk_182 0 229 (dk_at dksX2_findChanged_1 2 rfl rfl)
theorem dX2_findChanged_28 : decode cX2_findChanged 28 = .ok (.aload_n 0, 1) := dk_42 (dk_at dksX2_findChanged_1 5 rfl rfl)
theorem dX2_findChanged_29 : decode cX2_findChanged 29 = .ok (.getfield 216, 3) := dk_180 0 216 (dk_at dksX2_findChanged_1 6 rfl rfl)
theorem dX2_findChanged_32 : decode cX2_findChanged 32 = .ok (.iload_n 2, 1) := dk_28 (dk_at dksX2_findChanged_1 9 rfl rfl)
theorem dX2_findChanged_33 : decode cX2_findChanged 33 = .ok (.aload_n 0, 1) := dk_42 (dk_at dksX2_findChanged_1 10 rfl rfl)
theorem dX2_findChanged_34 : decode cX2_findChanged 34 = .ok (.getfield 219, 3) := dk_180 0 219 (dk_at dksX2_findChanged_1 11 rfl rfl)
theorem dX2_findChanged_37 : decode cX2_findChanged 37 = .ok (.imul, 1) := dk_104 (dk_at dksX2_findChanged_1 14 rfl rfl)
theorem dX2_findChanged_38 : decode cX2_findChanged 38 = .ok (.iadd, 1) := dk_96 (dk_at dksX2_findChanged_1 15 rfl rfl)
theorem dX2_findChanged_39 : decode cX2_findChanged 39 = .ok (.istore 6, 2) := dk_54 6 (dk_at dksX2_findChanged_1 16 rfl rfl)
theorem dX2_findChanged_41 : decode cX2_findChanged 41 = .ok (.iload 6, 2) := dk_21 6 (dk_at dksX2_findChanged_1 18 rfl rfl)
theorem dX2_findChanged_43 : decode cX2_findChanged 43 = .ok (.iload_n 2, 1) := dk_28 (dk_at dksX2_findChanged_1 20 rfl rfl)
theorem dX2_findChanged_44 : decode cX2_findChanged 44 = .ok (.aload_n 0, 1) := dk_42 (dk_at dksX2_findChanged_1 21 rfl rfl)
theorem dX2_findChanged_45 : decode cX2_findChanged 45 = .ok (.iload_n 1, 1) := dk_27 (dk_at dksX2_findChanged_1 22 rfl rfl)
theorem dX2_findChanged_46 : decode cX2_findChanged 46 = .ok (.invokevirtual 153, 3) := dk_182 0 153 (dk_at dksX2_findChanged_2 0 rfl rfl)
theorem dX2_findChanged_49 : decode cX2_findChanged 49 = .ok (.imul, 1) := dk_104 (dk_at dksX2_findChanged_2 3 rfl rfl)
theorem dX2_findChanged_50 : decode cX2_findChanged 50 = .ok (.isub, 1) := dk_100 (dk_at dksX2_findChanged_2 4 rfl rfl)
theorem dX2_findChanged_51 : decode cX2_findChanged 51 = .ok (.aload_n 0, 1) := dk_42 (dk_at dksX2_findChanged_2 5 rfl rfl)
theorem dX2_findChanged_52 : decode cX2_findChanged 52 = .ok (.iload_n 1, 1) := dk_27 (dk_at dksX2_findChanged_2 6 rfl rfl)
theorem dX2_findChanged_53 : decode cX2_findChanged 53 = .ok (.invokevirtual 149, 3) := dk_182 0 149 (dk_at dksX2_findChanged_2 7 rfl rfl)
theorem dX2_findChanged_56 : decode cX2_findChanged 56 = .ok (.if_icmp .le 6, 3) := dk_164 0 6 (dk_at dksX2_findChanged_2 10 rfl rfl)
theorem dX2_findChanged_59 : decode cX2_findChanged 59 = .ok (.goto 89, 3) := dk_167 0 89 (dk_at dksX2_findChanged_2 13 rfl rfl)
theorem dX2_findChanged_62 : decode cX2_findChanged 62 = .ok (.iload_n 3, 1) := dk_29 (dk_at dksX2_findChanged_2 16 rfl rfl)
theorem dX2_findChanged_63 : decode cX2_findChanged 63 = .ok (.ifCond .lt 50, 3) := dk_155 0 50 (dk_at dksX2_findChanged_2 17 rfl rfl)
theorem dX2_findChanged_66 : decode cX2_findChanged 66 = .ok (.aload_n 0, 1) := dk_42 (dk_at dksX2_findChanged_2 20 rfl rfl)
theorem dX2_findChanged_67 : decode cX2_findChanged 67 = .ok (.getfield 213, 3) := dk_180 0 213 (dk_at dksX2_findChanged_2 21 rfl rfl)
theorem dX2_findChanged_70 : decode cX2_findChanged 70 = .ok (.aload_n 0, 1) := dk_42 (dk_at dksX2_findChanged_3 0 rfl rfl)
theorem dX2_findChanged_71 : decode cX2_findChanged 71 = .ok (.getfield 294, 3) := dk_180 1 38 (dk_at dksX2_findChanged_3 1 rfl rfl)
theorem dX2_findChanged_74 : decode cX2_findChanged 74 = .ok (.if_icmp .gt 39, 3) := dk_163 0 39 (dk_at dksX2_findChanged_3 4 rfl rfl)
theorem dX2_findChanged_77 : decode cX2_findChanged 77 = .ok (.aload_n 0, 1) := dk_42 (dk_at dksX2_findChanged_3 7 rfl rfl)
theorem dX2_findChanged_78 : decode cX2_findChanged 78 = .ok (.getfield 213, 3) := dk_180 0 213 (dk_at dksX2_findChanged_3 8 rfl rfl)
theorem dX2_findChanged_81 : decode cX2_findChanged 81 = .ok (.aload_n 0, 1) := dk_42 (dk_at dksX2_findChanged_3 11 rfl rfl)
theorem dX2_findChanged_82 : decode cX2_findChanged 82 = .ok (.getfield 294, 3) := dk_180 1 38 (dk_at dksX2_findChanged_3 12 rfl rfl)
theorem dX2_findChanged_85 : decode cX2_findChanged 85 = .ok (.if_icmp .ne 32, 3) := dk_160 0 32 (dk_at dksX2_findChanged_3 15 rfl rfl)
theorem dX2_findChanged_88 : decode cX2_findChanged 88 = .ok (.iload 6, 2) := dk_21 6 (dk_at dksX2_findChanged_3 18 rfl rfl)
theorem dX2_findChanged_90 : decode cX2_findChanged 90 = .ok (.iload 4, 2) := dk_21 4 (dk_at dksX2_findChanged_3 20 rfl rfl)
theorem dX2_findChanged_92 : decode cX2_findChanged 92 = .ok (.if_icmp .lt 21, 3) := dk_161 0 21 (dk_at dksX2_findChanged_4 0 rfl rfl)
theorem dX2_findChanged_95 : decode cX2_findChanged 95 = .ok (.iload 6, 2) := dk_21 6 (dk_at dksX2_findChanged_4 3 rfl rfl)
theorem dX2_findChanged_97 : decode cX2_findChanged 97 = .ok (.iload 4, 2) := dk_21 4 (dk_at dksX2_findChanged_4 5 rfl rfl)
theorem dX2_findChanged_99 : decode cX2_findChanged 99 = .ok (.if_icmp .ne 18, 3) := dk_160 0 18 (dk_at dksX2_findChanged_4 7 rfl rfl)
theorem dX2_findChanged_102 : decode cX2_findChanged 102 = .ok (.aload_n 0, 1) := dk_42 (dk_at dksX2_findChanged_4 10 rfl rfl)
theorem dX2_findChanged_103 : decode cX2_findChanged 103 = .ok (.getfield 219, 3) := dk_180 0 219 (dk_at dksX2_findChanged_4 11 rfl rfl)
theorem dX2_findChanged_106 : decode cX2_findChanged 106 = .ok (.aload_n 0, 1) := dk_42 (dk_at dksX2_findChanged_4 14 rfl rfl)
theorem dX2_findChanged_107 : decode cX2_findChanged 107 = .ok (.getfield 297, 3) := dk_180 1 41 (dk_at dksX2_findChanged_4 15 rfl rfl)
theorem dX2_findChanged_110 : decode cX2_findChanged 110 = .ok (.if_icmp .ge 7, 3) := dk_162 0 7 (dk_at dksX2_findChanged_4 18 rfl rfl)
theorem dX2_findChanged_113 : decode cX2_findChanged 113 = .ok (.iconst 1, 1) := dk_4 (dk_at dksX2_findChanged_4 21 rfl rfl)
theorem dX2_findChanged_114 : decode cX2_findChanged 114 = .ok (.goto 4, 3) := dk_167 0 4 (dk_at dksX2_findChanged_5 0 rfl rfl)
theorem dX2_findChanged_117 : decode cX2_findChanged 117 = .ok (.iconst 0, 1) := dk_3 (dk_at dksX2_findChanged_5 3 rfl rfl)
theorem dX2_findChanged_118 : decode cX2_findChanged 118 = .ok (.istore 7, 2) := dk_54 7 (dk_at dksX2_findChanged_5 4 rfl rfl)
theorem dX2_findChanged_120 : decode cX2_findChanged 120 = .ok (.iload 7, 2) := dk_21 7 (dk_at dksX2_findChanged_5 6 rfl rfl)
theorem dX2_findChanged_122 : decode cX2_findChanged 122 = .ok (.ifCond .eq 26, 3) := dk_153 0 26 (dk_at dksX2_findChanged_5 8 rfl rfl)
theorem dX2_findChanged_125 : decode cX2_findChanged 125 = .ok (.iload 5, 2) := dk_21 5 (dk_at dksX2_findChanged_5 11 rfl rfl)
theorem dX2_findChanged_127 : decode cX2_findChanged 127 = .ok (.istore_n 3, 1) := dk_62 (dk_at dksX2_findChanged_5 13 rfl rfl)
theorem dX2_findChanged_128 : decode cX2_findChanged 128 = .ok (.iload 6, 2) := dk_21 6 (dk_at dksX2_findChanged_5 14 rfl rfl)
theorem dX2_findChanged_130 : decode cX2_findChanged 130 = .ok (.istore 4, 2) := dk_54 4 (dk_at dksX2_findChanged_5 16 rfl rfl)
theorem dX2_findChanged_132 : decode cX2_findChanged 132 = .ok (.aload_n 0, 1) := dk_42 (dk_at dksX2_findChanged_5 18 rfl rfl)
theorem dX2_findChanged_133 : decode cX2_findChanged 133 = .ok (.aload_n 0, 1) := dk_42 (dk_at dksX2_findChanged_5 19 rfl rfl)
theorem dX2_findChanged_134 : decode cX2_findChanged 134 = .ok (.getfield 213, 3) := dk_180 0 213 (dk_at dksX2_findChanged_5 20 rfl rfl)
theorem dX2_findChanged_137 : decode cX2_findChanged 137 = .ok (.putfield 294, 3) := dk_181 1 38 (dk_at dksX2_findChanged_6 0 rfl rfl)
theorem dX2_findChanged_140 : decode cX2_findChanged 140 = .ok (.aload_n 0, 1) := dk_42 (dk_at dksX2_findChanged_6 3 rfl rfl)
theorem dX2_findChanged_141 : decode cX2_findChanged 141 = .ok (.aload_n 0, 1) := dk_42 (dk_at dksX2_findChanged_6 4 rfl rfl)
theorem dX2_findChanged_142 : decode cX2_findChanged 142 = .ok (.getfield 219, 3) := dk_180 0 219 (dk_at dksX2_findChanged_6 5 rfl rfl)
theorem dX2_findChanged_145 : decode cX2_findChanged 145 = .ok (.putfield 297, 3) := dk_181 1 41 (dk_at dksX2_findChanged_6 8 rfl rfl)
theorem dX2_findChanged_148 : decode cX2_findChanged 148 = .ok (.iinc 5 1, 3) := dk_132 5 1 (dk_at dksX2_findChanged_6 11 rfl rfl)
theorem dX2_findChanged_151 : decode cX2_findChanged 151 = .ok (.goto (-138), 3) := dk_167 255 118 (dk_at dksX2_findChanged_6 14 rfl rfl)
theorem dX2_findChanged_154 : decode cX2_findChanged 154 = .ok (.return_, 1) := dk_177 (dk_at dksX2_findChanged_6 17 rfl rfl)
abbrev cX2_free : ByteArray := prog_32_method_58_code
def yX2_free : MethodName := ⟨RX2, "free", "()I"⟩
def dkwX2_free_2 : List UInt8 := [132, 3, 1, 167, 255, 219, 28, 157, 0, 5, 27, 172, 132, 1, 1, 167, 255, 197, 16, 254, 172]
abbrev dktX2_free_2 : List UInt8 := dkwX2_free_2 ++ []
def dkwX2_free_1 : List UInt8 := [182, 1, 47, 28, 42, 180, 0, 25, 29, 46, 42, 180, 1, 41, 42, 29, 182, 0, 153, 100, 104, 96, 61]
abbrev dktX2_free_1 : List UInt8 := dkwX2_free_1 ++ dktX2_free_2
def dkwX2_free_0 : List UInt8 := [4, 60, 27, 16, 99, 163, 0, 59, 3, 61, 3, 62, 29, 42, 180, 0, 109, 162, 0, 35, 42, 29, 27]
abbrev dktX2_free_0 : List UInt8 := dkwX2_free_0 ++ dktX2_free_1
theorem dksX2_free_0 : cX2_free.data.toList.drop 0 = dktX2_free_0 := by decide +kernel
theorem dksX2_free_1 : cX2_free.data.toList.drop 23 = dktX2_free_1 := dk_seg dksX2_free_0 23 rfl rfl
theorem dksX2_free_2 : cX2_free.data.toList.drop 46 = dktX2_free_2 := dk_seg dksX2_free_1 23 rfl rfl
theorem dX2_free_0 : decode cX2_free 0 = .ok (.iconst 1, 1) := dk_4 (dk_at dksX2_free_0 0 rfl rfl)
theorem dX2_free_1 : decode cX2_free 1 = .ok (.istore_n 1, 1) := dk_60 (dk_at dksX2_free_0 1 rfl rfl)
theorem dX2_free_2 : decode cX2_free 2 = .ok (.iload_n 1, 1) := dk_27 (dk_at dksX2_free_0 2 rfl rfl)
theorem dX2_free_3 : decode cX2_free 3 = .ok (.bipush 99, 2) := dk_16 99 (dk_at dksX2_free_0 3 rfl rfl)
theorem dX2_free_5 : decode cX2_free 5 = .ok (.if_icmp .gt 59, 3) := dk_163 0 59 (dk_at dksX2_free_0 5 rfl rfl)
theorem dX2_free_8 : decode cX2_free 8 = .ok (.iconst 0, 1) := dk_3 (dk_at dksX2_free_0 8 rfl rfl)
theorem dX2_free_9 : decode cX2_free 9 = .ok (.istore_n 2, 1) := dk_61 (dk_at dksX2_free_0 9 rfl rfl)
theorem dX2_free_10 : decode cX2_free 10 = .ok (.iconst 0, 1) := dk_3 (dk_at dksX2_free_0 10 rfl rfl)
theorem dX2_free_11 : decode cX2_free 11 = .ok (.istore_n 3, 1) := dk_62 (dk_at dksX2_free_0 11 rfl rfl)
theorem dX2_free_12 : decode cX2_free 12 = .ok (.iload_n 3, 1) := dk_29 (dk_at dksX2_free_0 12 rfl rfl)
theorem dX2_free_13 : decode cX2_free 13 = .ok (.aload_n 0, 1) := dk_42 (dk_at dksX2_free_0 13 rfl rfl)
theorem dX2_free_14 : decode cX2_free 14 = .ok (.getfield 109, 3) := dk_180 0 109 (dk_at dksX2_free_0 14 rfl rfl)
theorem dX2_free_17 : decode cX2_free 17 = .ok (.if_icmp .ge 35, 3) := dk_162 0 35 (dk_at dksX2_free_0 17 rfl rfl)
theorem dX2_free_20 : decode cX2_free 20 = .ok (.aload_n 0, 1) := dk_42 (dk_at dksX2_free_0 20 rfl rfl)
theorem dX2_free_21 : decode cX2_free 21 = .ok (.iload_n 3, 1) := dk_29 (dk_at dksX2_free_0 21 rfl rfl)
theorem dX2_free_22 : decode cX2_free 22 = .ok (.iload_n 1, 1) := dk_27 (dk_at dksX2_free_0 22 rfl rfl)
theorem dX2_free_23 : decode cX2_free 23 = .ok (.invokevirtual 303, 3) := dk_182 1 47 (dk_at dksX2_free_1 0 rfl rfl)
theorem dX2_free_26 : decode cX2_free 26 = .ok (.iload_n 2, 1) := dk_28 (dk_at dksX2_free_1 3 rfl rfl)
theorem dX2_free_27 : decode cX2_free 27 = .ok (.aload_n 0, 1) := dk_42 (dk_at dksX2_free_1 4 rfl rfl)
theorem dX2_free_28 : decode cX2_free 28 = .ok (.getfield 25, 3) := dk_180 0 25 (dk_at dksX2_free_1 5 rfl rfl)
theorem dX2_free_31 : decode cX2_free 31 = .ok (.iload_n 3, 1) := dk_29 (dk_at dksX2_free_1 8 rfl rfl)
theorem dX2_free_32 : decode cX2_free 32 = .ok (.iaload, 1) := dk_46 (dk_at dksX2_free_1 9 rfl rfl)
theorem dX2_free_33 : decode cX2_free 33 = .ok (.aload_n 0, 1) := dk_42 (dk_at dksX2_free_1 10 rfl rfl)
theorem dX2_free_34 : decode cX2_free 34 = .ok (.getfield 297, 3) := dk_180 1 41 (dk_at dksX2_free_1 11 rfl rfl)
theorem dX2_free_37 : decode cX2_free 37 = .ok (.aload_n 0, 1) := dk_42 (dk_at dksX2_free_1 14 rfl rfl)
theorem dX2_free_38 : decode cX2_free 38 = .ok (.iload_n 3, 1) := dk_29 (dk_at dksX2_free_1 15 rfl rfl)
theorem dX2_free_39 : decode cX2_free 39 = .ok (.invokevirtual 153, 3) := dk_182 0 153 (dk_at dksX2_free_1 16 rfl rfl)
theorem dX2_free_42 : decode cX2_free 42 = .ok (.isub, 1) := dk_100 (dk_at dksX2_free_1 19 rfl rfl)
theorem dX2_free_43 : decode cX2_free 43 = .ok (.imul, 1) := dk_104 (dk_at dksX2_free_1 20 rfl rfl)
theorem dX2_free_44 : decode cX2_free 44 = .ok (.iadd, 1) := dk_96 (dk_at dksX2_free_1 21 rfl rfl)
theorem dX2_free_45 : decode cX2_free 45 = .ok (.istore_n 2, 1) := dk_61 (dk_at dksX2_free_1 22 rfl rfl)
theorem dX2_free_46 : decode cX2_free 46 = .ok (.iinc 3 1, 3) := dk_132 3 1 (dk_at dksX2_free_2 0 rfl rfl)
theorem dX2_free_49 : decode cX2_free 49 = .ok (.goto (-37), 3) := dk_167 255 219 (dk_at dksX2_free_2 3 rfl rfl)
theorem dX2_free_52 : decode cX2_free 52 = .ok (.iload_n 2, 1) := dk_28 (dk_at dksX2_free_2 6 rfl rfl)
theorem dX2_free_53 : decode cX2_free 53 = .ok (.ifCond .gt 5, 3) := dk_157 0 5 (dk_at dksX2_free_2 7 rfl rfl)
theorem dX2_free_56 : decode cX2_free 56 = .ok (.iload_n 1, 1) := dk_27 (dk_at dksX2_free_2 10 rfl rfl)
theorem dX2_free_57 : decode cX2_free 57 = .ok (.ireturn, 1) := dk_172 (dk_at dksX2_free_2 11 rfl rfl)
theorem dX2_free_58 : decode cX2_free 58 = .ok (.iinc 1 1, 3) := dk_132 1 1 (dk_at dksX2_free_2 12 rfl rfl)
theorem dX2_free_61 : decode cX2_free 61 = .ok (.goto (-59), 3) := dk_167 255 197 (dk_at dksX2_free_2 15 rfl rfl)
theorem dX2_free_64 : decode cX2_free 64 = .ok (.bipush (-2), 2) := dk_16 254 (dk_at dksX2_free_2 18 rfl rfl)
theorem dX2_free_66 : decode cX2_free 66 = .ok (.ireturn, 1) := dk_172 (dk_at dksX2_free_2 20 rfl rfl)
abbrev cX2_black : ByteArray := prog_32_method_59_code
def yX2_black : MethodName := ⟨RX2, "black", "(III)I"⟩
def dkwX2_black_6 : List UInt8 := [167, 0, 5, 21, 5, 54, 5, 132, 6, 1, 167, 255, 172, 21, 5, 172]
abbrev dktX2_black_6 : List UInt8 := dkwX2_black_6 ++ []
def dkwX2_black_5 : List UInt8 := [96, 42, 27, 182, 0, 149, 163, 0, 19, 42, 180, 0, 213, 21, 5, 164, 0, 10, 42, 180, 0, 213]
abbrev dktX2_black_5 : List UInt8 := dkwX2_black_5 ++ dktX2_black_6
def dkwX2_black_4 : List UInt8 := [180, 0, 219, 42, 27, 182, 0, 153, 100, 167, 0, 4, 3, 54, 7, 42, 180, 0, 216, 21, 7, 21, 4, 104]
abbrev dktX2_black_4 : List UInt8 := dkwX2_black_4 ++ dktX2_black_5
def dkwX2_black_3 : List UInt8 := [162, 0, 81, 42, 21, 6, 182, 0, 229, 42, 180, 0, 219, 42, 27, 182, 0, 153, 164, 0, 16, 42]
abbrev dktX2_black_3 : List UInt8 := dkwX2_black_3 ++ dktX2_black_4
def dkwX2_black_2 : List UInt8 := [96, 16, 100, 108, 96, 54, 4, 42, 27, 182, 0, 222, 3, 54, 5, 3, 54, 6, 21, 6, 42, 182, 0, 226]
abbrev dktX2_black_2 : List UInt8 := dkwX2_black_2 ++ dktX2_black_3
def dkwX2_black_1 : List UInt8 := [9, 20, 1, 51, 184, 0, 105, 154, 0, 5, 2, 172, 28, 16, 100, 108, 28, 16, 100, 112, 29, 104, 16, 99]
abbrev dktX2_black_1 : List UInt8 := dkwX2_black_1 ++ dktX2_black_2
def dkwX2_black_0 : List UInt8 := [42, 27, 182, 0, 144, 153, 0, 29, 28, 155, 0, 25, 28, 16, 100, 108, 184, 1, 44, 153, 0, 15, 29, 133]
abbrev dktX2_black_0 : List UInt8 := dkwX2_black_0 ++ dktX2_black_1
theorem dksX2_black_0 : cX2_black.data.toList.drop 0 = dktX2_black_0 := by decide +kernel
theorem dksX2_black_1 : cX2_black.data.toList.drop 24 = dktX2_black_1 := dk_seg dksX2_black_0 24 rfl rfl
theorem dksX2_black_2 : cX2_black.data.toList.drop 48 = dktX2_black_2 := dk_seg dksX2_black_1 24 rfl rfl
theorem dksX2_black_3 : cX2_black.data.toList.drop 72 = dktX2_black_3 := dk_seg dksX2_black_2 24 rfl rfl
theorem dksX2_black_4 : cX2_black.data.toList.drop 94 = dktX2_black_4 := dk_seg dksX2_black_3 22 rfl rfl
theorem dksX2_black_5 : cX2_black.data.toList.drop 118 = dktX2_black_5 := dk_seg dksX2_black_4 24 rfl rfl
theorem dksX2_black_6 : cX2_black.data.toList.drop 140 = dktX2_black_6 := dk_seg dksX2_black_5 22 rfl rfl
theorem dX2_black_0 : decode cX2_black 0 = .ok (.aload_n 0, 1) := dk_42 (dk_at dksX2_black_0 0 rfl rfl)
theorem dX2_black_1 : decode cX2_black 1 = .ok (.iload_n 1, 1) := dk_27 (dk_at dksX2_black_0 1 rfl rfl)
theorem dX2_black_2 : decode cX2_black 2 = .ok (.invokevirtual 144, 3) := dk_182 0 144 (dk_at dksX2_black_0 2 rfl rfl)
theorem dX2_black_5 : decode cX2_black 5 = .ok (.ifCond .eq 29, 3) := dk_153 0 29 (dk_at dksX2_black_0 5 rfl rfl)
theorem dX2_black_8 : decode cX2_black 8 = .ok (.iload_n 2, 1) := dk_28 (dk_at dksX2_black_0 8 rfl rfl)
theorem dX2_black_9 : decode cX2_black 9 = .ok (.ifCond .lt 25, 3) := dk_155 0 25 (dk_at dksX2_black_0 9 rfl rfl)
theorem dX2_black_12 : decode cX2_black 12 = .ok (.iload_n 2, 1) := dk_28 (dk_at dksX2_black_0 12 rfl rfl)
theorem dX2_black_13 : decode cX2_black 13 = .ok (.bipush 100, 2) := dk_16 100 (dk_at dksX2_black_0 13 rfl rfl)
theorem dX2_black_15 : decode cX2_black 15 = .ok (.idiv, 1) := dk_108 (dk_at dksX2_black_0 15 rfl rfl)
theorem dX2_black_16 : decode cX2_black 16 = .ok (.invokestatic 300, 3) := dk_184 1 44 (dk_at dksX2_black_0 16 rfl rfl)
theorem dX2_black_19 : decode cX2_black 19 = .ok (.ifCond .eq 15, 3) := dk_153 0 15 (dk_at dksX2_black_0 19 rfl rfl)
theorem dX2_black_22 : decode cX2_black 22 = .ok (.iload_n 3, 1) := dk_29 (dk_at dksX2_black_0 22 rfl rfl)
theorem dX2_black_23 : decode cX2_black 23 = .ok (.i2l, 1) := dk_133 (dk_at dksX2_black_0 23 rfl rfl)
theorem dX2_black_24 : decode cX2_black 24 = .ok (.lconst 0, 1) := dk_9 (dk_at dksX2_black_1 0 rfl rfl)
theorem dX2_black_25 : decode cX2_black 25 = .ok (.ldc2_w 307, 3) := dk_20 1 51 (dk_at dksX2_black_1 1 rfl rfl)
theorem dX2_black_28 : decode cX2_black 28 = .ok (.invokestatic 105, 3) := dk_184 0 105 (dk_at dksX2_black_1 4 rfl rfl)
theorem dX2_black_31 : decode cX2_black 31 = .ok (.ifCond .ne 5, 3) := dk_154 0 5 (dk_at dksX2_black_1 7 rfl rfl)
theorem dX2_black_34 : decode cX2_black 34 = .ok (.iconst (-1), 1) := dk_2 (dk_at dksX2_black_1 10 rfl rfl)
theorem dX2_black_35 : decode cX2_black 35 = .ok (.ireturn, 1) := dk_172 (dk_at dksX2_black_1 11 rfl rfl)
theorem dX2_black_36 : decode cX2_black 36 = .ok (.iload_n 2, 1) := dk_28 (dk_at dksX2_black_1 12 rfl rfl)
theorem dX2_black_37 : decode cX2_black 37 = .ok (.bipush 100, 2) := dk_16 100 (dk_at dksX2_black_1 13 rfl rfl)
theorem dX2_black_39 : decode cX2_black 39 = .ok (.idiv, 1) := dk_108 (dk_at dksX2_black_1 15 rfl rfl)
theorem dX2_black_40 : decode cX2_black 40 = .ok (.iload_n 2, 1) := dk_28 (dk_at dksX2_black_1 16 rfl rfl)
theorem dX2_black_41 : decode cX2_black 41 = .ok (.bipush 100, 2) := dk_16 100 (dk_at dksX2_black_1 17 rfl rfl)
theorem dX2_black_43 : decode cX2_black 43 = .ok (.irem, 1) := dk_112 (dk_at dksX2_black_1 19 rfl rfl)
theorem dX2_black_44 : decode cX2_black 44 = .ok (.iload_n 3, 1) := dk_29 (dk_at dksX2_black_1 20 rfl rfl)
theorem dX2_black_45 : decode cX2_black 45 = .ok (.imul, 1) := dk_104 (dk_at dksX2_black_1 21 rfl rfl)
theorem dX2_black_46 : decode cX2_black 46 = .ok (.bipush 99, 2) := dk_16 99 (dk_at dksX2_black_1 22 rfl rfl)
theorem dX2_black_48 : decode cX2_black 48 = .ok (.iadd, 1) := dk_96 (dk_at dksX2_black_2 0 rfl rfl)
theorem dX2_black_49 : decode cX2_black 49 = .ok (.bipush 100, 2) := dk_16 100 (dk_at dksX2_black_2 1 rfl rfl)
theorem dX2_black_51 : decode cX2_black 51 = .ok (.idiv, 1) := dk_108 (dk_at dksX2_black_2 3 rfl rfl)
theorem dX2_black_52 : decode cX2_black 52 = .ok (.iadd, 1) := dk_96 (dk_at dksX2_black_2 4 rfl rfl)
theorem dX2_black_53 : decode cX2_black 53 = .ok (.istore 4, 2) := dk_54 4 (dk_at dksX2_black_2 5 rfl rfl)
theorem dX2_black_55 : decode cX2_black 55 = .ok (.aload_n 0, 1) := dk_42 (dk_at dksX2_black_2 7 rfl rfl)
theorem dX2_black_56 : decode cX2_black 56 = .ok (.iload_n 1, 1) := dk_27 (dk_at dksX2_black_2 8 rfl rfl)
theorem dX2_black_57 : decode cX2_black 57 = .ok (.invokevirtual 222, 3) := dk_182 0 222 (dk_at dksX2_black_2 9 rfl rfl)
theorem dX2_black_60 : decode cX2_black 60 = .ok (.iconst 0, 1) := dk_3 (dk_at dksX2_black_2 12 rfl rfl)
theorem dX2_black_61 : decode cX2_black 61 = .ok (.istore 5, 2) := dk_54 5 (dk_at dksX2_black_2 13 rfl rfl)
theorem dX2_black_63 : decode cX2_black 63 = .ok (.iconst 0, 1) := dk_3 (dk_at dksX2_black_2 15 rfl rfl)
theorem dX2_black_64 : decode cX2_black 64 = .ok (.istore 6, 2) := dk_54 6 (dk_at dksX2_black_2 16 rfl rfl)
theorem dX2_black_66 : decode cX2_black 66 = .ok (.iload 6, 2) := dk_21 6 (dk_at dksX2_black_2 18 rfl rfl)
theorem dX2_black_68 : decode cX2_black 68 = .ok (.aload_n 0, 1) := dk_42 (dk_at dksX2_black_2 20 rfl rfl)
theorem dX2_black_69 : decode cX2_black 69 = .ok (.invokevirtual 226, 3) := dk_182 0 226 (dk_at dksX2_black_2 21 rfl rfl)
theorem dX2_black_72 : decode cX2_black 72 = .ok (.if_icmp .ge 81, 3) := dk_162 0 81 (dk_at dksX2_black_3 0 rfl rfl)
theorem dX2_black_75 : decode cX2_black 75 = .ok (.aload_n 0, 1) := dk_42 (dk_at dksX2_black_3 3 rfl rfl)
theorem dX2_black_76 : decode cX2_black 76 = .ok (.iload 6, 2) := dk_21 6 (dk_at dksX2_black_3 4 rfl rfl)
theorem dX2_black_78 : decode cX2_black 78 = .ok (.invokevirtual 229, 3) := dk_182 0 229 (dk_at dksX2_black_3 6 rfl rfl)
theorem dX2_black_81 : decode cX2_black 81 = .ok (.aload_n 0, 1) := dk_42 (dk_at dksX2_black_3 9 rfl rfl)
theorem dX2_black_82 : decode cX2_black 82 = .ok (.getfield 219, 3) := dk_180 0 219 (dk_at dksX2_black_3 10 rfl rfl)
theorem dX2_black_85 : decode cX2_black 85 = .ok (.aload_n 0, 1) := dk_42 (dk_at dksX2_black_3 13 rfl rfl)
theorem dX2_black_86 : decode cX2_black 86 = .ok (.iload_n 1, 1) := dk_27 (dk_at dksX2_black_3 14 rfl rfl)
theorem dX2_black_87 : decode cX2_black 87 = .ok (.invokevirtual 153, 3) := dk_182 0 153 (dk_at dksX2_black_3 15 rfl rfl)
theorem dX2_black_90 : decode cX2_black 90 = .ok (.if_icmp .le 16, 3) := dk_164 0 16 (dk_at dksX2_black_3 18 rfl rfl)
theorem dX2_black_93 : decode cX2_black 93 = .ok (.aload_n 0, 1) := dk_42 (dk_at dksX2_black_3 21 rfl rfl)
theorem dX2_black_94 : decode cX2_black 94 = .ok (.getfield 219, 3) := dk_180 0 219 (dk_at dksX2_black_4 0 rfl rfl)
theorem dX2_black_97 : decode cX2_black 97 = .ok (.aload_n 0, 1) := dk_42 (dk_at dksX2_black_4 3 rfl rfl)
theorem dX2_black_98 : decode cX2_black 98 = .ok (.iload_n 1, 1) := dk_27 (dk_at dksX2_black_4 4 rfl rfl)
theorem dX2_black_99 : decode cX2_black 99 = .ok (.invokevirtual 153, 3) := dk_182 0 153 (dk_at dksX2_black_4 5 rfl rfl)
theorem dX2_black_102 : decode cX2_black 102 = .ok (.isub, 1) := dk_100 (dk_at dksX2_black_4 8 rfl rfl)
theorem dX2_black_103 : decode cX2_black 103 = .ok (.goto 4, 3) := dk_167 0 4 (dk_at dksX2_black_4 9 rfl rfl)
theorem dX2_black_106 : decode cX2_black 106 = .ok (.iconst 0, 1) := dk_3 (dk_at dksX2_black_4 12 rfl rfl)
theorem dX2_black_107 : decode cX2_black 107 = .ok (.istore 7, 2) := dk_54 7 (dk_at dksX2_black_4 13 rfl rfl)
theorem dX2_black_109 : decode cX2_black 109 = .ok (.aload_n 0, 1) := dk_42 (dk_at dksX2_black_4 15 rfl rfl)
theorem dX2_black_110 : decode cX2_black 110 = .ok (.getfield 216, 3) := dk_180 0 216 (dk_at dksX2_black_4 16 rfl rfl)
theorem dX2_black_113 : decode cX2_black 113 = .ok (.iload 7, 2) := dk_21 7 (dk_at dksX2_black_4 19 rfl rfl)
theorem dX2_black_115 : decode cX2_black 115 = .ok (.iload 4, 2) := dk_21 4 (dk_at dksX2_black_4 21 rfl rfl)
theorem dX2_black_117 : decode cX2_black 117 = .ok (.imul, 1) := dk_104 (dk_at dksX2_black_4 23 rfl rfl)
theorem dX2_black_118 : decode cX2_black 118 = .ok (.iadd, 1) := dk_96 (dk_at dksX2_black_5 0 rfl rfl)
theorem dX2_black_119 : decode cX2_black 119 = .ok (.aload_n 0, 1) := dk_42 (dk_at dksX2_black_5 1 rfl rfl)
theorem dX2_black_120 : decode cX2_black 120 = .ok (.iload_n 1, 1) := dk_27 (dk_at dksX2_black_5 2 rfl rfl)
theorem dX2_black_121 : decode cX2_black 121 = .ok (.invokevirtual 149, 3) := dk_182 0 149 (dk_at dksX2_black_5 3 rfl rfl)
theorem dX2_black_124 : decode cX2_black 124 = .ok (.if_icmp .gt 19, 3) := dk_163 0 19 (dk_at dksX2_black_5 6 rfl rfl)
theorem dX2_black_127 : decode cX2_black 127 = .ok (.aload_n 0, 1) := dk_42 (dk_at dksX2_black_5 9 rfl rfl)
theorem dX2_black_128 : decode cX2_black 128 = .ok (.getfield 213, 3) := dk_180 0 213 (dk_at dksX2_black_5 10 rfl rfl)
theorem dX2_black_131 : decode cX2_black 131 = .ok (.iload 5, 2) := dk_21 5 (dk_at dksX2_black_5 13 rfl rfl)
theorem dX2_black_133 : decode cX2_black 133 = .ok (.if_icmp .le 10, 3) := dk_164 0 10 (dk_at dksX2_black_5 15 rfl rfl)
theorem dX2_black_136 : decode cX2_black 136 = .ok (.aload_n 0, 1) := dk_42 (dk_at dksX2_black_5 18 rfl rfl)
theorem dX2_black_137 : decode cX2_black 137 = .ok (.getfield 213, 3) := dk_180 0 213 (dk_at dksX2_black_5 19 rfl rfl)
theorem dX2_black_140 : decode cX2_black 140 = .ok (.goto 5, 3) := dk_167 0 5 (dk_at dksX2_black_6 0 rfl rfl)
theorem dX2_black_143 : decode cX2_black 143 = .ok (.iload 5, 2) := dk_21 5 (dk_at dksX2_black_6 3 rfl rfl)
theorem dX2_black_145 : decode cX2_black 145 = .ok (.istore 5, 2) := dk_54 5 (dk_at dksX2_black_6 5 rfl rfl)
theorem dX2_black_147 : decode cX2_black 147 = .ok (.iinc 6 1, 3) := dk_132 6 1 (dk_at dksX2_black_6 7 rfl rfl)
theorem dX2_black_150 : decode cX2_black 150 = .ok (.goto (-84), 3) := dk_167 255 172 (dk_at dksX2_black_6 10 rfl rfl)
theorem dX2_black_153 : decode cX2_black 153 = .ok (.iload 5, 2) := dk_21 5 (dk_at dksX2_black_6 13 rfl rfl)
theorem dX2_black_155 : decode cX2_black 155 = .ok (.ireturn, 1) := dk_172 (dk_at dksX2_black_6 15 rfl rfl)
abbrev cX2_beside : ByteArray := prog_32_method_62_code
def yX2_beside : MethodName := ⟨RX2, "beside", "(II)I"⟩
def dkwX2_beside_1 : List UInt8 := [2, 172]
abbrev dktX2_beside_1 : List UInt8 := dkwX2_beside_1 ++ []
def dkwX2_beside_0 : List UInt8 := [42, 27, 182, 0, 144, 153, 0, 19, 28, 184, 1, 56, 153, 0, 12, 42, 27, 28, 182, 1, 59, 167, 0, 4]
abbrev dktX2_beside_0 : List UInt8 := dkwX2_beside_0 ++ dktX2_beside_1
theorem dksX2_beside_0 : cX2_beside.data.toList.drop 0 = dktX2_beside_0 := by decide +kernel
theorem dksX2_beside_1 : cX2_beside.data.toList.drop 24 = dktX2_beside_1 := dk_seg dksX2_beside_0 24 rfl rfl
theorem dX2_beside_0 : decode cX2_beside 0 = .ok (.aload_n 0, 1) := dk_42 (dk_at dksX2_beside_0 0 rfl rfl)
theorem dX2_beside_1 : decode cX2_beside 1 = .ok (.iload_n 1, 1) := dk_27 (dk_at dksX2_beside_0 1 rfl rfl)
theorem dX2_beside_2 : decode cX2_beside 2 = .ok (.invokevirtual 144, 3) := dk_182 0 144 (dk_at dksX2_beside_0 2 rfl rfl)
theorem dX2_beside_5 : decode cX2_beside 5 = .ok (.ifCond .eq 19, 3) := dk_153 0 19 (dk_at dksX2_beside_0 5 rfl rfl)
theorem dX2_beside_8 : decode cX2_beside 8 = .ok (.iload_n 2, 1) := dk_28 (dk_at dksX2_beside_0 8 rfl rfl)
theorem dX2_beside_9 : decode cX2_beside 9 = .ok (.invokestatic 312, 3) := dk_184 1 56 (dk_at dksX2_beside_0 9 rfl rfl)
theorem dX2_beside_12 : decode cX2_beside 12 = .ok (.ifCond .eq 12, 3) := dk_153 0 12 (dk_at dksX2_beside_0 12 rfl rfl)
theorem dX2_beside_15 : decode cX2_beside 15 = .ok (.aload_n 0, 1) := dk_42 (dk_at dksX2_beside_0 15 rfl rfl)
theorem dX2_beside_16 : decode cX2_beside 16 = .ok (.iload_n 1, 1) := dk_27 (dk_at dksX2_beside_0 16 rfl rfl)
theorem dX2_beside_17 : decode cX2_beside 17 = .ok (.iload_n 2, 1) := dk_28 (dk_at dksX2_beside_0 17 rfl rfl)
theorem dX2_beside_18 : decode cX2_beside 18 = .ok (.invokevirtual 315, 3) := dk_182 1 59 (dk_at dksX2_beside_0 18 rfl rfl)
theorem dX2_beside_21 : decode cX2_beside 21 = .ok (.goto 4, 3) := dk_167 0 4 (dk_at dksX2_beside_0 21 rfl rfl)
theorem dX2_beside_24 : decode cX2_beside 24 = .ok (.iconst (-1), 1) := dk_2 (dk_at dksX2_beside_1 0 rfl rfl)
theorem dX2_beside_25 : decode cX2_beside 25 = .ok (.ireturn, 1) := dk_172 (dk_at dksX2_beside_1 1 rfl rfl)
abbrev cX2_isHow : ByteArray := prog_32_method_60_code
def yX2_isHow : MethodName := ⟨RX2, "isHow", "(I)Z"⟩
def dkwX2_isHow_0 : List UInt8 := [26, 153, 0, 17, 26, 133, 20, 1, 51, 20, 1, 53, 184, 0, 105, 153, 0, 7, 4, 167, 0, 4, 3, 172]
abbrev dktX2_isHow_0 : List UInt8 := dkwX2_isHow_0 ++ []
theorem dksX2_isHow_0 : cX2_isHow.data.toList.drop 0 = dktX2_isHow_0 := by decide +kernel
theorem dX2_isHow_0 : decode cX2_isHow 0 = .ok (.iload_n 0, 1) := dk_26 (dk_at dksX2_isHow_0 0 rfl rfl)
theorem dX2_isHow_1 : decode cX2_isHow 1 = .ok (.ifCond .eq 17, 3) := dk_153 0 17 (dk_at dksX2_isHow_0 1 rfl rfl)
theorem dX2_isHow_4 : decode cX2_isHow 4 = .ok (.iload_n 0, 1) := dk_26 (dk_at dksX2_isHow_0 4 rfl rfl)
theorem dX2_isHow_5 : decode cX2_isHow 5 = .ok (.i2l, 1) := dk_133 (dk_at dksX2_isHow_0 5 rfl rfl)
theorem dX2_isHow_6 : decode cX2_isHow 6 = .ok (.ldc2_w 307, 3) := dk_20 1 51 (dk_at dksX2_isHow_0 6 rfl rfl)
theorem dX2_isHow_9 : decode cX2_isHow 9 = .ok (.ldc2_w 309, 3) := dk_20 1 53 (dk_at dksX2_isHow_0 9 rfl rfl)
theorem dX2_isHow_12 : decode cX2_isHow 12 = .ok (.invokestatic 105, 3) := dk_184 0 105 (dk_at dksX2_isHow_0 12 rfl rfl)
theorem dX2_isHow_15 : decode cX2_isHow 15 = .ok (.ifCond .eq 7, 3) := dk_153 0 7 (dk_at dksX2_isHow_0 15 rfl rfl)
theorem dX2_isHow_18 : decode cX2_isHow 18 = .ok (.iconst 1, 1) := dk_4 (dk_at dksX2_isHow_0 18 rfl rfl)
theorem dX2_isHow_19 : decode cX2_isHow 19 = .ok (.goto 4, 3) := dk_167 0 4 (dk_at dksX2_isHow_0 19 rfl rfl)
theorem dX2_isHow_22 : decode cX2_isHow 22 = .ok (.iconst 0, 1) := dk_3 (dk_at dksX2_isHow_0 22 rfl rfl)
theorem dX2_isHow_23 : decode cX2_isHow 23 = .ok (.ireturn, 1) := dk_172 (dk_at dksX2_isHow_0 23 rfl rfl)
abbrev cX2_besideOf : ByteArray := prog_32_method_61_code
def yX2_besideOf : MethodName := ⟨RX2, "besideOf", "(II)I"⟩
def dkwX2_besideOf_5 : List UInt8 := [96, 54, 4, 132, 5, 1, 167, 255, 206, 21, 4, 172]
abbrev dktX2_besideOf_5 : List UInt8 := dkwX2_besideOf_5 ++ []
def dkwX2_besideOf_4 : List UInt8 := [21, 4, 42, 180, 0, 49, 7, 21, 5, 104, 21, 6, 6, 164, 0, 7, 6, 167, 0, 5, 21, 6, 96, 46]
abbrev dktX2_besideOf_4 : List UInt8 := dkwX2_besideOf_4 ++ dktX2_besideOf_5
def dkwX2_besideOf_3 : List UInt8 := [3, 54, 5, 21, 5, 42, 180, 0, 102, 162, 0, 47, 42, 180, 0, 9, 21, 5, 46, 29, 108, 54, 6]
abbrev dktX2_besideOf_3 : List UInt8 := dkwX2_besideOf_3 ++ dktX2_besideOf_4
def dkwX2_besideOf_2 : List UInt8 := [29, 42, 180, 0, 25, 21, 4, 46, 96, 62, 132, 4, 1, 167, 255, 234, 42, 27, 182, 0, 222, 3, 54, 4]
abbrev dktX2_besideOf_2 : List UInt8 := dkwX2_besideOf_2 ++ dktX2_besideOf_3
def dkwX2_besideOf_1 : List UInt8 := [16, 100, 181, 0, 55, 42, 180, 0, 232, 172, 3, 62, 3, 54, 4, 21, 4, 42, 180, 0, 109, 162, 0, 19]
abbrev dktX2_besideOf_1 : List UInt8 := dkwX2_besideOf_1 ++ dktX2_besideOf_2
def dkwX2_besideOf_0 : List UInt8 := [28, 158, 0, 33, 42, 28, 181, 0, 55, 42, 27, 42, 27, 182, 0, 149, 19, 1, 55, 182, 0, 241, 62, 42]
abbrev dktX2_besideOf_0 : List UInt8 := dkwX2_besideOf_0 ++ dktX2_besideOf_1
theorem dksX2_besideOf_0 : cX2_besideOf.data.toList.drop 0 = dktX2_besideOf_0 := by decide +kernel
theorem dksX2_besideOf_1 : cX2_besideOf.data.toList.drop 24 = dktX2_besideOf_1 := dk_seg dksX2_besideOf_0 24 rfl rfl
theorem dksX2_besideOf_2 : cX2_besideOf.data.toList.drop 48 = dktX2_besideOf_2 := dk_seg dksX2_besideOf_1 24 rfl rfl
theorem dksX2_besideOf_3 : cX2_besideOf.data.toList.drop 72 = dktX2_besideOf_3 := dk_seg dksX2_besideOf_2 24 rfl rfl
theorem dksX2_besideOf_4 : cX2_besideOf.data.toList.drop 95 = dktX2_besideOf_4 := dk_seg dksX2_besideOf_3 23 rfl rfl
theorem dksX2_besideOf_5 : cX2_besideOf.data.toList.drop 119 = dktX2_besideOf_5 := dk_seg dksX2_besideOf_4 24 rfl rfl
theorem dX2_besideOf_0 : decode cX2_besideOf 0 = .ok (.iload_n 2, 1) := dk_28 (dk_at dksX2_besideOf_0 0 rfl rfl)
theorem dX2_besideOf_1 : decode cX2_besideOf 1 = .ok (.ifCond .le 33, 3) := dk_158 0 33 (dk_at dksX2_besideOf_0 1 rfl rfl)
theorem dX2_besideOf_4 : decode cX2_besideOf 4 = .ok (.aload_n 0, 1) := dk_42 (dk_at dksX2_besideOf_0 4 rfl rfl)
theorem dX2_besideOf_5 : decode cX2_besideOf 5 = .ok (.iload_n 2, 1) := dk_28 (dk_at dksX2_besideOf_0 5 rfl rfl)
theorem dX2_besideOf_6 : decode cX2_besideOf 6 = .ok (.putfield 55, 3) := dk_181 0 55 (dk_at dksX2_besideOf_0 6 rfl rfl)
theorem dX2_besideOf_9 : decode cX2_besideOf 9 = .ok (.aload_n 0, 1) := dk_42 (dk_at dksX2_besideOf_0 9 rfl rfl)
theorem dX2_besideOf_10 : decode cX2_besideOf 10 = .ok (.iload_n 1, 1) := dk_27 (dk_at dksX2_besideOf_0 10 rfl rfl)
theorem dX2_besideOf_11 : decode cX2_besideOf 11 = .ok (.aload_n 0, 1) := dk_42 (dk_at dksX2_besideOf_0 11 rfl rfl)
theorem dX2_besideOf_12 : decode cX2_besideOf 12 = .ok (.iload_n 1, 1) := dk_27 (dk_at dksX2_besideOf_0 12 rfl rfl)
theorem dX2_besideOf_13 : decode cX2_besideOf 13 = .ok (.invokevirtual 149, 3) := dk_182 0 149 (dk_at dksX2_besideOf_0 13 rfl rfl)
theorem dX2_besideOf_16 : decode cX2_besideOf 16 = .ok (.ldc_w 311, 3) := dk_19 1 55 (dk_at dksX2_besideOf_0 16 rfl rfl)
theorem dX2_besideOf_19 : decode cX2_besideOf 19 = .ok (.invokevirtual 241, 3) := dk_182 0 241 (dk_at dksX2_besideOf_0 19 rfl rfl)
theorem dX2_besideOf_22 : decode cX2_besideOf 22 = .ok (.istore_n 3, 1) := dk_62 (dk_at dksX2_besideOf_0 22 rfl rfl)
theorem dX2_besideOf_23 : decode cX2_besideOf 23 = .ok (.aload_n 0, 1) := dk_42 (dk_at dksX2_besideOf_0 23 rfl rfl)
theorem dX2_besideOf_24 : decode cX2_besideOf 24 = .ok (.bipush 100, 2) := dk_16 100 (dk_at dksX2_besideOf_1 0 rfl rfl)
theorem dX2_besideOf_26 : decode cX2_besideOf 26 = .ok (.putfield 55, 3) := dk_181 0 55 (dk_at dksX2_besideOf_1 2 rfl rfl)
theorem dX2_besideOf_29 : decode cX2_besideOf 29 = .ok (.aload_n 0, 1) := dk_42 (dk_at dksX2_besideOf_1 5 rfl rfl)
theorem dX2_besideOf_30 : decode cX2_besideOf 30 = .ok (.getfield 232, 3) := dk_180 0 232 (dk_at dksX2_besideOf_1 6 rfl rfl)
theorem dX2_besideOf_33 : decode cX2_besideOf 33 = .ok (.ireturn, 1) := dk_172 (dk_at dksX2_besideOf_1 9 rfl rfl)
theorem dX2_besideOf_34 : decode cX2_besideOf 34 = .ok (.iconst 0, 1) := dk_3 (dk_at dksX2_besideOf_1 10 rfl rfl)
theorem dX2_besideOf_35 : decode cX2_besideOf 35 = .ok (.istore_n 3, 1) := dk_62 (dk_at dksX2_besideOf_1 11 rfl rfl)
theorem dX2_besideOf_36 : decode cX2_besideOf 36 = .ok (.iconst 0, 1) := dk_3 (dk_at dksX2_besideOf_1 12 rfl rfl)
theorem dX2_besideOf_37 : decode cX2_besideOf 37 = .ok (.istore 4, 2) := dk_54 4 (dk_at dksX2_besideOf_1 13 rfl rfl)
theorem dX2_besideOf_39 : decode cX2_besideOf 39 = .ok (.iload 4, 2) := dk_21 4 (dk_at dksX2_besideOf_1 15 rfl rfl)
theorem dX2_besideOf_41 : decode cX2_besideOf 41 = .ok (.aload_n 0, 1) := dk_42 (dk_at dksX2_besideOf_1 17 rfl rfl)
theorem dX2_besideOf_42 : decode cX2_besideOf 42 = .ok (.getfield 109, 3) := dk_180 0 109 (dk_at dksX2_besideOf_1 18 rfl rfl)
theorem dX2_besideOf_45 : decode cX2_besideOf 45 = .ok (.if_icmp .ge 19, 3) := dk_162 0 19 (dk_at dksX2_besideOf_1 21 rfl rfl)
theorem dX2_besideOf_48 : decode cX2_besideOf 48 = .ok (.iload_n 3, 1) := dk_29 (dk_at dksX2_besideOf_2 0 rfl rfl)
theorem dX2_besideOf_49 : decode cX2_besideOf 49 = .ok (.aload_n 0, 1) := dk_42 (dk_at dksX2_besideOf_2 1 rfl rfl)
theorem dX2_besideOf_50 : decode cX2_besideOf 50 = .ok (.getfield 25, 3) := dk_180 0 25 (dk_at dksX2_besideOf_2 2 rfl rfl)
theorem dX2_besideOf_53 : decode cX2_besideOf 53 = .ok (.iload 4, 2) := dk_21 4 (dk_at dksX2_besideOf_2 5 rfl rfl)
theorem dX2_besideOf_55 : decode cX2_besideOf 55 = .ok (.iaload, 1) := dk_46 (dk_at dksX2_besideOf_2 7 rfl rfl)
theorem dX2_besideOf_56 : decode cX2_besideOf 56 = .ok (.iadd, 1) := dk_96 (dk_at dksX2_besideOf_2 8 rfl rfl)
theorem dX2_besideOf_57 : decode cX2_besideOf 57 = .ok (.istore_n 3, 1) := dk_62 (dk_at dksX2_besideOf_2 9 rfl rfl)
theorem dX2_besideOf_58 : decode cX2_besideOf 58 = .ok (.iinc 4 1, 3) := dk_132 4 1 (dk_at dksX2_besideOf_2 10 rfl rfl)
theorem dX2_besideOf_61 : decode cX2_besideOf 61 = .ok (.goto (-22), 3) := dk_167 255 234 (dk_at dksX2_besideOf_2 13 rfl rfl)
theorem dX2_besideOf_64 : decode cX2_besideOf 64 = .ok (.aload_n 0, 1) := dk_42 (dk_at dksX2_besideOf_2 16 rfl rfl)
theorem dX2_besideOf_65 : decode cX2_besideOf 65 = .ok (.iload_n 1, 1) := dk_27 (dk_at dksX2_besideOf_2 17 rfl rfl)
theorem dX2_besideOf_66 : decode cX2_besideOf 66 = .ok (.invokevirtual 222, 3) := dk_182 0 222 (dk_at dksX2_besideOf_2 18 rfl rfl)
theorem dX2_besideOf_69 : decode cX2_besideOf 69 = .ok (.iconst 0, 1) := dk_3 (dk_at dksX2_besideOf_2 21 rfl rfl)
theorem dX2_besideOf_70 : decode cX2_besideOf 70 = .ok (.istore 4, 2) := dk_54 4 (dk_at dksX2_besideOf_2 22 rfl rfl)
theorem dX2_besideOf_72 : decode cX2_besideOf 72 = .ok (.iconst 0, 1) := dk_3 (dk_at dksX2_besideOf_3 0 rfl rfl)
theorem dX2_besideOf_73 : decode cX2_besideOf 73 = .ok (.istore 5, 2) := dk_54 5 (dk_at dksX2_besideOf_3 1 rfl rfl)
theorem dX2_besideOf_75 : decode cX2_besideOf 75 = .ok (.iload 5, 2) := dk_21 5 (dk_at dksX2_besideOf_3 3 rfl rfl)
theorem dX2_besideOf_77 : decode cX2_besideOf 77 = .ok (.aload_n 0, 1) := dk_42 (dk_at dksX2_besideOf_3 5 rfl rfl)
theorem dX2_besideOf_78 : decode cX2_besideOf 78 = .ok (.getfield 102, 3) := dk_180 0 102 (dk_at dksX2_besideOf_3 6 rfl rfl)
theorem dX2_besideOf_81 : decode cX2_besideOf 81 = .ok (.if_icmp .ge 47, 3) := dk_162 0 47 (dk_at dksX2_besideOf_3 9 rfl rfl)
theorem dX2_besideOf_84 : decode cX2_besideOf 84 = .ok (.aload_n 0, 1) := dk_42 (dk_at dksX2_besideOf_3 12 rfl rfl)
theorem dX2_besideOf_85 : decode cX2_besideOf 85 = .ok (.getfield 9, 3) := dk_180 0 9 (dk_at dksX2_besideOf_3 13 rfl rfl)
theorem dX2_besideOf_88 : decode cX2_besideOf 88 = .ok (.iload 5, 2) := dk_21 5 (dk_at dksX2_besideOf_3 16 rfl rfl)
theorem dX2_besideOf_90 : decode cX2_besideOf 90 = .ok (.iaload, 1) := dk_46 (dk_at dksX2_besideOf_3 18 rfl rfl)
theorem dX2_besideOf_91 : decode cX2_besideOf 91 = .ok (.iload_n 3, 1) := dk_29 (dk_at dksX2_besideOf_3 19 rfl rfl)
theorem dX2_besideOf_92 : decode cX2_besideOf 92 = .ok (.idiv, 1) := dk_108 (dk_at dksX2_besideOf_3 20 rfl rfl)
theorem dX2_besideOf_93 : decode cX2_besideOf 93 = .ok (.istore 6, 2) := dk_54 6 (dk_at dksX2_besideOf_3 21 rfl rfl)
theorem dX2_besideOf_95 : decode cX2_besideOf 95 = .ok (.iload 4, 2) := dk_21 4 (dk_at dksX2_besideOf_4 0 rfl rfl)
theorem dX2_besideOf_97 : decode cX2_besideOf 97 = .ok (.aload_n 0, 1) := dk_42 (dk_at dksX2_besideOf_4 2 rfl rfl)
theorem dX2_besideOf_98 : decode cX2_besideOf 98 = .ok (.getfield 49, 3) := dk_180 0 49 (dk_at dksX2_besideOf_4 3 rfl rfl)
theorem dX2_besideOf_101 : decode cX2_besideOf 101 = .ok (.iconst 4, 1) := dk_7 (dk_at dksX2_besideOf_4 6 rfl rfl)
theorem dX2_besideOf_102 : decode cX2_besideOf 102 = .ok (.iload 5, 2) := dk_21 5 (dk_at dksX2_besideOf_4 7 rfl rfl)
theorem dX2_besideOf_104 : decode cX2_besideOf 104 = .ok (.imul, 1) := dk_104 (dk_at dksX2_besideOf_4 9 rfl rfl)
theorem dX2_besideOf_105 : decode cX2_besideOf 105 = .ok (.iload 6, 2) := dk_21 6 (dk_at dksX2_besideOf_4 10 rfl rfl)
theorem dX2_besideOf_107 : decode cX2_besideOf 107 = .ok (.iconst 3, 1) := dk_6 (dk_at dksX2_besideOf_4 12 rfl rfl)
theorem dX2_besideOf_108 : decode cX2_besideOf 108 = .ok (.if_icmp .le 7, 3) := dk_164 0 7 (dk_at dksX2_besideOf_4 13 rfl rfl)
theorem dX2_besideOf_111 : decode cX2_besideOf 111 = .ok (.iconst 3, 1) := dk_6 (dk_at dksX2_besideOf_4 16 rfl rfl)
theorem dX2_besideOf_112 : decode cX2_besideOf 112 = .ok (.goto 5, 3) := dk_167 0 5 (dk_at dksX2_besideOf_4 17 rfl rfl)
theorem dX2_besideOf_115 : decode cX2_besideOf 115 = .ok (.iload 6, 2) := dk_21 6 (dk_at dksX2_besideOf_4 20 rfl rfl)
theorem dX2_besideOf_117 : decode cX2_besideOf 117 = .ok (.iadd, 1) := dk_96 (dk_at dksX2_besideOf_4 22 rfl rfl)
theorem dX2_besideOf_118 : decode cX2_besideOf 118 = .ok (.iaload, 1) := dk_46 (dk_at dksX2_besideOf_4 23 rfl rfl)
theorem dX2_besideOf_119 : decode cX2_besideOf 119 = .ok (.iadd, 1) := dk_96 (dk_at dksX2_besideOf_5 0 rfl rfl)
theorem dX2_besideOf_120 : decode cX2_besideOf 120 = .ok (.istore 4, 2) := dk_54 4 (dk_at dksX2_besideOf_5 1 rfl rfl)
theorem dX2_besideOf_122 : decode cX2_besideOf 122 = .ok (.iinc 5 1, 3) := dk_132 5 1 (dk_at dksX2_besideOf_5 3 rfl rfl)
theorem dX2_besideOf_125 : decode cX2_besideOf 125 = .ok (.goto (-50), 3) := dk_167 255 206 (dk_at dksX2_besideOf_5 6 rfl rfl)
theorem dX2_besideOf_128 : decode cX2_besideOf 128 = .ok (.iload 4, 2) := dk_21 4 (dk_at dksX2_besideOf_5 9 rfl rfl)
theorem dX2_besideOf_130 : decode cX2_besideOf 130 = .ok (.ireturn, 1) := dk_172 (dk_at dksX2_besideOf_5 11 rfl rfl)
abbrev cX2_loses : ByteArray := prog_32_method_63_code
def yX2_loses : MethodName := ⟨RX2, "loses", "(I)I"⟩
def dkwX2_loses_2 : List UInt8 := [29, 120, 167, 0, 4, 3, 128, 61, 132, 3, 1, 167, 255, 211, 28, 172]
abbrev dktX2_loses_2 : List UInt8 := dkwX2_loses_2 ++ []
def dkwX2_loses_1 : List UInt8 := [182, 0, 244, 54, 4, 42, 180, 0, 232, 54, 5, 28, 21, 5, 42, 29, 27, 182, 1, 59, 162, 0, 9, 4]
abbrev dktX2_loses_1 : List UInt8 := dkwX2_loses_1 ++ dktX2_loses_2
def dkwX2_loses_0 : List UInt8 := [27, 184, 1, 56, 154, 0, 5, 2, 172, 3, 61, 3, 62, 29, 42, 180, 0, 109, 162, 0, 43, 42, 29]
abbrev dktX2_loses_0 : List UInt8 := dkwX2_loses_0 ++ dktX2_loses_1
theorem dksX2_loses_0 : cX2_loses.data.toList.drop 0 = dktX2_loses_0 := by decide +kernel
theorem dksX2_loses_1 : cX2_loses.data.toList.drop 23 = dktX2_loses_1 := dk_seg dksX2_loses_0 23 rfl rfl
theorem dksX2_loses_2 : cX2_loses.data.toList.drop 47 = dktX2_loses_2 := dk_seg dksX2_loses_1 24 rfl rfl
theorem dX2_loses_0 : decode cX2_loses 0 = .ok (.iload_n 1, 1) := dk_27 (dk_at dksX2_loses_0 0 rfl rfl)
theorem dX2_loses_1 : decode cX2_loses 1 = .ok (.invokestatic 312, 3) := dk_184 1 56 (dk_at dksX2_loses_0 1 rfl rfl)
theorem dX2_loses_4 : decode cX2_loses 4 = .ok (.ifCond .ne 5, 3) := dk_154 0 5 (dk_at dksX2_loses_0 4 rfl rfl)
theorem dX2_loses_7 : decode cX2_loses 7 = .ok (.iconst (-1), 1) := dk_2 (dk_at dksX2_loses_0 7 rfl rfl)
theorem dX2_loses_8 : decode cX2_loses 8 = .ok (.ireturn, 1) := dk_172 (dk_at dksX2_loses_0 8 rfl rfl)
theorem dX2_loses_9 : decode cX2_loses 9 = .ok (.iconst 0, 1) := dk_3 (dk_at dksX2_loses_0 9 rfl rfl)
theorem dX2_loses_10 : decode cX2_loses 10 = .ok (.istore_n 2, 1) := dk_61 (dk_at dksX2_loses_0 10 rfl rfl)
theorem dX2_loses_11 : decode cX2_loses 11 = .ok (.iconst 0, 1) := dk_3 (dk_at dksX2_loses_0 11 rfl rfl)
theorem dX2_loses_12 : decode cX2_loses 12 = .ok (.istore_n 3, 1) := dk_62 (dk_at dksX2_loses_0 12 rfl rfl)
theorem dX2_loses_13 : decode cX2_loses 13 = .ok (.iload_n 3, 1) := dk_29 (dk_at dksX2_loses_0 13 rfl rfl)
theorem dX2_loses_14 : decode cX2_loses 14 = .ok (.aload_n 0, 1) := dk_42 (dk_at dksX2_loses_0 14 rfl rfl)
theorem dX2_loses_15 : decode cX2_loses 15 = .ok (.getfield 109, 3) := dk_180 0 109 (dk_at dksX2_loses_0 15 rfl rfl)
theorem dX2_loses_18 : decode cX2_loses 18 = .ok (.if_icmp .ge 43, 3) := dk_162 0 43 (dk_at dksX2_loses_0 18 rfl rfl)
theorem dX2_loses_21 : decode cX2_loses 21 = .ok (.aload_n 0, 1) := dk_42 (dk_at dksX2_loses_0 21 rfl rfl)
theorem dX2_loses_22 : decode cX2_loses 22 = .ok (.iload_n 3, 1) := dk_29 (dk_at dksX2_loses_0 22 rfl rfl)
theorem dX2_loses_23 : decode cX2_loses 23 = .ok (.invokevirtual 244, 3) := dk_182 0 244 (dk_at dksX2_loses_1 0 rfl rfl)
theorem dX2_loses_26 : decode cX2_loses 26 = .ok (.istore 4, 2) := dk_54 4 (dk_at dksX2_loses_1 3 rfl rfl)
theorem dX2_loses_28 : decode cX2_loses 28 = .ok (.aload_n 0, 1) := dk_42 (dk_at dksX2_loses_1 5 rfl rfl)
theorem dX2_loses_29 : decode cX2_loses 29 = .ok (.getfield 232, 3) := dk_180 0 232 (dk_at dksX2_loses_1 6 rfl rfl)
theorem dX2_loses_32 : decode cX2_loses 32 = .ok (.istore 5, 2) := dk_54 5 (dk_at dksX2_loses_1 9 rfl rfl)
theorem dX2_loses_34 : decode cX2_loses 34 = .ok (.iload_n 2, 1) := dk_28 (dk_at dksX2_loses_1 11 rfl rfl)
theorem dX2_loses_35 : decode cX2_loses 35 = .ok (.iload 5, 2) := dk_21 5 (dk_at dksX2_loses_1 12 rfl rfl)
theorem dX2_loses_37 : decode cX2_loses 37 = .ok (.aload_n 0, 1) := dk_42 (dk_at dksX2_loses_1 14 rfl rfl)
theorem dX2_loses_38 : decode cX2_loses 38 = .ok (.iload_n 3, 1) := dk_29 (dk_at dksX2_loses_1 15 rfl rfl)
theorem dX2_loses_39 : decode cX2_loses 39 = .ok (.iload_n 1, 1) := dk_27 (dk_at dksX2_loses_1 16 rfl rfl)
theorem dX2_loses_40 : decode cX2_loses 40 = .ok (.invokevirtual 315, 3) := dk_182 1 59 (dk_at dksX2_loses_1 17 rfl rfl)
theorem dX2_loses_43 : decode cX2_loses 43 = .ok (.if_icmp .ge 9, 3) := dk_162 0 9 (dk_at dksX2_loses_1 20 rfl rfl)
theorem dX2_loses_46 : decode cX2_loses 46 = .ok (.iconst 1, 1) := dk_4 (dk_at dksX2_loses_1 23 rfl rfl)
theorem dX2_loses_47 : decode cX2_loses 47 = .ok (.iload_n 3, 1) := dk_29 (dk_at dksX2_loses_2 0 rfl rfl)
theorem dX2_loses_48 : decode cX2_loses 48 = .ok (.ishl, 1) := dk_120 (dk_at dksX2_loses_2 1 rfl rfl)
theorem dX2_loses_49 : decode cX2_loses 49 = .ok (.goto 4, 3) := dk_167 0 4 (dk_at dksX2_loses_2 2 rfl rfl)
theorem dX2_loses_52 : decode cX2_loses 52 = .ok (.iconst 0, 1) := dk_3 (dk_at dksX2_loses_2 5 rfl rfl)
theorem dX2_loses_53 : decode cX2_loses 53 = .ok (.ior, 1) := dk_128 (dk_at dksX2_loses_2 6 rfl rfl)
theorem dX2_loses_54 : decode cX2_loses 54 = .ok (.istore_n 2, 1) := dk_61 (dk_at dksX2_loses_2 7 rfl rfl)
theorem dX2_loses_55 : decode cX2_loses 55 = .ok (.iinc 3 1, 3) := dk_132 3 1 (dk_at dksX2_loses_2 8 rfl rfl)
theorem dX2_loses_58 : decode cX2_loses 58 = .ok (.goto (-45), 3) := dk_167 255 211 (dk_at dksX2_loses_2 11 rfl rfl)
theorem dX2_loses_61 : decode cX2_loses 61 = .ok (.iload_n 2, 1) := dk_28 (dk_at dksX2_loses_2 14 rfl rfl)
theorem dX2_loses_62 : decode cX2_loses 62 = .ok (.ireturn, 1) := dk_172 (dk_at dksX2_loses_2 15 rfl rfl)
abbrev cX2_fewest : ByteArray := prog_32_method_66_code
def yX2_fewest : MethodName := ⟨RX2, "fewest", "()I"⟩
def dkwX2_fewest_6 : List UInt8 := [180, 0, 9, 16, 12, 28, 96, 42, 180, 0, 71, 28, 46, 79, 132, 2, 1, 167, 255, 230, 27, 172]
abbrev dktX2_fewest_6 : List UInt8 := dkwX2_fewest_6 ++ []
def dkwX2_fewest_5 : List UInt8 := [27, 167, 0, 4, 28, 60, 132, 2, 1, 167, 255, 164, 3, 61, 28, 42, 180, 0, 102, 162, 0, 24, 42]
abbrev dktX2_fewest_5 : List UInt8 := dkwX2_fewest_5 ++ dktX2_fewest_6
def dkwX2_fewest_4 : List UInt8 := [29, 46, 167, 0, 4, 3, 79, 132, 3, 1, 167, 255, 217, 42, 182, 1, 1, 42, 182, 1, 65, 153, 0, 7]
abbrev dktX2_fewest_4 : List UInt8 := dkwX2_fewest_4 ++ dktX2_fewest_5
def dkwX2_fewest_3 : List UInt8 := [162, 0, 37, 42, 180, 0, 9, 16, 12, 29, 96, 28, 29, 122, 4, 126, 4, 160, 0, 12, 42, 180, 0, 71]
abbrev dktX2_fewest_3 : List UInt8 := dkwX2_fewest_3 ++ dktX2_fewest_4
def dkwX2_fewest_2 : List UInt8 := [155, 0, 17, 28, 184, 1, 62, 27, 184, 1, 62, 161, 0, 6, 167, 0, 64, 3, 62, 29, 42, 180, 0, 102]
abbrev dktX2_fewest_2 : List UInt8 := dkwX2_fewest_2 ++ dktX2_fewest_3
def dkwX2_fewest_1 : List UInt8 := [28, 96, 46, 79, 132, 2, 1, 167, 255, 230, 3, 61, 28, 4, 42, 180, 0, 102, 120, 162, 0, 88, 27]
abbrev dktX2_fewest_1 : List UInt8 := dkwX2_fewest_1 ++ dktX2_fewest_2
def dkwX2_fewest_0 : List UInt8 := [16, 254, 60, 3, 61, 28, 42, 180, 0, 102, 162, 0, 24, 42, 180, 0, 71, 28, 42, 180, 0, 9, 16, 12]
abbrev dktX2_fewest_0 : List UInt8 := dkwX2_fewest_0 ++ dktX2_fewest_1
theorem dksX2_fewest_0 : cX2_fewest.data.toList.drop 0 = dktX2_fewest_0 := by decide +kernel
theorem dksX2_fewest_1 : cX2_fewest.data.toList.drop 24 = dktX2_fewest_1 := dk_seg dksX2_fewest_0 24 rfl rfl
theorem dksX2_fewest_2 : cX2_fewest.data.toList.drop 47 = dktX2_fewest_2 := dk_seg dksX2_fewest_1 23 rfl rfl
theorem dksX2_fewest_3 : cX2_fewest.data.toList.drop 71 = dktX2_fewest_3 := dk_seg dksX2_fewest_2 24 rfl rfl
theorem dksX2_fewest_4 : cX2_fewest.data.toList.drop 95 = dktX2_fewest_4 := dk_seg dksX2_fewest_3 24 rfl rfl
theorem dksX2_fewest_5 : cX2_fewest.data.toList.drop 119 = dktX2_fewest_5 := dk_seg dksX2_fewest_4 24 rfl rfl
theorem dksX2_fewest_6 : cX2_fewest.data.toList.drop 142 = dktX2_fewest_6 := dk_seg dksX2_fewest_5 23 rfl rfl
theorem dX2_fewest_0 : decode cX2_fewest 0 = .ok (.bipush (-2), 2) := dk_16 254 (dk_at dksX2_fewest_0 0 rfl rfl)
theorem dX2_fewest_2 : decode cX2_fewest 2 = .ok (.istore_n 1, 1) := dk_60 (dk_at dksX2_fewest_0 2 rfl rfl)
theorem dX2_fewest_3 : decode cX2_fewest 3 = .ok (.iconst 0, 1) := dk_3 (dk_at dksX2_fewest_0 3 rfl rfl)
theorem dX2_fewest_4 : decode cX2_fewest 4 = .ok (.istore_n 2, 1) := dk_61 (dk_at dksX2_fewest_0 4 rfl rfl)
theorem dX2_fewest_5 : decode cX2_fewest 5 = .ok (.iload_n 2, 1) := dk_28 (dk_at dksX2_fewest_0 5 rfl rfl)
theorem dX2_fewest_6 : decode cX2_fewest 6 = .ok (.aload_n 0, 1) := dk_42 (dk_at dksX2_fewest_0 6 rfl rfl)
theorem dX2_fewest_7 : decode cX2_fewest 7 = .ok (.getfield 102, 3) := dk_180 0 102 (dk_at dksX2_fewest_0 7 rfl rfl)
theorem dX2_fewest_10 : decode cX2_fewest 10 = .ok (.if_icmp .ge 24, 3) := dk_162 0 24 (dk_at dksX2_fewest_0 10 rfl rfl)
theorem dX2_fewest_13 : decode cX2_fewest 13 = .ok (.aload_n 0, 1) := dk_42 (dk_at dksX2_fewest_0 13 rfl rfl)
theorem dX2_fewest_14 : decode cX2_fewest 14 = .ok (.getfield 71, 3) := dk_180 0 71 (dk_at dksX2_fewest_0 14 rfl rfl)
theorem dX2_fewest_17 : decode cX2_fewest 17 = .ok (.iload_n 2, 1) := dk_28 (dk_at dksX2_fewest_0 17 rfl rfl)
theorem dX2_fewest_18 : decode cX2_fewest 18 = .ok (.aload_n 0, 1) := dk_42 (dk_at dksX2_fewest_0 18 rfl rfl)
theorem dX2_fewest_19 : decode cX2_fewest 19 = .ok (.getfield 9, 3) := dk_180 0 9 (dk_at dksX2_fewest_0 19 rfl rfl)
theorem dX2_fewest_22 : decode cX2_fewest 22 = .ok (.bipush 12, 2) := dk_16 12 (dk_at dksX2_fewest_0 22 rfl rfl)
theorem dX2_fewest_24 : decode cX2_fewest 24 = .ok (.iload_n 2, 1) := dk_28 (dk_at dksX2_fewest_1 0 rfl rfl)
theorem dX2_fewest_25 : decode cX2_fewest 25 = .ok (.iadd, 1) := dk_96 (dk_at dksX2_fewest_1 1 rfl rfl)
theorem dX2_fewest_26 : decode cX2_fewest 26 = .ok (.iaload, 1) := dk_46 (dk_at dksX2_fewest_1 2 rfl rfl)
theorem dX2_fewest_27 : decode cX2_fewest 27 = .ok (.iastore, 1) := dk_79 (dk_at dksX2_fewest_1 3 rfl rfl)
theorem dX2_fewest_28 : decode cX2_fewest 28 = .ok (.iinc 2 1, 3) := dk_132 2 1 (dk_at dksX2_fewest_1 4 rfl rfl)
theorem dX2_fewest_31 : decode cX2_fewest 31 = .ok (.goto (-26), 3) := dk_167 255 230 (dk_at dksX2_fewest_1 7 rfl rfl)
theorem dX2_fewest_34 : decode cX2_fewest 34 = .ok (.iconst 0, 1) := dk_3 (dk_at dksX2_fewest_1 10 rfl rfl)
theorem dX2_fewest_35 : decode cX2_fewest 35 = .ok (.istore_n 2, 1) := dk_61 (dk_at dksX2_fewest_1 11 rfl rfl)
theorem dX2_fewest_36 : decode cX2_fewest 36 = .ok (.iload_n 2, 1) := dk_28 (dk_at dksX2_fewest_1 12 rfl rfl)
theorem dX2_fewest_37 : decode cX2_fewest 37 = .ok (.iconst 1, 1) := dk_4 (dk_at dksX2_fewest_1 13 rfl rfl)
theorem dX2_fewest_38 : decode cX2_fewest 38 = .ok (.aload_n 0, 1) := dk_42 (dk_at dksX2_fewest_1 14 rfl rfl)
theorem dX2_fewest_39 : decode cX2_fewest 39 = .ok (.getfield 102, 3) := dk_180 0 102 (dk_at dksX2_fewest_1 15 rfl rfl)
theorem dX2_fewest_42 : decode cX2_fewest 42 = .ok (.ishl, 1) := dk_120 (dk_at dksX2_fewest_1 18 rfl rfl)
theorem dX2_fewest_43 : decode cX2_fewest 43 = .ok (.if_icmp .ge 88, 3) := dk_162 0 88 (dk_at dksX2_fewest_1 19 rfl rfl)
theorem dX2_fewest_46 : decode cX2_fewest 46 = .ok (.iload_n 1, 1) := dk_27 (dk_at dksX2_fewest_1 22 rfl rfl)
theorem dX2_fewest_47 : decode cX2_fewest 47 = .ok (.ifCond .lt 17, 3) := dk_155 0 17 (dk_at dksX2_fewest_2 0 rfl rfl)
theorem dX2_fewest_50 : decode cX2_fewest 50 = .ok (.iload_n 2, 1) := dk_28 (dk_at dksX2_fewest_2 3 rfl rfl)
theorem dX2_fewest_51 : decode cX2_fewest 51 = .ok (.invokestatic 318, 3) := dk_184 1 62 (dk_at dksX2_fewest_2 4 rfl rfl)
theorem dX2_fewest_54 : decode cX2_fewest 54 = .ok (.iload_n 1, 1) := dk_27 (dk_at dksX2_fewest_2 7 rfl rfl)
theorem dX2_fewest_55 : decode cX2_fewest 55 = .ok (.invokestatic 318, 3) := dk_184 1 62 (dk_at dksX2_fewest_2 8 rfl rfl)
theorem dX2_fewest_58 : decode cX2_fewest 58 = .ok (.if_icmp .lt 6, 3) := dk_161 0 6 (dk_at dksX2_fewest_2 11 rfl rfl)
theorem dX2_fewest_61 : decode cX2_fewest 61 = .ok (.goto 64, 3) := dk_167 0 64 (dk_at dksX2_fewest_2 14 rfl rfl)
theorem dX2_fewest_64 : decode cX2_fewest 64 = .ok (.iconst 0, 1) := dk_3 (dk_at dksX2_fewest_2 17 rfl rfl)
theorem dX2_fewest_65 : decode cX2_fewest 65 = .ok (.istore_n 3, 1) := dk_62 (dk_at dksX2_fewest_2 18 rfl rfl)
theorem dX2_fewest_66 : decode cX2_fewest 66 = .ok (.iload_n 3, 1) := dk_29 (dk_at dksX2_fewest_2 19 rfl rfl)
theorem dX2_fewest_67 : decode cX2_fewest 67 = .ok (.aload_n 0, 1) := dk_42 (dk_at dksX2_fewest_2 20 rfl rfl)
theorem dX2_fewest_68 : decode cX2_fewest 68 = .ok (.getfield 102, 3) := dk_180 0 102 (dk_at dksX2_fewest_2 21 rfl rfl)
theorem dX2_fewest_71 : decode cX2_fewest 71 = .ok (.if_icmp .ge 37, 3) := dk_162 0 37 (dk_at dksX2_fewest_3 0 rfl rfl)
theorem dX2_fewest_74 : decode cX2_fewest 74 = .ok (.aload_n 0, 1) := dk_42 (dk_at dksX2_fewest_3 3 rfl rfl)
theorem dX2_fewest_75 : decode cX2_fewest 75 = .ok (.getfield 9, 3) := dk_180 0 9 (dk_at dksX2_fewest_3 4 rfl rfl)
theorem dX2_fewest_78 : decode cX2_fewest 78 = .ok (.bipush 12, 2) := dk_16 12 (dk_at dksX2_fewest_3 7 rfl rfl)
theorem dX2_fewest_80 : decode cX2_fewest 80 = .ok (.iload_n 3, 1) := dk_29 (dk_at dksX2_fewest_3 9 rfl rfl)
theorem dX2_fewest_81 : decode cX2_fewest 81 = .ok (.iadd, 1) := dk_96 (dk_at dksX2_fewest_3 10 rfl rfl)
theorem dX2_fewest_82 : decode cX2_fewest 82 = .ok (.iload_n 2, 1) := dk_28 (dk_at dksX2_fewest_3 11 rfl rfl)
theorem dX2_fewest_83 : decode cX2_fewest 83 = .ok (.iload_n 3, 1) := dk_29 (dk_at dksX2_fewest_3 12 rfl rfl)
theorem dX2_fewest_84 : decode cX2_fewest 84 = .ok (.ishr, 1) := dk_122 (dk_at dksX2_fewest_3 13 rfl rfl)
theorem dX2_fewest_85 : decode cX2_fewest 85 = .ok (.iconst 1, 1) := dk_4 (dk_at dksX2_fewest_3 14 rfl rfl)
theorem dX2_fewest_86 : decode cX2_fewest 86 = .ok (.iand, 1) := dk_126 (dk_at dksX2_fewest_3 15 rfl rfl)
theorem dX2_fewest_87 : decode cX2_fewest 87 = .ok (.iconst 1, 1) := dk_4 (dk_at dksX2_fewest_3 16 rfl rfl)
theorem dX2_fewest_88 : decode cX2_fewest 88 = .ok (.if_icmp .ne 12, 3) := dk_160 0 12 (dk_at dksX2_fewest_3 17 rfl rfl)
theorem dX2_fewest_91 : decode cX2_fewest 91 = .ok (.aload_n 0, 1) := dk_42 (dk_at dksX2_fewest_3 20 rfl rfl)
theorem dX2_fewest_92 : decode cX2_fewest 92 = .ok (.getfield 71, 3) := dk_180 0 71 (dk_at dksX2_fewest_3 21 rfl rfl)
theorem dX2_fewest_95 : decode cX2_fewest 95 = .ok (.iload_n 3, 1) := dk_29 (dk_at dksX2_fewest_4 0 rfl rfl)
theorem dX2_fewest_96 : decode cX2_fewest 96 = .ok (.iaload, 1) := dk_46 (dk_at dksX2_fewest_4 1 rfl rfl)
theorem dX2_fewest_97 : decode cX2_fewest 97 = .ok (.goto 4, 3) := dk_167 0 4 (dk_at dksX2_fewest_4 2 rfl rfl)
theorem dX2_fewest_100 : decode cX2_fewest 100 = .ok (.iconst 0, 1) := dk_3 (dk_at dksX2_fewest_4 5 rfl rfl)
theorem dX2_fewest_101 : decode cX2_fewest 101 = .ok (.iastore, 1) := dk_79 (dk_at dksX2_fewest_4 6 rfl rfl)
theorem dX2_fewest_102 : decode cX2_fewest 102 = .ok (.iinc 3 1, 3) := dk_132 3 1 (dk_at dksX2_fewest_4 7 rfl rfl)
theorem dX2_fewest_105 : decode cX2_fewest 105 = .ok (.goto (-39), 3) := dk_167 255 217 (dk_at dksX2_fewest_4 10 rfl rfl)
theorem dX2_fewest_108 : decode cX2_fewest 108 = .ok (.aload_n 0, 1) := dk_42 (dk_at dksX2_fewest_4 13 rfl rfl)
theorem dX2_fewest_109 : decode cX2_fewest 109 = .ok (.invokevirtual 257, 3) := dk_182 1 1 (dk_at dksX2_fewest_4 14 rfl rfl)
theorem dX2_fewest_112 : decode cX2_fewest 112 = .ok (.aload_n 0, 1) := dk_42 (dk_at dksX2_fewest_4 17 rfl rfl)
theorem dX2_fewest_113 : decode cX2_fewest 113 = .ok (.invokevirtual 321, 3) := dk_182 1 65 (dk_at dksX2_fewest_4 18 rfl rfl)
theorem dX2_fewest_116 : decode cX2_fewest 116 = .ok (.ifCond .eq 7, 3) := dk_153 0 7 (dk_at dksX2_fewest_4 21 rfl rfl)
theorem dX2_fewest_119 : decode cX2_fewest 119 = .ok (.iload_n 1, 1) := dk_27 (dk_at dksX2_fewest_5 0 rfl rfl)
theorem dX2_fewest_120 : decode cX2_fewest 120 = .ok (.goto 4, 3) := dk_167 0 4 (dk_at dksX2_fewest_5 1 rfl rfl)
theorem dX2_fewest_123 : decode cX2_fewest 123 = .ok (.iload_n 2, 1) := dk_28 (dk_at dksX2_fewest_5 4 rfl rfl)
theorem dX2_fewest_124 : decode cX2_fewest 124 = .ok (.istore_n 1, 1) := dk_60 (dk_at dksX2_fewest_5 5 rfl rfl)
theorem dX2_fewest_125 : decode cX2_fewest 125 = .ok (.iinc 2 1, 3) := dk_132 2 1 (dk_at dksX2_fewest_5 6 rfl rfl)
theorem dX2_fewest_128 : decode cX2_fewest 128 = .ok (.goto (-92), 3) := dk_167 255 164 (dk_at dksX2_fewest_5 9 rfl rfl)
theorem dX2_fewest_131 : decode cX2_fewest 131 = .ok (.iconst 0, 1) := dk_3 (dk_at dksX2_fewest_5 12 rfl rfl)
theorem dX2_fewest_132 : decode cX2_fewest 132 = .ok (.istore_n 2, 1) := dk_61 (dk_at dksX2_fewest_5 13 rfl rfl)
theorem dX2_fewest_133 : decode cX2_fewest 133 = .ok (.iload_n 2, 1) := dk_28 (dk_at dksX2_fewest_5 14 rfl rfl)
theorem dX2_fewest_134 : decode cX2_fewest 134 = .ok (.aload_n 0, 1) := dk_42 (dk_at dksX2_fewest_5 15 rfl rfl)
theorem dX2_fewest_135 : decode cX2_fewest 135 = .ok (.getfield 102, 3) := dk_180 0 102 (dk_at dksX2_fewest_5 16 rfl rfl)
theorem dX2_fewest_138 : decode cX2_fewest 138 = .ok (.if_icmp .ge 24, 3) := dk_162 0 24 (dk_at dksX2_fewest_5 19 rfl rfl)
theorem dX2_fewest_141 : decode cX2_fewest 141 = .ok (.aload_n 0, 1) := dk_42 (dk_at dksX2_fewest_5 22 rfl rfl)
theorem dX2_fewest_142 : decode cX2_fewest 142 = .ok (.getfield 9, 3) := dk_180 0 9 (dk_at dksX2_fewest_6 0 rfl rfl)
theorem dX2_fewest_145 : decode cX2_fewest 145 = .ok (.bipush 12, 2) := dk_16 12 (dk_at dksX2_fewest_6 3 rfl rfl)
theorem dX2_fewest_147 : decode cX2_fewest 147 = .ok (.iload_n 2, 1) := dk_28 (dk_at dksX2_fewest_6 5 rfl rfl)
theorem dX2_fewest_148 : decode cX2_fewest 148 = .ok (.iadd, 1) := dk_96 (dk_at dksX2_fewest_6 6 rfl rfl)
theorem dX2_fewest_149 : decode cX2_fewest 149 = .ok (.aload_n 0, 1) := dk_42 (dk_at dksX2_fewest_6 7 rfl rfl)
theorem dX2_fewest_150 : decode cX2_fewest 150 = .ok (.getfield 71, 3) := dk_180 0 71 (dk_at dksX2_fewest_6 8 rfl rfl)
theorem dX2_fewest_153 : decode cX2_fewest 153 = .ok (.iload_n 2, 1) := dk_28 (dk_at dksX2_fewest_6 11 rfl rfl)
theorem dX2_fewest_154 : decode cX2_fewest 154 = .ok (.iaload, 1) := dk_46 (dk_at dksX2_fewest_6 12 rfl rfl)
theorem dX2_fewest_155 : decode cX2_fewest 155 = .ok (.iastore, 1) := dk_79 (dk_at dksX2_fewest_6 13 rfl rfl)
theorem dX2_fewest_156 : decode cX2_fewest 156 = .ok (.iinc 2 1, 3) := dk_132 2 1 (dk_at dksX2_fewest_6 14 rfl rfl)
theorem dX2_fewest_159 : decode cX2_fewest 159 = .ok (.goto (-26), 3) := dk_167 255 230 (dk_at dksX2_fewest_6 17 rfl rfl)
theorem dX2_fewest_162 : decode cX2_fewest 162 = .ok (.iload_n 1, 1) := dk_27 (dk_at dksX2_fewest_6 20 rfl rfl)
theorem dX2_fewest_163 : decode cX2_fewest 163 = .ok (.ireturn, 1) := dk_172 (dk_at dksX2_fewest_6 21 rfl rfl)
abbrev cX2_bitsOf : ByteArray := prog_32_method_64_code
def yX2_bitsOf : MethodName := ⟨RX2, "bitsOf", "(I)I"⟩
def dkwX2_bitsOf_0 : List UInt8 := [3, 60, 26, 61, 28, 153, 0, 15, 132, 1, 1, 28, 28, 4, 100, 126, 61, 167, 255, 243, 27, 172]
abbrev dktX2_bitsOf_0 : List UInt8 := dkwX2_bitsOf_0 ++ []
theorem dksX2_bitsOf_0 : cX2_bitsOf.data.toList.drop 0 = dktX2_bitsOf_0 := by decide +kernel
theorem dX2_bitsOf_0 : decode cX2_bitsOf 0 = .ok (.iconst 0, 1) := dk_3 (dk_at dksX2_bitsOf_0 0 rfl rfl)
theorem dX2_bitsOf_1 : decode cX2_bitsOf 1 = .ok (.istore_n 1, 1) := dk_60 (dk_at dksX2_bitsOf_0 1 rfl rfl)
theorem dX2_bitsOf_2 : decode cX2_bitsOf 2 = .ok (.iload_n 0, 1) := dk_26 (dk_at dksX2_bitsOf_0 2 rfl rfl)
theorem dX2_bitsOf_3 : decode cX2_bitsOf 3 = .ok (.istore_n 2, 1) := dk_61 (dk_at dksX2_bitsOf_0 3 rfl rfl)
theorem dX2_bitsOf_4 : decode cX2_bitsOf 4 = .ok (.iload_n 2, 1) := dk_28 (dk_at dksX2_bitsOf_0 4 rfl rfl)
theorem dX2_bitsOf_5 : decode cX2_bitsOf 5 = .ok (.ifCond .eq 15, 3) := dk_153 0 15 (dk_at dksX2_bitsOf_0 5 rfl rfl)
theorem dX2_bitsOf_8 : decode cX2_bitsOf 8 = .ok (.iinc 1 1, 3) := dk_132 1 1 (dk_at dksX2_bitsOf_0 8 rfl rfl)
theorem dX2_bitsOf_11 : decode cX2_bitsOf 11 = .ok (.iload_n 2, 1) := dk_28 (dk_at dksX2_bitsOf_0 11 rfl rfl)
theorem dX2_bitsOf_12 : decode cX2_bitsOf 12 = .ok (.iload_n 2, 1) := dk_28 (dk_at dksX2_bitsOf_0 12 rfl rfl)
theorem dX2_bitsOf_13 : decode cX2_bitsOf 13 = .ok (.iconst 1, 1) := dk_4 (dk_at dksX2_bitsOf_0 13 rfl rfl)
theorem dX2_bitsOf_14 : decode cX2_bitsOf 14 = .ok (.isub, 1) := dk_100 (dk_at dksX2_bitsOf_0 14 rfl rfl)
theorem dX2_bitsOf_15 : decode cX2_bitsOf 15 = .ok (.iand, 1) := dk_126 (dk_at dksX2_bitsOf_0 15 rfl rfl)
theorem dX2_bitsOf_16 : decode cX2_bitsOf 16 = .ok (.istore_n 2, 1) := dk_61 (dk_at dksX2_bitsOf_0 16 rfl rfl)
theorem dX2_bitsOf_17 : decode cX2_bitsOf 17 = .ok (.goto (-13), 3) := dk_167 255 243 (dk_at dksX2_bitsOf_0 17 rfl rfl)
theorem dX2_bitsOf_20 : decode cX2_bitsOf 20 = .ok (.iload_n 1, 1) := dk_27 (dk_at dksX2_bitsOf_0 20 rfl rfl)
theorem dX2_bitsOf_21 : decode cX2_bitsOf 21 = .ok (.ireturn, 1) := dk_172 (dk_at dksX2_bitsOf_0 21 rfl rfl)
abbrev cX2_isGone : ByteArray := prog_32_method_65_code
def yX2_isGone : MethodName := ⟨RX2, "isGone", "()Z"⟩
def dkwX2_isGone_1 : List UInt8 := [167, 255, 235, 3, 172]
abbrev dktX2_isGone_1 : List UInt8 := dkwX2_isGone_1 ++ []
def dkwX2_isGone_0 : List UInt8 := [3, 60, 27, 42, 180, 0, 102, 162, 0, 19, 42, 27, 182, 0, 250, 156, 0, 5, 4, 172, 132, 1, 1]
abbrev dktX2_isGone_0 : List UInt8 := dkwX2_isGone_0 ++ dktX2_isGone_1
theorem dksX2_isGone_0 : cX2_isGone.data.toList.drop 0 = dktX2_isGone_0 := by decide +kernel
theorem dksX2_isGone_1 : cX2_isGone.data.toList.drop 23 = dktX2_isGone_1 := dk_seg dksX2_isGone_0 23 rfl rfl
theorem dX2_isGone_0 : decode cX2_isGone 0 = .ok (.iconst 0, 1) := dk_3 (dk_at dksX2_isGone_0 0 rfl rfl)
theorem dX2_isGone_1 : decode cX2_isGone 1 = .ok (.istore_n 1, 1) := dk_60 (dk_at dksX2_isGone_0 1 rfl rfl)
theorem dX2_isGone_2 : decode cX2_isGone 2 = .ok (.iload_n 1, 1) := dk_27 (dk_at dksX2_isGone_0 2 rfl rfl)
theorem dX2_isGone_3 : decode cX2_isGone 3 = .ok (.aload_n 0, 1) := dk_42 (dk_at dksX2_isGone_0 3 rfl rfl)
theorem dX2_isGone_4 : decode cX2_isGone 4 = .ok (.getfield 102, 3) := dk_180 0 102 (dk_at dksX2_isGone_0 4 rfl rfl)
theorem dX2_isGone_7 : decode cX2_isGone 7 = .ok (.if_icmp .ge 19, 3) := dk_162 0 19 (dk_at dksX2_isGone_0 7 rfl rfl)
theorem dX2_isGone_10 : decode cX2_isGone 10 = .ok (.aload_n 0, 1) := dk_42 (dk_at dksX2_isGone_0 10 rfl rfl)
theorem dX2_isGone_11 : decode cX2_isGone 11 = .ok (.iload_n 1, 1) := dk_27 (dk_at dksX2_isGone_0 11 rfl rfl)
theorem dX2_isGone_12 : decode cX2_isGone 12 = .ok (.invokevirtual 250, 3) := dk_182 0 250 (dk_at dksX2_isGone_0 12 rfl rfl)
theorem dX2_isGone_15 : decode cX2_isGone 15 = .ok (.ifCond .ge 5, 3) := dk_156 0 5 (dk_at dksX2_isGone_0 15 rfl rfl)
theorem dX2_isGone_18 : decode cX2_isGone 18 = .ok (.iconst 1, 1) := dk_4 (dk_at dksX2_isGone_0 18 rfl rfl)
theorem dX2_isGone_19 : decode cX2_isGone 19 = .ok (.ireturn, 1) := dk_172 (dk_at dksX2_isGone_0 19 rfl rfl)
theorem dX2_isGone_20 : decode cX2_isGone 20 = .ok (.iinc 1 1, 3) := dk_132 1 1 (dk_at dksX2_isGone_0 20 rfl rfl)
theorem dX2_isGone_23 : decode cX2_isGone 23 = .ok (.goto (-21), 3) := dk_167 255 235 (dk_at dksX2_isGone_1 0 rfl rfl)
theorem dX2_isGone_26 : decode cX2_isGone 26 = .ok (.iconst 0, 1) := dk_3 (dk_at dksX2_isGone_1 3 rfl rfl)
theorem dX2_isGone_27 : decode cX2_isGone 27 = .ok (.ireturn, 1) := dk_172 (dk_at dksX2_isGone_1 4 rfl rfl)
abbrev cX2_least : ByteArray := prog_32_method_67_code
def yX2_least : MethodName := ⟨RX2, "least", "(I)I"⟩
def dkwX2_least_2 : List UInt8 := [3, 128, 61, 132, 3, 1, 167, 255, 221, 28, 172]
abbrev dktX2_least_2 : List UInt8 := dkwX2_least_2 ++ []
def dkwX2_least_1 : List UInt8 := [162, 0, 33, 28, 42, 180, 0, 62, 16, 6, 29, 104, 27, 96, 46, 158, 0, 9, 4, 29, 120, 167, 0, 4]
abbrev dktX2_least_1 : List UInt8 := dkwX2_least_1 ++ dktX2_least_2
def dkwX2_least_0 : List UInt8 := [42, 27, 182, 0, 132, 154, 0, 5, 2, 172, 42, 182, 1, 1, 3, 61, 3, 62, 29, 42, 180, 0, 109]
abbrev dktX2_least_0 : List UInt8 := dkwX2_least_0 ++ dktX2_least_1
theorem dksX2_least_0 : cX2_least.data.toList.drop 0 = dktX2_least_0 := by decide +kernel
theorem dksX2_least_1 : cX2_least.data.toList.drop 23 = dktX2_least_1 := dk_seg dksX2_least_0 23 rfl rfl
theorem dksX2_least_2 : cX2_least.data.toList.drop 47 = dktX2_least_2 := dk_seg dksX2_least_1 24 rfl rfl
theorem dX2_least_0 : decode cX2_least 0 = .ok (.aload_n 0, 1) := dk_42 (dk_at dksX2_least_0 0 rfl rfl)
theorem dX2_least_1 : decode cX2_least 1 = .ok (.iload_n 1, 1) := dk_27 (dk_at dksX2_least_0 1 rfl rfl)
theorem dX2_least_2 : decode cX2_least 2 = .ok (.invokevirtual 132, 3) := dk_182 0 132 (dk_at dksX2_least_0 2 rfl rfl)
theorem dX2_least_5 : decode cX2_least 5 = .ok (.ifCond .ne 5, 3) := dk_154 0 5 (dk_at dksX2_least_0 5 rfl rfl)
theorem dX2_least_8 : decode cX2_least 8 = .ok (.iconst (-1), 1) := dk_2 (dk_at dksX2_least_0 8 rfl rfl)
theorem dX2_least_9 : decode cX2_least 9 = .ok (.ireturn, 1) := dk_172 (dk_at dksX2_least_0 9 rfl rfl)
theorem dX2_least_10 : decode cX2_least 10 = .ok (.aload_n 0, 1) := dk_42 (dk_at dksX2_least_0 10 rfl rfl)
theorem dX2_least_11 : decode cX2_least 11 = .ok (.invokevirtual 257, 3) := dk_182 1 1 (dk_at dksX2_least_0 11 rfl rfl)
theorem dX2_least_14 : decode cX2_least 14 = .ok (.iconst 0, 1) := dk_3 (dk_at dksX2_least_0 14 rfl rfl)
theorem dX2_least_15 : decode cX2_least 15 = .ok (.istore_n 2, 1) := dk_61 (dk_at dksX2_least_0 15 rfl rfl)
theorem dX2_least_16 : decode cX2_least 16 = .ok (.iconst 0, 1) := dk_3 (dk_at dksX2_least_0 16 rfl rfl)
theorem dX2_least_17 : decode cX2_least 17 = .ok (.istore_n 3, 1) := dk_62 (dk_at dksX2_least_0 17 rfl rfl)
theorem dX2_least_18 : decode cX2_least 18 = .ok (.iload_n 3, 1) := dk_29 (dk_at dksX2_least_0 18 rfl rfl)
theorem dX2_least_19 : decode cX2_least 19 = .ok (.aload_n 0, 1) := dk_42 (dk_at dksX2_least_0 19 rfl rfl)
theorem dX2_least_20 : decode cX2_least 20 = .ok (.getfield 109, 3) := dk_180 0 109 (dk_at dksX2_least_0 20 rfl rfl)
theorem dX2_least_23 : decode cX2_least 23 = .ok (.if_icmp .ge 33, 3) := dk_162 0 33 (dk_at dksX2_least_1 0 rfl rfl)
theorem dX2_least_26 : decode cX2_least 26 = .ok (.iload_n 2, 1) := dk_28 (dk_at dksX2_least_1 3 rfl rfl)
theorem dX2_least_27 : decode cX2_least 27 = .ok (.aload_n 0, 1) := dk_42 (dk_at dksX2_least_1 4 rfl rfl)
theorem dX2_least_28 : decode cX2_least 28 = .ok (.getfield 62, 3) := dk_180 0 62 (dk_at dksX2_least_1 5 rfl rfl)
theorem dX2_least_31 : decode cX2_least 31 = .ok (.bipush 6, 2) := dk_16 6 (dk_at dksX2_least_1 8 rfl rfl)
theorem dX2_least_33 : decode cX2_least 33 = .ok (.iload_n 3, 1) := dk_29 (dk_at dksX2_least_1 10 rfl rfl)
theorem dX2_least_34 : decode cX2_least 34 = .ok (.imul, 1) := dk_104 (dk_at dksX2_least_1 11 rfl rfl)
theorem dX2_least_35 : decode cX2_least 35 = .ok (.iload_n 1, 1) := dk_27 (dk_at dksX2_least_1 12 rfl rfl)
theorem dX2_least_36 : decode cX2_least 36 = .ok (.iadd, 1) := dk_96 (dk_at dksX2_least_1 13 rfl rfl)
theorem dX2_least_37 : decode cX2_least 37 = .ok (.iaload, 1) := dk_46 (dk_at dksX2_least_1 14 rfl rfl)
theorem dX2_least_38 : decode cX2_least 38 = .ok (.ifCond .le 9, 3) := dk_158 0 9 (dk_at dksX2_least_1 15 rfl rfl)
theorem dX2_least_41 : decode cX2_least 41 = .ok (.iconst 1, 1) := dk_4 (dk_at dksX2_least_1 18 rfl rfl)
theorem dX2_least_42 : decode cX2_least 42 = .ok (.iload_n 3, 1) := dk_29 (dk_at dksX2_least_1 19 rfl rfl)
theorem dX2_least_43 : decode cX2_least 43 = .ok (.ishl, 1) := dk_120 (dk_at dksX2_least_1 20 rfl rfl)
theorem dX2_least_44 : decode cX2_least 44 = .ok (.goto 4, 3) := dk_167 0 4 (dk_at dksX2_least_1 21 rfl rfl)
theorem dX2_least_47 : decode cX2_least 47 = .ok (.iconst 0, 1) := dk_3 (dk_at dksX2_least_2 0 rfl rfl)
theorem dX2_least_48 : decode cX2_least 48 = .ok (.ior, 1) := dk_128 (dk_at dksX2_least_2 1 rfl rfl)
theorem dX2_least_49 : decode cX2_least 49 = .ok (.istore_n 2, 1) := dk_61 (dk_at dksX2_least_2 2 rfl rfl)
theorem dX2_least_50 : decode cX2_least 50 = .ok (.iinc 3 1, 3) := dk_132 3 1 (dk_at dksX2_least_2 3 rfl rfl)
theorem dX2_least_53 : decode cX2_least 53 = .ok (.goto (-35), 3) := dk_167 255 221 (dk_at dksX2_least_2 6 rfl rfl)
theorem dX2_least_56 : decode cX2_least 56 = .ok (.iload_n 2, 1) := dk_28 (dk_at dksX2_least_2 9 rfl rfl)
theorem dX2_least_57 : decode cX2_least 57 = .ok (.ireturn, 1) := dk_172 (dk_at dksX2_least_2 10 rfl rfl)
abbrev cX2_months : ByteArray := prog_32_method_68_code
def yX2_months : MethodName := ⟨RX2, "months", "(IIII)I"⟩
def dkwX2_months_6 : List UInt8 := [167, 255, 169, 21, 4, 154, 0, 8, 21, 5, 167, 0, 5, 21, 6, 172]
abbrev dktX2_months_6 : List UInt8 := dkwX2_months_6 ++ []
def dkwX2_months_5 : List UInt8 := [162, 0, 8, 21, 11, 167, 0, 4, 29, 54, 7, 21, 6, 21, 11, 21, 7, 100, 96, 54, 6, 132, 8, 1]
abbrev dktX2_months_5 : List UInt8 := dkwX2_months_5 ++ dktX2_months_6
def dkwX2_months_4 : List UInt8 := [21, 9, 42, 180, 0, 238, 100, 54, 11, 21, 8, 4, 96, 28, 160, 0, 7, 3, 167, 0, 15, 21, 11, 29]
abbrev dktX2_months_4 : List UInt8 := dkwX2_months_4 ++ dktX2_months_5
def dkwX2_months_3 : List UInt8 := [42, 27, 42, 27, 182, 0, 149, 21, 9, 182, 0, 241, 54, 10, 21, 5, 42, 180, 0, 232, 96, 54, 5]
abbrev dktX2_months_3 : List UInt8 := dkwX2_months_3 ++ dktX2_months_4
def dkwX2_months_2 : List UInt8 := [54, 6, 3, 54, 7, 3, 54, 8, 21, 8, 28, 162, 0, 87, 42, 27, 182, 0, 153, 21, 7, 96, 54, 9]
abbrev dktX2_months_2 : List UInt8 := dkwX2_months_2 ++ dktX2_months_3
def dkwX2_months_1 : List UInt8 := [184, 0, 118, 153, 0, 14, 21, 4, 133, 9, 10, 184, 0, 105, 154, 0, 5, 2, 172, 3, 54, 5, 3]
abbrev dktX2_months_1 : List UInt8 := dkwX2_months_1 ++ dktX2_months_2
def dkwX2_months_0 : List UInt8 := [42, 27, 182, 0, 144, 153, 0, 34, 28, 133, 10, 20, 1, 69, 184, 0, 105, 153, 0, 22, 29, 133]
abbrev dktX2_months_0 : List UInt8 := dkwX2_months_0 ++ dktX2_months_1
theorem dksX2_months_0 : cX2_months.data.toList.drop 0 = dktX2_months_0 := by decide +kernel
theorem dksX2_months_1 : cX2_months.data.toList.drop 22 = dktX2_months_1 := dk_seg dksX2_months_0 22 rfl rfl
theorem dksX2_months_2 : cX2_months.data.toList.drop 45 = dktX2_months_2 := dk_seg dksX2_months_1 23 rfl rfl
theorem dksX2_months_3 : cX2_months.data.toList.drop 69 = dktX2_months_3 := dk_seg dksX2_months_2 24 rfl rfl
theorem dksX2_months_4 : cX2_months.data.toList.drop 92 = dktX2_months_4 := dk_seg dksX2_months_3 23 rfl rfl
theorem dksX2_months_5 : cX2_months.data.toList.drop 116 = dktX2_months_5 := dk_seg dksX2_months_4 24 rfl rfl
theorem dksX2_months_6 : cX2_months.data.toList.drop 140 = dktX2_months_6 := dk_seg dksX2_months_5 24 rfl rfl
theorem dX2_months_0 : decode cX2_months 0 = .ok (.aload_n 0, 1) := dk_42 (dk_at dksX2_months_0 0 rfl rfl)
theorem dX2_months_1 : decode cX2_months 1 = .ok (.iload_n 1, 1) := dk_27 (dk_at dksX2_months_0 1 rfl rfl)
theorem dX2_months_2 : decode cX2_months 2 = .ok (.invokevirtual 144, 3) := dk_182 0 144 (dk_at dksX2_months_0 2 rfl rfl)
theorem dX2_months_5 : decode cX2_months 5 = .ok (.ifCond .eq 34, 3) := dk_153 0 34 (dk_at dksX2_months_0 5 rfl rfl)
theorem dX2_months_8 : decode cX2_months 8 = .ok (.iload_n 2, 1) := dk_28 (dk_at dksX2_months_0 8 rfl rfl)
theorem dX2_months_9 : decode cX2_months 9 = .ok (.i2l, 1) := dk_133 (dk_at dksX2_months_0 9 rfl rfl)
theorem dX2_months_10 : decode cX2_months 10 = .ok (.lconst 1, 1) := dk_10 (dk_at dksX2_months_0 10 rfl rfl)
theorem dX2_months_11 : decode cX2_months 11 = .ok (.ldc2_w 325, 3) := dk_20 1 69 (dk_at dksX2_months_0 11 rfl rfl)
theorem dX2_months_14 : decode cX2_months 14 = .ok (.invokestatic 105, 3) := dk_184 0 105 (dk_at dksX2_months_0 14 rfl rfl)
theorem dX2_months_17 : decode cX2_months 17 = .ok (.ifCond .eq 22, 3) := dk_153 0 22 (dk_at dksX2_months_0 17 rfl rfl)
theorem dX2_months_20 : decode cX2_months 20 = .ok (.iload_n 3, 1) := dk_29 (dk_at dksX2_months_0 20 rfl rfl)
theorem dX2_months_21 : decode cX2_months 21 = .ok (.i2l, 1) := dk_133 (dk_at dksX2_months_0 21 rfl rfl)
theorem dX2_months_22 : decode cX2_months 22 = .ok (.invokestatic 118, 3) := dk_184 0 118 (dk_at dksX2_months_1 0 rfl rfl)
theorem dX2_months_25 : decode cX2_months 25 = .ok (.ifCond .eq 14, 3) := dk_153 0 14 (dk_at dksX2_months_1 3 rfl rfl)
theorem dX2_months_28 : decode cX2_months 28 = .ok (.iload 4, 2) := dk_21 4 (dk_at dksX2_months_1 6 rfl rfl)
theorem dX2_months_30 : decode cX2_months 30 = .ok (.i2l, 1) := dk_133 (dk_at dksX2_months_1 8 rfl rfl)
theorem dX2_months_31 : decode cX2_months 31 = .ok (.lconst 0, 1) := dk_9 (dk_at dksX2_months_1 9 rfl rfl)
theorem dX2_months_32 : decode cX2_months 32 = .ok (.lconst 1, 1) := dk_10 (dk_at dksX2_months_1 10 rfl rfl)
theorem dX2_months_33 : decode cX2_months 33 = .ok (.invokestatic 105, 3) := dk_184 0 105 (dk_at dksX2_months_1 11 rfl rfl)
theorem dX2_months_36 : decode cX2_months 36 = .ok (.ifCond .ne 5, 3) := dk_154 0 5 (dk_at dksX2_months_1 14 rfl rfl)
theorem dX2_months_39 : decode cX2_months 39 = .ok (.iconst (-1), 1) := dk_2 (dk_at dksX2_months_1 17 rfl rfl)
theorem dX2_months_40 : decode cX2_months 40 = .ok (.ireturn, 1) := dk_172 (dk_at dksX2_months_1 18 rfl rfl)
theorem dX2_months_41 : decode cX2_months 41 = .ok (.iconst 0, 1) := dk_3 (dk_at dksX2_months_1 19 rfl rfl)
theorem dX2_months_42 : decode cX2_months 42 = .ok (.istore 5, 2) := dk_54 5 (dk_at dksX2_months_1 20 rfl rfl)
theorem dX2_months_44 : decode cX2_months 44 = .ok (.iconst 0, 1) := dk_3 (dk_at dksX2_months_1 22 rfl rfl)
theorem dX2_months_45 : decode cX2_months 45 = .ok (.istore 6, 2) := dk_54 6 (dk_at dksX2_months_2 0 rfl rfl)
theorem dX2_months_47 : decode cX2_months 47 = .ok (.iconst 0, 1) := dk_3 (dk_at dksX2_months_2 2 rfl rfl)
theorem dX2_months_48 : decode cX2_months 48 = .ok (.istore 7, 2) := dk_54 7 (dk_at dksX2_months_2 3 rfl rfl)
theorem dX2_months_50 : decode cX2_months 50 = .ok (.iconst 0, 1) := dk_3 (dk_at dksX2_months_2 5 rfl rfl)
theorem dX2_months_51 : decode cX2_months 51 = .ok (.istore 8, 2) := dk_54 8 (dk_at dksX2_months_2 6 rfl rfl)
theorem dX2_months_53 : decode cX2_months 53 = .ok (.iload 8, 2) := dk_21 8 (dk_at dksX2_months_2 8 rfl rfl)
theorem dX2_months_55 : decode cX2_months 55 = .ok (.iload_n 2, 1) := dk_28 (dk_at dksX2_months_2 10 rfl rfl)
theorem dX2_months_56 : decode cX2_months 56 = .ok (.if_icmp .ge 87, 3) := dk_162 0 87 (dk_at dksX2_months_2 11 rfl rfl)
theorem dX2_months_59 : decode cX2_months 59 = .ok (.aload_n 0, 1) := dk_42 (dk_at dksX2_months_2 14 rfl rfl)
theorem dX2_months_60 : decode cX2_months 60 = .ok (.iload_n 1, 1) := dk_27 (dk_at dksX2_months_2 15 rfl rfl)
theorem dX2_months_61 : decode cX2_months 61 = .ok (.invokevirtual 153, 3) := dk_182 0 153 (dk_at dksX2_months_2 16 rfl rfl)
theorem dX2_months_64 : decode cX2_months 64 = .ok (.iload 7, 2) := dk_21 7 (dk_at dksX2_months_2 19 rfl rfl)
theorem dX2_months_66 : decode cX2_months 66 = .ok (.iadd, 1) := dk_96 (dk_at dksX2_months_2 21 rfl rfl)
theorem dX2_months_67 : decode cX2_months 67 = .ok (.istore 9, 2) := dk_54 9 (dk_at dksX2_months_2 22 rfl rfl)
theorem dX2_months_69 : decode cX2_months 69 = .ok (.aload_n 0, 1) := dk_42 (dk_at dksX2_months_3 0 rfl rfl)
theorem dX2_months_70 : decode cX2_months 70 = .ok (.iload_n 1, 1) := dk_27 (dk_at dksX2_months_3 1 rfl rfl)
theorem dX2_months_71 : decode cX2_months 71 = .ok (.aload_n 0, 1) := dk_42 (dk_at dksX2_months_3 2 rfl rfl)
theorem dX2_months_72 : decode cX2_months 72 = .ok (.iload_n 1, 1) := dk_27 (dk_at dksX2_months_3 3 rfl rfl)
theorem dX2_months_73 : decode cX2_months 73 = .ok (.invokevirtual 149, 3) := dk_182 0 149 (dk_at dksX2_months_3 4 rfl rfl)
theorem dX2_months_76 : decode cX2_months 76 = .ok (.iload 9, 2) := dk_21 9 (dk_at dksX2_months_3 7 rfl rfl)
theorem dX2_months_78 : decode cX2_months 78 = .ok (.invokevirtual 241, 3) := dk_182 0 241 (dk_at dksX2_months_3 9 rfl rfl)
theorem dX2_months_81 : decode cX2_months 81 = .ok (.istore 10, 2) := dk_54 10 (dk_at dksX2_months_3 12 rfl rfl)
theorem dX2_months_83 : decode cX2_months 83 = .ok (.iload 5, 2) := dk_21 5 (dk_at dksX2_months_3 14 rfl rfl)
theorem dX2_months_85 : decode cX2_months 85 = .ok (.aload_n 0, 1) := dk_42 (dk_at dksX2_months_3 16 rfl rfl)
theorem dX2_months_86 : decode cX2_months 86 = .ok (.getfield 232, 3) := dk_180 0 232 (dk_at dksX2_months_3 17 rfl rfl)
theorem dX2_months_89 : decode cX2_months 89 = .ok (.iadd, 1) := dk_96 (dk_at dksX2_months_3 20 rfl rfl)
theorem dX2_months_90 : decode cX2_months 90 = .ok (.istore 5, 2) := dk_54 5 (dk_at dksX2_months_3 21 rfl rfl)
theorem dX2_months_92 : decode cX2_months 92 = .ok (.iload 9, 2) := dk_21 9 (dk_at dksX2_months_4 0 rfl rfl)
theorem dX2_months_94 : decode cX2_months 94 = .ok (.aload_n 0, 1) := dk_42 (dk_at dksX2_months_4 2 rfl rfl)
theorem dX2_months_95 : decode cX2_months 95 = .ok (.getfield 238, 3) := dk_180 0 238 (dk_at dksX2_months_4 3 rfl rfl)
theorem dX2_months_98 : decode cX2_months 98 = .ok (.isub, 1) := dk_100 (dk_at dksX2_months_4 6 rfl rfl)
theorem dX2_months_99 : decode cX2_months 99 = .ok (.istore 11, 2) := dk_54 11 (dk_at dksX2_months_4 7 rfl rfl)
theorem dX2_months_101 : decode cX2_months 101 = .ok (.iload 8, 2) := dk_21 8 (dk_at dksX2_months_4 9 rfl rfl)
theorem dX2_months_103 : decode cX2_months 103 = .ok (.iconst 1, 1) := dk_4 (dk_at dksX2_months_4 11 rfl rfl)
theorem dX2_months_104 : decode cX2_months 104 = .ok (.iadd, 1) := dk_96 (dk_at dksX2_months_4 12 rfl rfl)
theorem dX2_months_105 : decode cX2_months 105 = .ok (.iload_n 2, 1) := dk_28 (dk_at dksX2_months_4 13 rfl rfl)
theorem dX2_months_106 : decode cX2_months 106 = .ok (.if_icmp .ne 7, 3) := dk_160 0 7 (dk_at dksX2_months_4 14 rfl rfl)
theorem dX2_months_109 : decode cX2_months 109 = .ok (.iconst 0, 1) := dk_3 (dk_at dksX2_months_4 17 rfl rfl)
theorem dX2_months_110 : decode cX2_months 110 = .ok (.goto 15, 3) := dk_167 0 15 (dk_at dksX2_months_4 18 rfl rfl)
theorem dX2_months_113 : decode cX2_months 113 = .ok (.iload 11, 2) := dk_21 11 (dk_at dksX2_months_4 21 rfl rfl)
theorem dX2_months_115 : decode cX2_months 115 = .ok (.iload_n 3, 1) := dk_29 (dk_at dksX2_months_4 23 rfl rfl)
theorem dX2_months_116 : decode cX2_months 116 = .ok (.if_icmp .ge 8, 3) := dk_162 0 8 (dk_at dksX2_months_5 0 rfl rfl)
theorem dX2_months_119 : decode cX2_months 119 = .ok (.iload 11, 2) := dk_21 11 (dk_at dksX2_months_5 3 rfl rfl)
theorem dX2_months_121 : decode cX2_months 121 = .ok (.goto 4, 3) := dk_167 0 4 (dk_at dksX2_months_5 5 rfl rfl)
theorem dX2_months_124 : decode cX2_months 124 = .ok (.iload_n 3, 1) := dk_29 (dk_at dksX2_months_5 8 rfl rfl)
theorem dX2_months_125 : decode cX2_months 125 = .ok (.istore 7, 2) := dk_54 7 (dk_at dksX2_months_5 9 rfl rfl)
theorem dX2_months_127 : decode cX2_months 127 = .ok (.iload 6, 2) := dk_21 6 (dk_at dksX2_months_5 11 rfl rfl)
theorem dX2_months_129 : decode cX2_months 129 = .ok (.iload 11, 2) := dk_21 11 (dk_at dksX2_months_5 13 rfl rfl)
theorem dX2_months_131 : decode cX2_months 131 = .ok (.iload 7, 2) := dk_21 7 (dk_at dksX2_months_5 15 rfl rfl)
theorem dX2_months_133 : decode cX2_months 133 = .ok (.isub, 1) := dk_100 (dk_at dksX2_months_5 17 rfl rfl)
theorem dX2_months_134 : decode cX2_months 134 = .ok (.iadd, 1) := dk_96 (dk_at dksX2_months_5 18 rfl rfl)
theorem dX2_months_135 : decode cX2_months 135 = .ok (.istore 6, 2) := dk_54 6 (dk_at dksX2_months_5 19 rfl rfl)
theorem dX2_months_137 : decode cX2_months 137 = .ok (.iinc 8 1, 3) := dk_132 8 1 (dk_at dksX2_months_5 21 rfl rfl)
theorem dX2_months_140 : decode cX2_months 140 = .ok (.goto (-87), 3) := dk_167 255 169 (dk_at dksX2_months_6 0 rfl rfl)
theorem dX2_months_143 : decode cX2_months 143 = .ok (.iload 4, 2) := dk_21 4 (dk_at dksX2_months_6 3 rfl rfl)
theorem dX2_months_145 : decode cX2_months 145 = .ok (.ifCond .ne 8, 3) := dk_154 0 8 (dk_at dksX2_months_6 5 rfl rfl)
theorem dX2_months_148 : decode cX2_months 148 = .ok (.iload 5, 2) := dk_21 5 (dk_at dksX2_months_6 8 rfl rfl)
theorem dX2_months_150 : decode cX2_months 150 = .ok (.goto 5, 3) := dk_167 0 5 (dk_at dksX2_months_6 10 rfl rfl)
theorem dX2_months_153 : decode cX2_months 153 = .ok (.iload 6, 2) := dk_21 6 (dk_at dksX2_months_6 13 rfl rfl)
theorem dX2_months_155 : decode cX2_months 155 = .ok (.ireturn, 1) := dk_172 (dk_at dksX2_months_6 15 rfl rfl)
abbrev cX2_foresight : ByteArray := prog_32_method_69_code
def yX2_foresight : MethodName := ⟨RX2, "foresight", "(I)I"⟩
def dkwX2_foresight_12 : List UInt8 := [21, 4, 29, 100, 172]
abbrev dktX2_foresight_12 : List UInt8 := dkwX2_foresight_12 ++ []
def dkwX2_foresight_11 : List UInt8 := [54, 8, 21, 8, 21, 4, 164, 0, 8, 21, 8, 167, 0, 5, 21, 4, 54, 4, 132, 6, 1, 167, 255, 174]
abbrev dktX2_foresight_11 : List UInt8 := dkwX2_foresight_11 ++ dktX2_foresight_12
def dkwX2_foresight_10 : List UInt8 := [21, 7, 42, 180, 0, 74, 190, 162, 0, 8, 21, 7, 167, 0, 10, 42, 180, 0, 74, 190, 4, 100, 46, 96]
abbrev dktX2_foresight_10 : List UInt8 := dkwX2_foresight_10 ++ dktX2_foresight_11
def dkwX2_foresight_9 : List UInt8 := [162, 0, 71, 5, 21, 5, 104, 21, 6, 100, 54, 7, 42, 180, 0, 74, 21, 6, 46, 42, 180, 0, 74]
abbrev dktX2_foresight_9 : List UInt8 := dkwX2_foresight_9 ++ dktX2_foresight_10
def dkwX2_foresight_8 : List UInt8 := [182, 0, 153, 54, 5, 3, 54, 6, 21, 6, 21, 5, 163, 0, 81, 21, 6, 42, 180, 0, 74, 190]
abbrev dktX2_foresight_8 : List UInt8 := dkwX2_foresight_8 ++ dktX2_foresight_9
def dkwX2_foresight_7 : List UInt8 := [167, 0, 10, 42, 180, 0, 74, 21, 4, 46, 79, 132, 4, 1, 167, 255, 198, 3, 54, 4, 42, 27]
abbrev dktX2_foresight_7 : List UInt8 := dkwX2_foresight_7 ++ dktX2_foresight_8
def dkwX2_foresight_6 : List UInt8 := [4, 100, 46, 42, 180, 0, 74, 21, 4, 46, 164, 0, 15, 42, 180, 0, 74, 21, 4, 4, 100, 46]
abbrev dktX2_foresight_6 : List UInt8 := dkwX2_foresight_6 ++ dktX2_foresight_7
def dkwX2_foresight_5 : List UInt8 := [54, 4, 21, 4, 42, 180, 0, 74, 190, 162, 0, 54, 42, 180, 0, 74, 21, 4, 42, 180, 0, 74, 21, 4]
abbrev dktX2_foresight_5 : List UInt8 := dkwX2_foresight_5 ++ dktX2_foresight_6
def dkwX2_foresight_4 : List UInt8 := [164, 0, 16, 42, 180, 0, 74, 42, 180, 0, 219, 42, 180, 0, 213, 79, 132, 4, 1, 167, 255, 197, 4]
abbrev dktX2_foresight_4 : List UInt8 := dkwX2_foresight_4 ++ dktX2_foresight_5
def dkwX2_foresight_3 : List UInt8 := [180, 0, 216, 42, 27, 182, 0, 149, 163, 0, 32, 42, 180, 0, 213, 42, 180, 0, 74, 42, 180, 0, 219, 46]
abbrev dktX2_foresight_3 : List UInt8 := dkwX2_foresight_3 ++ dktX2_foresight_4
def dkwX2_foresight_2 : List UInt8 := [167, 255, 235, 3, 54, 4, 21, 4, 42, 182, 0, 226, 162, 0, 56, 42, 21, 4, 182, 0, 229, 42]
abbrev dktX2_foresight_2 : List UInt8 := dkwX2_foresight_2 ++ dktX2_foresight_3
def dkwX2_foresight_1 : List UInt8 := [54, 4, 21, 4, 42, 180, 0, 74, 190, 162, 0, 17, 42, 180, 0, 74, 21, 4, 3, 79, 132, 4, 1]
abbrev dktX2_foresight_1 : List UInt8 := dkwX2_foresight_1 ++ dktX2_foresight_2
def dkwX2_foresight_0 : List UInt8 := [42, 27, 182, 0, 144, 154, 0, 5, 2, 172, 42, 27, 182, 0, 244, 61, 5, 42, 180, 0, 232, 104, 62, 3]
abbrev dktX2_foresight_0 : List UInt8 := dkwX2_foresight_0 ++ dktX2_foresight_1
theorem dksX2_foresight_0 : cX2_foresight.data.toList.drop 0 = dktX2_foresight_0 := by decide +kernel
theorem dksX2_foresight_1 : cX2_foresight.data.toList.drop 24 = dktX2_foresight_1 := dk_seg dksX2_foresight_0 24 rfl rfl
theorem dksX2_foresight_2 : cX2_foresight.data.toList.drop 47 = dktX2_foresight_2 := dk_seg dksX2_foresight_1 23 rfl rfl
theorem dksX2_foresight_3 : cX2_foresight.data.toList.drop 69 = dktX2_foresight_3 := dk_seg dksX2_foresight_2 22 rfl rfl
theorem dksX2_foresight_4 : cX2_foresight.data.toList.drop 93 = dktX2_foresight_4 := dk_seg dksX2_foresight_3 24 rfl rfl
theorem dksX2_foresight_5 : cX2_foresight.data.toList.drop 116 = dktX2_foresight_5 := dk_seg dksX2_foresight_4 23 rfl rfl
theorem dksX2_foresight_6 : cX2_foresight.data.toList.drop 140 = dktX2_foresight_6 := dk_seg dksX2_foresight_5 24 rfl rfl
theorem dksX2_foresight_7 : cX2_foresight.data.toList.drop 162 = dktX2_foresight_7 := dk_seg dksX2_foresight_6 22 rfl rfl
theorem dksX2_foresight_8 : cX2_foresight.data.toList.drop 184 = dktX2_foresight_8 := dk_seg dksX2_foresight_7 22 rfl rfl
theorem dksX2_foresight_9 : cX2_foresight.data.toList.drop 206 = dktX2_foresight_9 := dk_seg dksX2_foresight_8 22 rfl rfl
theorem dksX2_foresight_10 : cX2_foresight.data.toList.drop 229 = dktX2_foresight_10 := dk_seg dksX2_foresight_9 23 rfl rfl
theorem dksX2_foresight_11 : cX2_foresight.data.toList.drop 253 = dktX2_foresight_11 := dk_seg dksX2_foresight_10 24 rfl rfl
theorem dksX2_foresight_12 : cX2_foresight.data.toList.drop 277 = dktX2_foresight_12 := dk_seg dksX2_foresight_11 24 rfl rfl
theorem dX2_foresight_0 : decode cX2_foresight 0 = .ok (.aload_n 0, 1) := dk_42 (dk_at dksX2_foresight_0 0 rfl rfl)
theorem dX2_foresight_1 : decode cX2_foresight 1 = .ok (.iload_n 1, 1) := dk_27 (dk_at dksX2_foresight_0 1 rfl rfl)
theorem dX2_foresight_2 : decode cX2_foresight 2 = .ok (.invokevirtual 144, 3) := dk_182 0 144 (dk_at dksX2_foresight_0 2 rfl rfl)
theorem dX2_foresight_5 : decode cX2_foresight 5 = .ok (.ifCond .ne 5, 3) := dk_154 0 5 (dk_at dksX2_foresight_0 5 rfl rfl)
theorem dX2_foresight_8 : decode cX2_foresight 8 = .ok (.iconst (-1), 1) := dk_2 (dk_at dksX2_foresight_0 8 rfl rfl)
theorem dX2_foresight_9 : decode cX2_foresight 9 = .ok (.ireturn, 1) := dk_172 (dk_at dksX2_foresight_0 9 rfl rfl)
theorem dX2_foresight_10 : decode cX2_foresight 10 = .ok (.aload_n 0, 1) := dk_42 (dk_at dksX2_foresight_0 10 rfl rfl)
theorem dX2_foresight_11 : decode cX2_foresight 11 = .ok (.iload_n 1, 1) := dk_27 (dk_at dksX2_foresight_0 11 rfl rfl)
theorem dX2_foresight_12 : decode cX2_foresight 12 = .ok (.invokevirtual 244, 3) := dk_182 0 244 (dk_at dksX2_foresight_0 12 rfl rfl)
theorem dX2_foresight_15 : decode cX2_foresight 15 = .ok (.istore_n 2, 1) := dk_61 (dk_at dksX2_foresight_0 15 rfl rfl)
theorem dX2_foresight_16 : decode cX2_foresight 16 = .ok (.iconst 2, 1) := dk_5 (dk_at dksX2_foresight_0 16 rfl rfl)
theorem dX2_foresight_17 : decode cX2_foresight 17 = .ok (.aload_n 0, 1) := dk_42 (dk_at dksX2_foresight_0 17 rfl rfl)
theorem dX2_foresight_18 : decode cX2_foresight 18 = .ok (.getfield 232, 3) := dk_180 0 232 (dk_at dksX2_foresight_0 18 rfl rfl)
theorem dX2_foresight_21 : decode cX2_foresight 21 = .ok (.imul, 1) := dk_104 (dk_at dksX2_foresight_0 21 rfl rfl)
theorem dX2_foresight_22 : decode cX2_foresight 22 = .ok (.istore_n 3, 1) := dk_62 (dk_at dksX2_foresight_0 22 rfl rfl)
theorem dX2_foresight_23 : decode cX2_foresight 23 = .ok (.iconst 0, 1) := dk_3 (dk_at dksX2_foresight_0 23 rfl rfl)
theorem dX2_foresight_24 : decode cX2_foresight 24 = .ok (.istore 4, 2) := dk_54 4 (dk_at dksX2_foresight_1 0 rfl rfl)
theorem dX2_foresight_26 : decode cX2_foresight 26 = .ok (.iload 4, 2) := dk_21 4 (dk_at dksX2_foresight_1 2 rfl rfl)
theorem dX2_foresight_28 : decode cX2_foresight 28 = .ok (.aload_n 0, 1) := dk_42 (dk_at dksX2_foresight_1 4 rfl rfl)
theorem dX2_foresight_29 : decode cX2_foresight 29 = .ok (.getfield 74, 3) := dk_180 0 74 (dk_at dksX2_foresight_1 5 rfl rfl)
theorem dX2_foresight_32 : decode cX2_foresight 32 = .ok (.arraylength, 1) := dk_190 (dk_at dksX2_foresight_1 8 rfl rfl)
theorem dX2_foresight_33 : decode cX2_foresight 33 = .ok (.if_icmp .ge 17, 3) := dk_162 0 17 (dk_at dksX2_foresight_1 9 rfl rfl)
theorem dX2_foresight_36 : decode cX2_foresight 36 = .ok (.aload_n 0, 1) := dk_42 (dk_at dksX2_foresight_1 12 rfl rfl)
theorem dX2_foresight_37 : decode cX2_foresight 37 = .ok (.getfield 74, 3) := dk_180 0 74 (dk_at dksX2_foresight_1 13 rfl rfl)
theorem dX2_foresight_40 : decode cX2_foresight 40 = .ok (.iload 4, 2) := dk_21 4 (dk_at dksX2_foresight_1 16 rfl rfl)
theorem dX2_foresight_42 : decode cX2_foresight 42 = .ok (.iconst 0, 1) := dk_3 (dk_at dksX2_foresight_1 18 rfl rfl)
theorem dX2_foresight_43 : decode cX2_foresight 43 = .ok (.iastore, 1) := dk_79 (dk_at dksX2_foresight_1 19 rfl rfl)
theorem dX2_foresight_44 : decode cX2_foresight 44 = .ok (.iinc 4 1, 3) := dk_132 4 1 (dk_at dksX2_foresight_1 20 rfl rfl)
theorem dX2_foresight_47 : decode cX2_foresight 47 = .ok (.goto (-21), 3) := dk_167 255 235 (dk_at dksX2_foresight_2 0 rfl rfl)
theorem dX2_foresight_50 : decode cX2_foresight 50 = .ok (.iconst 0, 1) := dk_3 (dk_at dksX2_foresight_2 3 rfl rfl)
theorem dX2_foresight_51 : decode cX2_foresight 51 = .ok (.istore 4, 2) := dk_54 4 (dk_at dksX2_foresight_2 4 rfl rfl)
theorem dX2_foresight_53 : decode cX2_foresight 53 = .ok (.iload 4, 2) := dk_21 4 (dk_at dksX2_foresight_2 6 rfl rfl)
theorem dX2_foresight_55 : decode cX2_foresight 55 = .ok (.aload_n 0, 1) := dk_42 (dk_at dksX2_foresight_2 8 rfl rfl)
theorem dX2_foresight_56 : decode cX2_foresight 56 = .ok (.invokevirtual 226, 3) := dk_182 0 226 (dk_at dksX2_foresight_2 9 rfl rfl)
theorem dX2_foresight_59 : decode cX2_foresight 59 = .ok (.if_icmp .ge 56, 3) := dk_162 0 56 (dk_at dksX2_foresight_2 12 rfl rfl)
theorem dX2_foresight_62 : decode cX2_foresight 62 = .ok (.aload_n 0, 1) := dk_42 (dk_at dksX2_foresight_2 15 rfl rfl)
theorem dX2_foresight_63 : decode cX2_foresight 63 = .ok (.iload 4, 2) := dk_21 4 (dk_at dksX2_foresight_2 16 rfl rfl)
theorem dX2_foresight_65 : decode cX2_foresight 65 = .ok (.invokevirtual 229, 3) := dk_182 0 229 (dk_at dksX2_foresight_2 18 rfl rfl)
theorem dX2_foresight_68 : decode cX2_foresight 68 = .ok (.aload_n 0, 1) := dk_42 (dk_at dksX2_foresight_2 21 rfl rfl)
theorem dX2_foresight_69 : decode cX2_foresight 69 = .ok (.getfield 216, 3) := dk_180 0 216 (dk_at dksX2_foresight_3 0 rfl rfl)
theorem dX2_foresight_72 : decode cX2_foresight 72 = .ok (.aload_n 0, 1) := dk_42 (dk_at dksX2_foresight_3 3 rfl rfl)
theorem dX2_foresight_73 : decode cX2_foresight 73 = .ok (.iload_n 1, 1) := dk_27 (dk_at dksX2_foresight_3 4 rfl rfl)
theorem dX2_foresight_74 : decode cX2_foresight 74 = .ok (.invokevirtual 149, 3) := dk_182 0 149 (dk_at dksX2_foresight_3 5 rfl rfl)
theorem dX2_foresight_77 : decode cX2_foresight 77 = .ok (.if_icmp .gt 32, 3) := dk_163 0 32 (dk_at dksX2_foresight_3 8 rfl rfl)
theorem dX2_foresight_80 : decode cX2_foresight 80 = .ok (.aload_n 0, 1) := dk_42 (dk_at dksX2_foresight_3 11 rfl rfl)
theorem dX2_foresight_81 : decode cX2_foresight 81 = .ok (.getfield 213, 3) := dk_180 0 213 (dk_at dksX2_foresight_3 12 rfl rfl)
theorem dX2_foresight_84 : decode cX2_foresight 84 = .ok (.aload_n 0, 1) := dk_42 (dk_at dksX2_foresight_3 15 rfl rfl)
theorem dX2_foresight_85 : decode cX2_foresight 85 = .ok (.getfield 74, 3) := dk_180 0 74 (dk_at dksX2_foresight_3 16 rfl rfl)
theorem dX2_foresight_88 : decode cX2_foresight 88 = .ok (.aload_n 0, 1) := dk_42 (dk_at dksX2_foresight_3 19 rfl rfl)
theorem dX2_foresight_89 : decode cX2_foresight 89 = .ok (.getfield 219, 3) := dk_180 0 219 (dk_at dksX2_foresight_3 20 rfl rfl)
theorem dX2_foresight_92 : decode cX2_foresight 92 = .ok (.iaload, 1) := dk_46 (dk_at dksX2_foresight_3 23 rfl rfl)
theorem dX2_foresight_93 : decode cX2_foresight 93 = .ok (.if_icmp .le 16, 3) := dk_164 0 16 (dk_at dksX2_foresight_4 0 rfl rfl)
theorem dX2_foresight_96 : decode cX2_foresight 96 = .ok (.aload_n 0, 1) := dk_42 (dk_at dksX2_foresight_4 3 rfl rfl)
theorem dX2_foresight_97 : decode cX2_foresight 97 = .ok (.getfield 74, 3) := dk_180 0 74 (dk_at dksX2_foresight_4 4 rfl rfl)
theorem dX2_foresight_100 : decode cX2_foresight 100 = .ok (.aload_n 0, 1) := dk_42 (dk_at dksX2_foresight_4 7 rfl rfl)
theorem dX2_foresight_101 : decode cX2_foresight 101 = .ok (.getfield 219, 3) := dk_180 0 219 (dk_at dksX2_foresight_4 8 rfl rfl)
theorem dX2_foresight_104 : decode cX2_foresight 104 = .ok (.aload_n 0, 1) := dk_42 (dk_at dksX2_foresight_4 11 rfl rfl)
theorem dX2_foresight_105 : decode cX2_foresight 105 = .ok (.getfield 213, 3) := dk_180 0 213 (dk_at dksX2_foresight_4 12 rfl rfl)
theorem dX2_foresight_108 : decode cX2_foresight 108 = .ok (.iastore, 1) := dk_79 (dk_at dksX2_foresight_4 15 rfl rfl)
theorem dX2_foresight_109 : decode cX2_foresight 109 = .ok (.iinc 4 1, 3) := dk_132 4 1 (dk_at dksX2_foresight_4 16 rfl rfl)
theorem dX2_foresight_112 : decode cX2_foresight 112 = .ok (.goto (-59), 3) := dk_167 255 197 (dk_at dksX2_foresight_4 19 rfl rfl)
theorem dX2_foresight_115 : decode cX2_foresight 115 = .ok (.iconst 1, 1) := dk_4 (dk_at dksX2_foresight_4 22 rfl rfl)
theorem dX2_foresight_116 : decode cX2_foresight 116 = .ok (.istore 4, 2) := dk_54 4 (dk_at dksX2_foresight_5 0 rfl rfl)
theorem dX2_foresight_118 : decode cX2_foresight 118 = .ok (.iload 4, 2) := dk_21 4 (dk_at dksX2_foresight_5 2 rfl rfl)
theorem dX2_foresight_120 : decode cX2_foresight 120 = .ok (.aload_n 0, 1) := dk_42 (dk_at dksX2_foresight_5 4 rfl rfl)
theorem dX2_foresight_121 : decode cX2_foresight 121 = .ok (.getfield 74, 3) := dk_180 0 74 (dk_at dksX2_foresight_5 5 rfl rfl)
theorem dX2_foresight_124 : decode cX2_foresight 124 = .ok (.arraylength, 1) := dk_190 (dk_at dksX2_foresight_5 8 rfl rfl)
theorem dX2_foresight_125 : decode cX2_foresight 125 = .ok (.if_icmp .ge 54, 3) := dk_162 0 54 (dk_at dksX2_foresight_5 9 rfl rfl)
theorem dX2_foresight_128 : decode cX2_foresight 128 = .ok (.aload_n 0, 1) := dk_42 (dk_at dksX2_foresight_5 12 rfl rfl)
theorem dX2_foresight_129 : decode cX2_foresight 129 = .ok (.getfield 74, 3) := dk_180 0 74 (dk_at dksX2_foresight_5 13 rfl rfl)
theorem dX2_foresight_132 : decode cX2_foresight 132 = .ok (.iload 4, 2) := dk_21 4 (dk_at dksX2_foresight_5 16 rfl rfl)
theorem dX2_foresight_134 : decode cX2_foresight 134 = .ok (.aload_n 0, 1) := dk_42 (dk_at dksX2_foresight_5 18 rfl rfl)
theorem dX2_foresight_135 : decode cX2_foresight 135 = .ok (.getfield 74, 3) := dk_180 0 74 (dk_at dksX2_foresight_5 19 rfl rfl)
theorem dX2_foresight_138 : decode cX2_foresight 138 = .ok (.iload 4, 2) := dk_21 4 (dk_at dksX2_foresight_5 22 rfl rfl)
theorem dX2_foresight_140 : decode cX2_foresight 140 = .ok (.iconst 1, 1) := dk_4 (dk_at dksX2_foresight_6 0 rfl rfl)
theorem dX2_foresight_141 : decode cX2_foresight 141 = .ok (.isub, 1) := dk_100 (dk_at dksX2_foresight_6 1 rfl rfl)
theorem dX2_foresight_142 : decode cX2_foresight 142 = .ok (.iaload, 1) := dk_46 (dk_at dksX2_foresight_6 2 rfl rfl)
theorem dX2_foresight_143 : decode cX2_foresight 143 = .ok (.aload_n 0, 1) := dk_42 (dk_at dksX2_foresight_6 3 rfl rfl)
theorem dX2_foresight_144 : decode cX2_foresight 144 = .ok (.getfield 74, 3) := dk_180 0 74 (dk_at dksX2_foresight_6 4 rfl rfl)
theorem dX2_foresight_147 : decode cX2_foresight 147 = .ok (.iload 4, 2) := dk_21 4 (dk_at dksX2_foresight_6 7 rfl rfl)
theorem dX2_foresight_149 : decode cX2_foresight 149 = .ok (.iaload, 1) := dk_46 (dk_at dksX2_foresight_6 9 rfl rfl)
theorem dX2_foresight_150 : decode cX2_foresight 150 = .ok (.if_icmp .le 15, 3) := dk_164 0 15 (dk_at dksX2_foresight_6 10 rfl rfl)
theorem dX2_foresight_153 : decode cX2_foresight 153 = .ok (.aload_n 0, 1) := dk_42 (dk_at dksX2_foresight_6 13 rfl rfl)
theorem dX2_foresight_154 : decode cX2_foresight 154 = .ok (.getfield 74, 3) := dk_180 0 74 (dk_at dksX2_foresight_6 14 rfl rfl)
theorem dX2_foresight_157 : decode cX2_foresight 157 = .ok (.iload 4, 2) := dk_21 4 (dk_at dksX2_foresight_6 17 rfl rfl)
theorem dX2_foresight_159 : decode cX2_foresight 159 = .ok (.iconst 1, 1) := dk_4 (dk_at dksX2_foresight_6 19 rfl rfl)
theorem dX2_foresight_160 : decode cX2_foresight 160 = .ok (.isub, 1) := dk_100 (dk_at dksX2_foresight_6 20 rfl rfl)
theorem dX2_foresight_161 : decode cX2_foresight 161 = .ok (.iaload, 1) := dk_46 (dk_at dksX2_foresight_6 21 rfl rfl)
theorem dX2_foresight_162 : decode cX2_foresight 162 = .ok (.goto 10, 3) := dk_167 0 10 (dk_at dksX2_foresight_7 0 rfl rfl)
theorem dX2_foresight_165 : decode cX2_foresight 165 = .ok (.aload_n 0, 1) := dk_42 (dk_at dksX2_foresight_7 3 rfl rfl)
theorem dX2_foresight_166 : decode cX2_foresight 166 = .ok (.getfield 74, 3) := dk_180 0 74 (dk_at dksX2_foresight_7 4 rfl rfl)
theorem dX2_foresight_169 : decode cX2_foresight 169 = .ok (.iload 4, 2) := dk_21 4 (dk_at dksX2_foresight_7 7 rfl rfl)
theorem dX2_foresight_171 : decode cX2_foresight 171 = .ok (.iaload, 1) := dk_46 (dk_at dksX2_foresight_7 9 rfl rfl)
theorem dX2_foresight_172 : decode cX2_foresight 172 = .ok (.iastore, 1) := dk_79 (dk_at dksX2_foresight_7 10 rfl rfl)
theorem dX2_foresight_173 : decode cX2_foresight 173 = .ok (.iinc 4 1, 3) := dk_132 4 1 (dk_at dksX2_foresight_7 11 rfl rfl)
theorem dX2_foresight_176 : decode cX2_foresight 176 = .ok (.goto (-58), 3) := dk_167 255 198 (dk_at dksX2_foresight_7 14 rfl rfl)
theorem dX2_foresight_179 : decode cX2_foresight 179 = .ok (.iconst 0, 1) := dk_3 (dk_at dksX2_foresight_7 17 rfl rfl)
theorem dX2_foresight_180 : decode cX2_foresight 180 = .ok (.istore 4, 2) := dk_54 4 (dk_at dksX2_foresight_7 18 rfl rfl)
theorem dX2_foresight_182 : decode cX2_foresight 182 = .ok (.aload_n 0, 1) := dk_42 (dk_at dksX2_foresight_7 20 rfl rfl)
theorem dX2_foresight_183 : decode cX2_foresight 183 = .ok (.iload_n 1, 1) := dk_27 (dk_at dksX2_foresight_7 21 rfl rfl)
theorem dX2_foresight_184 : decode cX2_foresight 184 = .ok (.invokevirtual 153, 3) := dk_182 0 153 (dk_at dksX2_foresight_8 0 rfl rfl)
theorem dX2_foresight_187 : decode cX2_foresight 187 = .ok (.istore 5, 2) := dk_54 5 (dk_at dksX2_foresight_8 3 rfl rfl)
theorem dX2_foresight_189 : decode cX2_foresight 189 = .ok (.iconst 0, 1) := dk_3 (dk_at dksX2_foresight_8 5 rfl rfl)
theorem dX2_foresight_190 : decode cX2_foresight 190 = .ok (.istore 6, 2) := dk_54 6 (dk_at dksX2_foresight_8 6 rfl rfl)
theorem dX2_foresight_192 : decode cX2_foresight 192 = .ok (.iload 6, 2) := dk_21 6 (dk_at dksX2_foresight_8 8 rfl rfl)
theorem dX2_foresight_194 : decode cX2_foresight 194 = .ok (.iload 5, 2) := dk_21 5 (dk_at dksX2_foresight_8 10 rfl rfl)
theorem dX2_foresight_196 : decode cX2_foresight 196 = .ok (.if_icmp .gt 81, 3) := dk_163 0 81 (dk_at dksX2_foresight_8 12 rfl rfl)
theorem dX2_foresight_199 : decode cX2_foresight 199 = .ok (.iload 6, 2) := dk_21 6 (dk_at dksX2_foresight_8 15 rfl rfl)
theorem dX2_foresight_201 : decode cX2_foresight 201 = .ok (.aload_n 0, 1) := dk_42 (dk_at dksX2_foresight_8 17 rfl rfl)
theorem dX2_foresight_202 : decode cX2_foresight 202 = .ok (.getfield 74, 3) := dk_180 0 74 (dk_at dksX2_foresight_8 18 rfl rfl)
theorem dX2_foresight_205 : decode cX2_foresight 205 = .ok (.arraylength, 1) := dk_190 (dk_at dksX2_foresight_8 21 rfl rfl)
theorem dX2_foresight_206 : decode cX2_foresight 206 = .ok (.if_icmp .ge 71, 3) := dk_162 0 71 (dk_at dksX2_foresight_9 0 rfl rfl)
theorem dX2_foresight_209 : decode cX2_foresight 209 = .ok (.iconst 2, 1) := dk_5 (dk_at dksX2_foresight_9 3 rfl rfl)
theorem dX2_foresight_210 : decode cX2_foresight 210 = .ok (.iload 5, 2) := dk_21 5 (dk_at dksX2_foresight_9 4 rfl rfl)
theorem dX2_foresight_212 : decode cX2_foresight 212 = .ok (.imul, 1) := dk_104 (dk_at dksX2_foresight_9 6 rfl rfl)
theorem dX2_foresight_213 : decode cX2_foresight 213 = .ok (.iload 6, 2) := dk_21 6 (dk_at dksX2_foresight_9 7 rfl rfl)
theorem dX2_foresight_215 : decode cX2_foresight 215 = .ok (.isub, 1) := dk_100 (dk_at dksX2_foresight_9 9 rfl rfl)
theorem dX2_foresight_216 : decode cX2_foresight 216 = .ok (.istore 7, 2) := dk_54 7 (dk_at dksX2_foresight_9 10 rfl rfl)
theorem dX2_foresight_218 : decode cX2_foresight 218 = .ok (.aload_n 0, 1) := dk_42 (dk_at dksX2_foresight_9 12 rfl rfl)
theorem dX2_foresight_219 : decode cX2_foresight 219 = .ok (.getfield 74, 3) := dk_180 0 74 (dk_at dksX2_foresight_9 13 rfl rfl)
theorem dX2_foresight_222 : decode cX2_foresight 222 = .ok (.iload 6, 2) := dk_21 6 (dk_at dksX2_foresight_9 16 rfl rfl)
theorem dX2_foresight_224 : decode cX2_foresight 224 = .ok (.iaload, 1) := dk_46 (dk_at dksX2_foresight_9 18 rfl rfl)
theorem dX2_foresight_225 : decode cX2_foresight 225 = .ok (.aload_n 0, 1) := dk_42 (dk_at dksX2_foresight_9 19 rfl rfl)
theorem dX2_foresight_226 : decode cX2_foresight 226 = .ok (.getfield 74, 3) := dk_180 0 74 (dk_at dksX2_foresight_9 20 rfl rfl)
theorem dX2_foresight_229 : decode cX2_foresight 229 = .ok (.iload 7, 2) := dk_21 7 (dk_at dksX2_foresight_10 0 rfl rfl)
theorem dX2_foresight_231 : decode cX2_foresight 231 = .ok (.aload_n 0, 1) := dk_42 (dk_at dksX2_foresight_10 2 rfl rfl)
theorem dX2_foresight_232 : decode cX2_foresight 232 = .ok (.getfield 74, 3) := dk_180 0 74 (dk_at dksX2_foresight_10 3 rfl rfl)
theorem dX2_foresight_235 : decode cX2_foresight 235 = .ok (.arraylength, 1) := dk_190 (dk_at dksX2_foresight_10 6 rfl rfl)
theorem dX2_foresight_236 : decode cX2_foresight 236 = .ok (.if_icmp .ge 8, 3) := dk_162 0 8 (dk_at dksX2_foresight_10 7 rfl rfl)
theorem dX2_foresight_239 : decode cX2_foresight 239 = .ok (.iload 7, 2) := dk_21 7 (dk_at dksX2_foresight_10 10 rfl rfl)
theorem dX2_foresight_241 : decode cX2_foresight 241 = .ok (.goto 10, 3) := dk_167 0 10 (dk_at dksX2_foresight_10 12 rfl rfl)
theorem dX2_foresight_244 : decode cX2_foresight 244 = .ok (.aload_n 0, 1) := dk_42 (dk_at dksX2_foresight_10 15 rfl rfl)
theorem dX2_foresight_245 : decode cX2_foresight 245 = .ok (.getfield 74, 3) := dk_180 0 74 (dk_at dksX2_foresight_10 16 rfl rfl)
theorem dX2_foresight_248 : decode cX2_foresight 248 = .ok (.arraylength, 1) := dk_190 (dk_at dksX2_foresight_10 19 rfl rfl)
theorem dX2_foresight_249 : decode cX2_foresight 249 = .ok (.iconst 1, 1) := dk_4 (dk_at dksX2_foresight_10 20 rfl rfl)
theorem dX2_foresight_250 : decode cX2_foresight 250 = .ok (.isub, 1) := dk_100 (dk_at dksX2_foresight_10 21 rfl rfl)
theorem dX2_foresight_251 : decode cX2_foresight 251 = .ok (.iaload, 1) := dk_46 (dk_at dksX2_foresight_10 22 rfl rfl)
theorem dX2_foresight_252 : decode cX2_foresight 252 = .ok (.iadd, 1) := dk_96 (dk_at dksX2_foresight_10 23 rfl rfl)
theorem dX2_foresight_253 : decode cX2_foresight 253 = .ok (.istore 8, 2) := dk_54 8 (dk_at dksX2_foresight_11 0 rfl rfl)
theorem dX2_foresight_255 : decode cX2_foresight 255 = .ok (.iload 8, 2) := dk_21 8 (dk_at dksX2_foresight_11 2 rfl rfl)
theorem dX2_foresight_257 : decode cX2_foresight 257 = .ok (.iload 4, 2) := dk_21 4 (dk_at dksX2_foresight_11 4 rfl rfl)
theorem dX2_foresight_259 : decode cX2_foresight 259 = .ok (.if_icmp .le 8, 3) := dk_164 0 8 (dk_at dksX2_foresight_11 6 rfl rfl)
theorem dX2_foresight_262 : decode cX2_foresight 262 = .ok (.iload 8, 2) := dk_21 8 (dk_at dksX2_foresight_11 9 rfl rfl)
theorem dX2_foresight_264 : decode cX2_foresight 264 = .ok (.goto 5, 3) := dk_167 0 5 (dk_at dksX2_foresight_11 11 rfl rfl)
theorem dX2_foresight_267 : decode cX2_foresight 267 = .ok (.iload 4, 2) := dk_21 4 (dk_at dksX2_foresight_11 14 rfl rfl)
theorem dX2_foresight_269 : decode cX2_foresight 269 = .ok (.istore 4, 2) := dk_54 4 (dk_at dksX2_foresight_11 16 rfl rfl)
theorem dX2_foresight_271 : decode cX2_foresight 271 = .ok (.iinc 6 1, 3) := dk_132 6 1 (dk_at dksX2_foresight_11 18 rfl rfl)
theorem dX2_foresight_274 : decode cX2_foresight 274 = .ok (.goto (-82), 3) := dk_167 255 174 (dk_at dksX2_foresight_11 21 rfl rfl)
theorem dX2_foresight_277 : decode cX2_foresight 277 = .ok (.iload 4, 2) := dk_21 4 (dk_at dksX2_foresight_12 0 rfl rfl)
theorem dX2_foresight_279 : decode cX2_foresight 279 = .ok (.iload_n 3, 1) := dk_29 (dk_at dksX2_foresight_12 2 rfl rfl)
theorem dX2_foresight_280 : decode cX2_foresight 280 = .ok (.isub, 1) := dk_100 (dk_at dksX2_foresight_12 3 rfl rfl)
theorem dX2_foresight_281 : decode cX2_foresight 281 = .ok (.ireturn, 1) := dk_172 (dk_at dksX2_foresight_12 4 rfl rfl)
abbrev cX2_cheap : ByteArray := prog_32_method_70_code
def yX2_cheap : MethodName := ⟨RX2, "cheap", "(I)I"⟩
def dkwX2_cheap_3 : List UInt8 := [132, 3, 1, 167, 255, 198, 28, 172]
abbrev dktX2_cheap_3 : List UInt8 := dkwX2_cheap_3 ++ []
def dkwX2_cheap_2 : List UInt8 := [180, 0, 9, 16, 12, 29, 96, 46, 42, 180, 0, 9, 16, 12, 28, 96, 46, 162, 0, 5, 29, 61]
abbrev dktX2_cheap_2 : List UInt8 := dkwX2_cheap_2 ++ dktX2_cheap_3
def dkwX2_cheap_1 : List UInt8 := [180, 0, 22, 29, 46, 42, 180, 0, 9, 16, 6, 29, 96, 46, 27, 100, 163, 0, 30, 28, 155, 0, 24, 42]
abbrev dktX2_cheap_1 : List UInt8 := dkwX2_cheap_1 ++ dktX2_cheap_2
def dkwX2_cheap_0 : List UInt8 := [27, 133, 184, 0, 118, 154, 0, 5, 2, 172, 16, 254, 61, 3, 62, 29, 42, 180, 0, 102, 162, 0, 56, 42]
abbrev dktX2_cheap_0 : List UInt8 := dkwX2_cheap_0 ++ dktX2_cheap_1
theorem dksX2_cheap_0 : cX2_cheap.data.toList.drop 0 = dktX2_cheap_0 := by decide +kernel
theorem dksX2_cheap_1 : cX2_cheap.data.toList.drop 24 = dktX2_cheap_1 := dk_seg dksX2_cheap_0 24 rfl rfl
theorem dksX2_cheap_2 : cX2_cheap.data.toList.drop 48 = dktX2_cheap_2 := dk_seg dksX2_cheap_1 24 rfl rfl
theorem dksX2_cheap_3 : cX2_cheap.data.toList.drop 70 = dktX2_cheap_3 := dk_seg dksX2_cheap_2 22 rfl rfl
theorem dX2_cheap_0 : decode cX2_cheap 0 = .ok (.iload_n 1, 1) := dk_27 (dk_at dksX2_cheap_0 0 rfl rfl)
theorem dX2_cheap_1 : decode cX2_cheap 1 = .ok (.i2l, 1) := dk_133 (dk_at dksX2_cheap_0 1 rfl rfl)
theorem dX2_cheap_2 : decode cX2_cheap 2 = .ok (.invokestatic 118, 3) := dk_184 0 118 (dk_at dksX2_cheap_0 2 rfl rfl)
theorem dX2_cheap_5 : decode cX2_cheap 5 = .ok (.ifCond .ne 5, 3) := dk_154 0 5 (dk_at dksX2_cheap_0 5 rfl rfl)
theorem dX2_cheap_8 : decode cX2_cheap 8 = .ok (.iconst (-1), 1) := dk_2 (dk_at dksX2_cheap_0 8 rfl rfl)
theorem dX2_cheap_9 : decode cX2_cheap 9 = .ok (.ireturn, 1) := dk_172 (dk_at dksX2_cheap_0 9 rfl rfl)
theorem dX2_cheap_10 : decode cX2_cheap 10 = .ok (.bipush (-2), 2) := dk_16 254 (dk_at dksX2_cheap_0 10 rfl rfl)
theorem dX2_cheap_12 : decode cX2_cheap 12 = .ok (.istore_n 2, 1) := dk_61 (dk_at dksX2_cheap_0 12 rfl rfl)
theorem dX2_cheap_13 : decode cX2_cheap 13 = .ok (.iconst 0, 1) := dk_3 (dk_at dksX2_cheap_0 13 rfl rfl)
theorem dX2_cheap_14 : decode cX2_cheap 14 = .ok (.istore_n 3, 1) := dk_62 (dk_at dksX2_cheap_0 14 rfl rfl)
theorem dX2_cheap_15 : decode cX2_cheap 15 = .ok (.iload_n 3, 1) := dk_29 (dk_at dksX2_cheap_0 15 rfl rfl)
theorem dX2_cheap_16 : decode cX2_cheap 16 = .ok (.aload_n 0, 1) := dk_42 (dk_at dksX2_cheap_0 16 rfl rfl)
theorem dX2_cheap_17 : decode cX2_cheap 17 = .ok (.getfield 102, 3) := dk_180 0 102 (dk_at dksX2_cheap_0 17 rfl rfl)
theorem dX2_cheap_20 : decode cX2_cheap 20 = .ok (.if_icmp .ge 56, 3) := dk_162 0 56 (dk_at dksX2_cheap_0 20 rfl rfl)
theorem dX2_cheap_23 : decode cX2_cheap 23 = .ok (.aload_n 0, 1) := dk_42 (dk_at dksX2_cheap_0 23 rfl rfl)
theorem dX2_cheap_24 : decode cX2_cheap 24 = .ok (.getfield 22, 3) := dk_180 0 22 (dk_at dksX2_cheap_1 0 rfl rfl)
theorem dX2_cheap_27 : decode cX2_cheap 27 = .ok (.iload_n 3, 1) := dk_29 (dk_at dksX2_cheap_1 3 rfl rfl)
theorem dX2_cheap_28 : decode cX2_cheap 28 = .ok (.iaload, 1) := dk_46 (dk_at dksX2_cheap_1 4 rfl rfl)
theorem dX2_cheap_29 : decode cX2_cheap 29 = .ok (.aload_n 0, 1) := dk_42 (dk_at dksX2_cheap_1 5 rfl rfl)
theorem dX2_cheap_30 : decode cX2_cheap 30 = .ok (.getfield 9, 3) := dk_180 0 9 (dk_at dksX2_cheap_1 6 rfl rfl)
theorem dX2_cheap_33 : decode cX2_cheap 33 = .ok (.bipush 6, 2) := dk_16 6 (dk_at dksX2_cheap_1 9 rfl rfl)
theorem dX2_cheap_35 : decode cX2_cheap 35 = .ok (.iload_n 3, 1) := dk_29 (dk_at dksX2_cheap_1 11 rfl rfl)
theorem dX2_cheap_36 : decode cX2_cheap 36 = .ok (.iadd, 1) := dk_96 (dk_at dksX2_cheap_1 12 rfl rfl)
theorem dX2_cheap_37 : decode cX2_cheap 37 = .ok (.iaload, 1) := dk_46 (dk_at dksX2_cheap_1 13 rfl rfl)
theorem dX2_cheap_38 : decode cX2_cheap 38 = .ok (.iload_n 1, 1) := dk_27 (dk_at dksX2_cheap_1 14 rfl rfl)
theorem dX2_cheap_39 : decode cX2_cheap 39 = .ok (.isub, 1) := dk_100 (dk_at dksX2_cheap_1 15 rfl rfl)
theorem dX2_cheap_40 : decode cX2_cheap 40 = .ok (.if_icmp .gt 30, 3) := dk_163 0 30 (dk_at dksX2_cheap_1 16 rfl rfl)
theorem dX2_cheap_43 : decode cX2_cheap 43 = .ok (.iload_n 2, 1) := dk_28 (dk_at dksX2_cheap_1 19 rfl rfl)
theorem dX2_cheap_44 : decode cX2_cheap 44 = .ok (.ifCond .lt 24, 3) := dk_155 0 24 (dk_at dksX2_cheap_1 20 rfl rfl)
theorem dX2_cheap_47 : decode cX2_cheap 47 = .ok (.aload_n 0, 1) := dk_42 (dk_at dksX2_cheap_1 23 rfl rfl)
theorem dX2_cheap_48 : decode cX2_cheap 48 = .ok (.getfield 9, 3) := dk_180 0 9 (dk_at dksX2_cheap_2 0 rfl rfl)
theorem dX2_cheap_51 : decode cX2_cheap 51 = .ok (.bipush 12, 2) := dk_16 12 (dk_at dksX2_cheap_2 3 rfl rfl)
theorem dX2_cheap_53 : decode cX2_cheap 53 = .ok (.iload_n 3, 1) := dk_29 (dk_at dksX2_cheap_2 5 rfl rfl)
theorem dX2_cheap_54 : decode cX2_cheap 54 = .ok (.iadd, 1) := dk_96 (dk_at dksX2_cheap_2 6 rfl rfl)
theorem dX2_cheap_55 : decode cX2_cheap 55 = .ok (.iaload, 1) := dk_46 (dk_at dksX2_cheap_2 7 rfl rfl)
theorem dX2_cheap_56 : decode cX2_cheap 56 = .ok (.aload_n 0, 1) := dk_42 (dk_at dksX2_cheap_2 8 rfl rfl)
theorem dX2_cheap_57 : decode cX2_cheap 57 = .ok (.getfield 9, 3) := dk_180 0 9 (dk_at dksX2_cheap_2 9 rfl rfl)
theorem dX2_cheap_60 : decode cX2_cheap 60 = .ok (.bipush 12, 2) := dk_16 12 (dk_at dksX2_cheap_2 12 rfl rfl)
theorem dX2_cheap_62 : decode cX2_cheap 62 = .ok (.iload_n 2, 1) := dk_28 (dk_at dksX2_cheap_2 14 rfl rfl)
theorem dX2_cheap_63 : decode cX2_cheap 63 = .ok (.iadd, 1) := dk_96 (dk_at dksX2_cheap_2 15 rfl rfl)
theorem dX2_cheap_64 : decode cX2_cheap 64 = .ok (.iaload, 1) := dk_46 (dk_at dksX2_cheap_2 16 rfl rfl)
theorem dX2_cheap_65 : decode cX2_cheap 65 = .ok (.if_icmp .ge 5, 3) := dk_162 0 5 (dk_at dksX2_cheap_2 17 rfl rfl)
theorem dX2_cheap_68 : decode cX2_cheap 68 = .ok (.iload_n 3, 1) := dk_29 (dk_at dksX2_cheap_2 20 rfl rfl)
theorem dX2_cheap_69 : decode cX2_cheap 69 = .ok (.istore_n 2, 1) := dk_61 (dk_at dksX2_cheap_2 21 rfl rfl)
theorem dX2_cheap_70 : decode cX2_cheap 70 = .ok (.iinc 3 1, 3) := dk_132 3 1 (dk_at dksX2_cheap_3 0 rfl rfl)
theorem dX2_cheap_73 : decode cX2_cheap 73 = .ok (.goto (-58), 3) := dk_167 255 198 (dk_at dksX2_cheap_3 3 rfl rfl)
theorem dX2_cheap_76 : decode cX2_cheap 76 = .ok (.iload_n 2, 1) := dk_28 (dk_at dksX2_cheap_3 6 rfl rfl)
theorem dX2_cheap_77 : decode cX2_cheap 77 = .ok (.ireturn, 1) := dk_172 (dk_at dksX2_cheap_3 7 rfl rfl)
abbrev cX2_wrong : ByteArray := prog_32_method_71_code
def yX2_wrong : MethodName := ⟨RX2, "wrong", "(I)I"⟩
def dkwX2_wrong_6 : List UInt8 := [158, 0, 7, 2, 167, 0, 4, 3, 172]
abbrev dktX2_wrong_6 : List UInt8 := dkwX2_wrong_6 ++ []
def dkwX2_wrong_5 : List UInt8 := [160, 0, 7, 29, 167, 0, 28, 42, 28, 182, 0, 250, 156, 0, 7, 4, 167, 0, 16, 42, 28, 182, 0, 250]
abbrev dktX2_wrong_5 : List UInt8 := dkwX2_wrong_5 ++ dktX2_wrong_6
def dkwX2_wrong_4 : List UInt8 := [132, 4, 1, 167, 255, 186, 28, 156, 0, 6, 16, 254, 172, 27, 154, 0, 7, 28, 167, 0, 37, 27, 4]
abbrev dktX2_wrong_4 : List UInt8 := dkwX2_wrong_4 ++ dktX2_wrong_5
def dkwX2_wrong_3 : List UInt8 := [54, 5, 21, 5, 155, 0, 19, 28, 155, 0, 9, 21, 5, 29, 164, 0, 9, 21, 4, 61, 21, 5, 62]
abbrev dktX2_wrong_3 : List UInt8 := dkwX2_wrong_3 ++ dktX2_wrong_4
def dkwX2_wrong_2 : List UInt8 := [167, 0, 24, 42, 21, 4, 182, 0, 250, 184, 0, 253, 17, 3, 232, 104, 42, 180, 0, 9, 21, 4, 46, 108]
abbrev dktX2_wrong_2 : List UInt8 := dkwX2_wrong_2 ++ dktX2_wrong_3
def dkwX2_wrong_1 : List UInt8 := [62, 3, 54, 4, 21, 4, 42, 180, 0, 102, 162, 0, 67, 42, 180, 0, 9, 21, 4, 46, 154, 0, 7, 2]
abbrev dktX2_wrong_1 : List UInt8 := dkwX2_wrong_1 ++ dktX2_wrong_2
def dkwX2_wrong_0 : List UInt8 := [27, 133, 9, 20, 0, 135, 184, 0, 105, 154, 0, 7, 19, 1, 0, 172, 42, 182, 1, 1, 16, 254, 61, 3]
abbrev dktX2_wrong_0 : List UInt8 := dkwX2_wrong_0 ++ dktX2_wrong_1
theorem dksX2_wrong_0 : cX2_wrong.data.toList.drop 0 = dktX2_wrong_0 := by decide +kernel
theorem dksX2_wrong_1 : cX2_wrong.data.toList.drop 24 = dktX2_wrong_1 := dk_seg dksX2_wrong_0 24 rfl rfl
theorem dksX2_wrong_2 : cX2_wrong.data.toList.drop 48 = dktX2_wrong_2 := dk_seg dksX2_wrong_1 24 rfl rfl
theorem dksX2_wrong_3 : cX2_wrong.data.toList.drop 72 = dktX2_wrong_3 := dk_seg dksX2_wrong_2 24 rfl rfl
theorem dksX2_wrong_4 : cX2_wrong.data.toList.drop 95 = dktX2_wrong_4 := dk_seg dksX2_wrong_3 23 rfl rfl
theorem dksX2_wrong_5 : cX2_wrong.data.toList.drop 118 = dktX2_wrong_5 := dk_seg dksX2_wrong_4 23 rfl rfl
theorem dksX2_wrong_6 : cX2_wrong.data.toList.drop 142 = dktX2_wrong_6 := dk_seg dksX2_wrong_5 24 rfl rfl
theorem dX2_wrong_0 : decode cX2_wrong 0 = .ok (.iload_n 1, 1) := dk_27 (dk_at dksX2_wrong_0 0 rfl rfl)
theorem dX2_wrong_1 : decode cX2_wrong 1 = .ok (.i2l, 1) := dk_133 (dk_at dksX2_wrong_0 1 rfl rfl)
theorem dX2_wrong_2 : decode cX2_wrong 2 = .ok (.lconst 0, 1) := dk_9 (dk_at dksX2_wrong_0 2 rfl rfl)
theorem dX2_wrong_3 : decode cX2_wrong 3 = .ok (.ldc2_w 135, 3) := dk_20 0 135 (dk_at dksX2_wrong_0 3 rfl rfl)
theorem dX2_wrong_6 : decode cX2_wrong 6 = .ok (.invokestatic 105, 3) := dk_184 0 105 (dk_at dksX2_wrong_0 6 rfl rfl)
theorem dX2_wrong_9 : decode cX2_wrong 9 = .ok (.ifCond .ne 7, 3) := dk_154 0 7 (dk_at dksX2_wrong_0 9 rfl rfl)
theorem dX2_wrong_12 : decode cX2_wrong 12 = .ok (.ldc_w 256, 3) := dk_19 1 0 (dk_at dksX2_wrong_0 12 rfl rfl)
theorem dX2_wrong_15 : decode cX2_wrong 15 = .ok (.ireturn, 1) := dk_172 (dk_at dksX2_wrong_0 15 rfl rfl)
theorem dX2_wrong_16 : decode cX2_wrong 16 = .ok (.aload_n 0, 1) := dk_42 (dk_at dksX2_wrong_0 16 rfl rfl)
theorem dX2_wrong_17 : decode cX2_wrong 17 = .ok (.invokevirtual 257, 3) := dk_182 1 1 (dk_at dksX2_wrong_0 17 rfl rfl)
theorem dX2_wrong_20 : decode cX2_wrong 20 = .ok (.bipush (-2), 2) := dk_16 254 (dk_at dksX2_wrong_0 20 rfl rfl)
theorem dX2_wrong_22 : decode cX2_wrong 22 = .ok (.istore_n 2, 1) := dk_61 (dk_at dksX2_wrong_0 22 rfl rfl)
theorem dX2_wrong_23 : decode cX2_wrong 23 = .ok (.iconst 0, 1) := dk_3 (dk_at dksX2_wrong_0 23 rfl rfl)
theorem dX2_wrong_24 : decode cX2_wrong 24 = .ok (.istore_n 3, 1) := dk_62 (dk_at dksX2_wrong_1 0 rfl rfl)
theorem dX2_wrong_25 : decode cX2_wrong 25 = .ok (.iconst 0, 1) := dk_3 (dk_at dksX2_wrong_1 1 rfl rfl)
theorem dX2_wrong_26 : decode cX2_wrong 26 = .ok (.istore 4, 2) := dk_54 4 (dk_at dksX2_wrong_1 2 rfl rfl)
theorem dX2_wrong_28 : decode cX2_wrong 28 = .ok (.iload 4, 2) := dk_21 4 (dk_at dksX2_wrong_1 4 rfl rfl)
theorem dX2_wrong_30 : decode cX2_wrong 30 = .ok (.aload_n 0, 1) := dk_42 (dk_at dksX2_wrong_1 6 rfl rfl)
theorem dX2_wrong_31 : decode cX2_wrong 31 = .ok (.getfield 102, 3) := dk_180 0 102 (dk_at dksX2_wrong_1 7 rfl rfl)
theorem dX2_wrong_34 : decode cX2_wrong 34 = .ok (.if_icmp .ge 67, 3) := dk_162 0 67 (dk_at dksX2_wrong_1 10 rfl rfl)
theorem dX2_wrong_37 : decode cX2_wrong 37 = .ok (.aload_n 0, 1) := dk_42 (dk_at dksX2_wrong_1 13 rfl rfl)
theorem dX2_wrong_38 : decode cX2_wrong 38 = .ok (.getfield 9, 3) := dk_180 0 9 (dk_at dksX2_wrong_1 14 rfl rfl)
theorem dX2_wrong_41 : decode cX2_wrong 41 = .ok (.iload 4, 2) := dk_21 4 (dk_at dksX2_wrong_1 17 rfl rfl)
theorem dX2_wrong_43 : decode cX2_wrong 43 = .ok (.iaload, 1) := dk_46 (dk_at dksX2_wrong_1 19 rfl rfl)
theorem dX2_wrong_44 : decode cX2_wrong 44 = .ok (.ifCond .ne 7, 3) := dk_154 0 7 (dk_at dksX2_wrong_1 20 rfl rfl)
theorem dX2_wrong_47 : decode cX2_wrong 47 = .ok (.iconst (-1), 1) := dk_2 (dk_at dksX2_wrong_1 23 rfl rfl)
theorem dX2_wrong_48 : decode cX2_wrong 48 = .ok (.goto 24, 3) := dk_167 0 24 (dk_at dksX2_wrong_2 0 rfl rfl)
theorem dX2_wrong_51 : decode cX2_wrong 51 = .ok (.aload_n 0, 1) := dk_42 (dk_at dksX2_wrong_2 3 rfl rfl)
theorem dX2_wrong_52 : decode cX2_wrong 52 = .ok (.iload 4, 2) := dk_21 4 (dk_at dksX2_wrong_2 4 rfl rfl)
theorem dX2_wrong_54 : decode cX2_wrong 54 = .ok (.invokevirtual 250, 3) := dk_182 0 250 (dk_at dksX2_wrong_2 6 rfl rfl)
theorem dX2_wrong_57 : decode cX2_wrong 57 = .ok (.invokestatic 253, 3) := dk_184 0 253 (dk_at dksX2_wrong_2 9 rfl rfl)
theorem dX2_wrong_60 : decode cX2_wrong 60 = .ok (.sipush 1000, 3) := dk_17 3 232 (dk_at dksX2_wrong_2 12 rfl rfl)
theorem dX2_wrong_63 : decode cX2_wrong 63 = .ok (.imul, 1) := dk_104 (dk_at dksX2_wrong_2 15 rfl rfl)
theorem dX2_wrong_64 : decode cX2_wrong 64 = .ok (.aload_n 0, 1) := dk_42 (dk_at dksX2_wrong_2 16 rfl rfl)
theorem dX2_wrong_65 : decode cX2_wrong 65 = .ok (.getfield 9, 3) := dk_180 0 9 (dk_at dksX2_wrong_2 17 rfl rfl)
theorem dX2_wrong_68 : decode cX2_wrong 68 = .ok (.iload 4, 2) := dk_21 4 (dk_at dksX2_wrong_2 20 rfl rfl)
theorem dX2_wrong_70 : decode cX2_wrong 70 = .ok (.iaload, 1) := dk_46 (dk_at dksX2_wrong_2 22 rfl rfl)
theorem dX2_wrong_71 : decode cX2_wrong 71 = .ok (.idiv, 1) := dk_108 (dk_at dksX2_wrong_2 23 rfl rfl)
theorem dX2_wrong_72 : decode cX2_wrong 72 = .ok (.istore 5, 2) := dk_54 5 (dk_at dksX2_wrong_3 0 rfl rfl)
theorem dX2_wrong_74 : decode cX2_wrong 74 = .ok (.iload 5, 2) := dk_21 5 (dk_at dksX2_wrong_3 2 rfl rfl)
theorem dX2_wrong_76 : decode cX2_wrong 76 = .ok (.ifCond .lt 19, 3) := dk_155 0 19 (dk_at dksX2_wrong_3 4 rfl rfl)
theorem dX2_wrong_79 : decode cX2_wrong 79 = .ok (.iload_n 2, 1) := dk_28 (dk_at dksX2_wrong_3 7 rfl rfl)
theorem dX2_wrong_80 : decode cX2_wrong 80 = .ok (.ifCond .lt 9, 3) := dk_155 0 9 (dk_at dksX2_wrong_3 8 rfl rfl)
theorem dX2_wrong_83 : decode cX2_wrong 83 = .ok (.iload 5, 2) := dk_21 5 (dk_at dksX2_wrong_3 11 rfl rfl)
theorem dX2_wrong_85 : decode cX2_wrong 85 = .ok (.iload_n 3, 1) := dk_29 (dk_at dksX2_wrong_3 13 rfl rfl)
theorem dX2_wrong_86 : decode cX2_wrong 86 = .ok (.if_icmp .le 9, 3) := dk_164 0 9 (dk_at dksX2_wrong_3 14 rfl rfl)
theorem dX2_wrong_89 : decode cX2_wrong 89 = .ok (.iload 4, 2) := dk_21 4 (dk_at dksX2_wrong_3 17 rfl rfl)
theorem dX2_wrong_91 : decode cX2_wrong 91 = .ok (.istore_n 2, 1) := dk_61 (dk_at dksX2_wrong_3 19 rfl rfl)
theorem dX2_wrong_92 : decode cX2_wrong 92 = .ok (.iload 5, 2) := dk_21 5 (dk_at dksX2_wrong_3 20 rfl rfl)
theorem dX2_wrong_94 : decode cX2_wrong 94 = .ok (.istore_n 3, 1) := dk_62 (dk_at dksX2_wrong_3 22 rfl rfl)
theorem dX2_wrong_95 : decode cX2_wrong 95 = .ok (.iinc 4 1, 3) := dk_132 4 1 (dk_at dksX2_wrong_4 0 rfl rfl)
theorem dX2_wrong_98 : decode cX2_wrong 98 = .ok (.goto (-70), 3) := dk_167 255 186 (dk_at dksX2_wrong_4 3 rfl rfl)
theorem dX2_wrong_101 : decode cX2_wrong 101 = .ok (.iload_n 2, 1) := dk_28 (dk_at dksX2_wrong_4 6 rfl rfl)
theorem dX2_wrong_102 : decode cX2_wrong 102 = .ok (.ifCond .ge 6, 3) := dk_156 0 6 (dk_at dksX2_wrong_4 7 rfl rfl)
theorem dX2_wrong_105 : decode cX2_wrong 105 = .ok (.bipush (-2), 2) := dk_16 254 (dk_at dksX2_wrong_4 10 rfl rfl)
theorem dX2_wrong_107 : decode cX2_wrong 107 = .ok (.ireturn, 1) := dk_172 (dk_at dksX2_wrong_4 12 rfl rfl)
theorem dX2_wrong_108 : decode cX2_wrong 108 = .ok (.iload_n 1, 1) := dk_27 (dk_at dksX2_wrong_4 13 rfl rfl)
theorem dX2_wrong_109 : decode cX2_wrong 109 = .ok (.ifCond .ne 7, 3) := dk_154 0 7 (dk_at dksX2_wrong_4 14 rfl rfl)
theorem dX2_wrong_112 : decode cX2_wrong 112 = .ok (.iload_n 2, 1) := dk_28 (dk_at dksX2_wrong_4 17 rfl rfl)
theorem dX2_wrong_113 : decode cX2_wrong 113 = .ok (.goto 37, 3) := dk_167 0 37 (dk_at dksX2_wrong_4 18 rfl rfl)
theorem dX2_wrong_116 : decode cX2_wrong 116 = .ok (.iload_n 1, 1) := dk_27 (dk_at dksX2_wrong_4 21 rfl rfl)
theorem dX2_wrong_117 : decode cX2_wrong 117 = .ok (.iconst 1, 1) := dk_4 (dk_at dksX2_wrong_4 22 rfl rfl)
theorem dX2_wrong_118 : decode cX2_wrong 118 = .ok (.if_icmp .ne 7, 3) := dk_160 0 7 (dk_at dksX2_wrong_5 0 rfl rfl)
theorem dX2_wrong_121 : decode cX2_wrong 121 = .ok (.iload_n 3, 1) := dk_29 (dk_at dksX2_wrong_5 3 rfl rfl)
theorem dX2_wrong_122 : decode cX2_wrong 122 = .ok (.goto 28, 3) := dk_167 0 28 (dk_at dksX2_wrong_5 4 rfl rfl)
theorem dX2_wrong_125 : decode cX2_wrong 125 = .ok (.aload_n 0, 1) := dk_42 (dk_at dksX2_wrong_5 7 rfl rfl)
theorem dX2_wrong_126 : decode cX2_wrong 126 = .ok (.iload_n 2, 1) := dk_28 (dk_at dksX2_wrong_5 8 rfl rfl)
theorem dX2_wrong_127 : decode cX2_wrong 127 = .ok (.invokevirtual 250, 3) := dk_182 0 250 (dk_at dksX2_wrong_5 9 rfl rfl)
theorem dX2_wrong_130 : decode cX2_wrong 130 = .ok (.ifCond .ge 7, 3) := dk_156 0 7 (dk_at dksX2_wrong_5 12 rfl rfl)
theorem dX2_wrong_133 : decode cX2_wrong 133 = .ok (.iconst 1, 1) := dk_4 (dk_at dksX2_wrong_5 15 rfl rfl)
theorem dX2_wrong_134 : decode cX2_wrong 134 = .ok (.goto 16, 3) := dk_167 0 16 (dk_at dksX2_wrong_5 16 rfl rfl)
theorem dX2_wrong_137 : decode cX2_wrong 137 = .ok (.aload_n 0, 1) := dk_42 (dk_at dksX2_wrong_5 19 rfl rfl)
theorem dX2_wrong_138 : decode cX2_wrong 138 = .ok (.iload_n 2, 1) := dk_28 (dk_at dksX2_wrong_5 20 rfl rfl)
theorem dX2_wrong_139 : decode cX2_wrong 139 = .ok (.invokevirtual 250, 3) := dk_182 0 250 (dk_at dksX2_wrong_5 21 rfl rfl)
theorem dX2_wrong_142 : decode cX2_wrong 142 = .ok (.ifCond .le 7, 3) := dk_158 0 7 (dk_at dksX2_wrong_6 0 rfl rfl)
theorem dX2_wrong_145 : decode cX2_wrong 145 = .ok (.iconst (-1), 1) := dk_2 (dk_at dksX2_wrong_6 3 rfl rfl)
theorem dX2_wrong_146 : decode cX2_wrong 146 = .ok (.goto 4, 3) := dk_167 0 4 (dk_at dksX2_wrong_6 4 rfl rfl)
theorem dX2_wrong_149 : decode cX2_wrong 149 = .ok (.iconst 0, 1) := dk_3 (dk_at dksX2_wrong_6 7 rfl rfl)
theorem dX2_wrong_150 : decode cX2_wrong 150 = .ok (.ireturn, 1) := dk_172 (dk_at dksX2_wrong_6 8 rfl rfl)
abbrev cX2_body : ByteArray := prog_32_method_74_code
def yX2_body : MethodName := ⟨RX2, "body", "(I)I"⟩
def dkwX2_body_2 : List UInt8 := [180, 1, 71, 4, 100, 172]
abbrev dktX2_body_2 : List UInt8 := dkwX2_body_2 ++ []
def dkwX2_body_1 : List UInt8 := [16, 253, 172, 42, 180, 0, 77, 42, 180, 1, 71, 27, 79, 42, 89, 180, 1, 71, 4, 96, 181, 1, 71, 42]
abbrev dktX2_body_1 : List UInt8 := dkwX2_body_1 ++ dktX2_body_2
def dkwX2_body_0 : List UInt8 := [27, 133, 9, 20, 1, 74, 184, 0, 105, 154, 0, 5, 2, 172, 42, 180, 1, 71, 16, 50, 160, 0, 6]
abbrev dktX2_body_0 : List UInt8 := dkwX2_body_0 ++ dktX2_body_1
theorem dksX2_body_0 : cX2_body.data.toList.drop 0 = dktX2_body_0 := by decide +kernel
theorem dksX2_body_1 : cX2_body.data.toList.drop 23 = dktX2_body_1 := dk_seg dksX2_body_0 23 rfl rfl
theorem dksX2_body_2 : cX2_body.data.toList.drop 47 = dktX2_body_2 := dk_seg dksX2_body_1 24 rfl rfl
theorem dX2_body_0 : decode cX2_body 0 = .ok (.iload_n 1, 1) := dk_27 (dk_at dksX2_body_0 0 rfl rfl)
theorem dX2_body_1 : decode cX2_body 1 = .ok (.i2l, 1) := dk_133 (dk_at dksX2_body_0 1 rfl rfl)
theorem dX2_body_2 : decode cX2_body 2 = .ok (.lconst 0, 1) := dk_9 (dk_at dksX2_body_0 2 rfl rfl)
theorem dX2_body_3 : decode cX2_body 3 = .ok (.ldc2_w 330, 3) := dk_20 1 74 (dk_at dksX2_body_0 3 rfl rfl)
theorem dX2_body_6 : decode cX2_body 6 = .ok (.invokestatic 105, 3) := dk_184 0 105 (dk_at dksX2_body_0 6 rfl rfl)
theorem dX2_body_9 : decode cX2_body 9 = .ok (.ifCond .ne 5, 3) := dk_154 0 5 (dk_at dksX2_body_0 9 rfl rfl)
theorem dX2_body_12 : decode cX2_body 12 = .ok (.iconst (-1), 1) := dk_2 (dk_at dksX2_body_0 12 rfl rfl)
theorem dX2_body_13 : decode cX2_body 13 = .ok (.ireturn, 1) := dk_172 (dk_at dksX2_body_0 13 rfl rfl)
theorem dX2_body_14 : decode cX2_body 14 = .ok (.aload_n 0, 1) := dk_42 (dk_at dksX2_body_0 14 rfl rfl)
theorem dX2_body_15 : decode cX2_body 15 = .ok (.getfield 327, 3) := dk_180 1 71 (dk_at dksX2_body_0 15 rfl rfl)
theorem dX2_body_18 : decode cX2_body 18 = .ok (.bipush 50, 2) := dk_16 50 (dk_at dksX2_body_0 18 rfl rfl)
theorem dX2_body_20 : decode cX2_body 20 = .ok (.if_icmp .ne 6, 3) := dk_160 0 6 (dk_at dksX2_body_0 20 rfl rfl)
theorem dX2_body_23 : decode cX2_body 23 = .ok (.bipush (-3), 2) := dk_16 253 (dk_at dksX2_body_1 0 rfl rfl)
theorem dX2_body_25 : decode cX2_body 25 = .ok (.ireturn, 1) := dk_172 (dk_at dksX2_body_1 2 rfl rfl)
theorem dX2_body_26 : decode cX2_body 26 = .ok (.aload_n 0, 1) := dk_42 (dk_at dksX2_body_1 3 rfl rfl)
theorem dX2_body_27 : decode cX2_body 27 = .ok (.getfield 77, 3) := dk_180 0 77 (dk_at dksX2_body_1 4 rfl rfl)
theorem dX2_body_30 : decode cX2_body 30 = .ok (.aload_n 0, 1) := dk_42 (dk_at dksX2_body_1 7 rfl rfl)
theorem dX2_body_31 : decode cX2_body 31 = .ok (.getfield 327, 3) := dk_180 1 71 (dk_at dksX2_body_1 8 rfl rfl)
theorem dX2_body_34 : decode cX2_body 34 = .ok (.iload_n 1, 1) := dk_27 (dk_at dksX2_body_1 11 rfl rfl)
theorem dX2_body_35 : decode cX2_body 35 = .ok (.iastore, 1) := dk_79 (dk_at dksX2_body_1 12 rfl rfl)
theorem dX2_body_36 : decode cX2_body 36 = .ok (.aload_n 0, 1) := dk_42 (dk_at dksX2_body_1 13 rfl rfl)
theorem dX2_body_37 : decode cX2_body 37 = .ok (.dup, 1) := dk_89 (dk_at dksX2_body_1 14 rfl rfl)
theorem dX2_body_38 : decode cX2_body 38 = .ok (.getfield 327, 3) := dk_180 1 71 (dk_at dksX2_body_1 15 rfl rfl)
theorem dX2_body_41 : decode cX2_body 41 = .ok (.iconst 1, 1) := dk_4 (dk_at dksX2_body_1 18 rfl rfl)
theorem dX2_body_42 : decode cX2_body 42 = .ok (.iadd, 1) := dk_96 (dk_at dksX2_body_1 19 rfl rfl)
theorem dX2_body_43 : decode cX2_body 43 = .ok (.putfield 327, 3) := dk_181 1 71 (dk_at dksX2_body_1 20 rfl rfl)
theorem dX2_body_46 : decode cX2_body 46 = .ok (.aload_n 0, 1) := dk_42 (dk_at dksX2_body_1 23 rfl rfl)
theorem dX2_body_47 : decode cX2_body 47 = .ok (.getfield 327, 3) := dk_180 1 71 (dk_at dksX2_body_2 0 rfl rfl)
theorem dX2_body_50 : decode cX2_body 50 = .ok (.iconst 1, 1) := dk_4 (dk_at dksX2_body_2 3 rfl rfl)
theorem dX2_body_51 : decode cX2_body 51 = .ok (.isub, 1) := dk_100 (dk_at dksX2_body_2 4 rfl rfl)
theorem dX2_body_52 : decode cX2_body 52 = .ok (.ireturn, 1) := dk_172 (dk_at dksX2_body_2 5 rfl rfl)
abbrev cX2_act : ByteArray := prog_32_method_81_code
def yX2_act : MethodName := ⟨RX2, "act", "(III)I"⟩
def dkwX2_act_4 : List UInt8 := [180, 1, 91, 29, 182, 1, 94, 172, 42, 42, 180, 1, 91, 29, 182, 1, 97, 172, 3, 172]
abbrev dktX2_act_4 : List UInt8 := dkwX2_act_4 ++ []
def dkwX2_act_3 : List UInt8 := [42, 42, 180, 1, 91, 29, 182, 1, 82, 172, 42, 42, 180, 1, 91, 29, 182, 1, 88, 172, 42, 42]
abbrev dktX2_act_3 : List UInt8 := dkwX2_act_3 ++ dktX2_act_4
def dkwX2_act_2 : List UInt8 := [170, 0, 0, 0, 69, 0, 0, 0, 0, 0, 0, 0, 3, 0, 0, 0, 29, 0, 0, 0, 39, 0, 0, 0, 49, 0, 0, 0, 59]
abbrev dktX2_act_2 : List UInt8 := dkwX2_act_2 ++ dktX2_act_3
def dkwX2_act_1 : List UInt8 := [181, 1, 91, 42, 27, 181, 1, 85, 28]
abbrev dktX2_act_1 : List UInt8 := dkwX2_act_1 ++ dktX2_act_2
def dkwX2_act_0 : List UInt8 := [42, 3, 181, 1, 76, 42, 27, 182, 1, 100, 154, 0, 5, 3, 172, 42, 42, 180, 0, 77, 27, 46]
abbrev dktX2_act_0 : List UInt8 := dkwX2_act_0 ++ dktX2_act_1
theorem dksX2_act_0 : cX2_act.data.toList.drop 0 = dktX2_act_0 := by decide +kernel
theorem dksX2_act_1 : cX2_act.data.toList.drop 22 = dktX2_act_1 := dk_seg dksX2_act_0 22 rfl rfl
theorem dksX2_act_2 : cX2_act.data.toList.drop 31 = dktX2_act_2 := dk_seg dksX2_act_1 9 rfl rfl
theorem dksX2_act_3 : cX2_act.data.toList.drop 60 = dktX2_act_3 := dk_seg dksX2_act_2 29 rfl rfl
theorem dksX2_act_4 : cX2_act.data.toList.drop 82 = dktX2_act_4 := dk_seg dksX2_act_3 22 rfl rfl
theorem dX2_act_0 : decode cX2_act 0 = .ok (.aload_n 0, 1) := dk_42 (dk_at dksX2_act_0 0 rfl rfl)
theorem dX2_act_1 : decode cX2_act 1 = .ok (.iconst 0, 1) := dk_3 (dk_at dksX2_act_0 1 rfl rfl)
theorem dX2_act_2 : decode cX2_act 2 = .ok (.putfield 332, 3) := dk_181 1 76 (dk_at dksX2_act_0 2 rfl rfl)
theorem dX2_act_5 : decode cX2_act 5 = .ok (.aload_n 0, 1) := dk_42 (dk_at dksX2_act_0 5 rfl rfl)
theorem dX2_act_6 : decode cX2_act 6 = .ok (.iload_n 1, 1) := dk_27 (dk_at dksX2_act_0 6 rfl rfl)
theorem dX2_act_7 : decode cX2_act 7 = .ok (.invokevirtual 356, 3) := dk_182 1 100 (dk_at dksX2_act_0 7 rfl rfl)
theorem dX2_act_10 : decode cX2_act 10 = .ok (.ifCond .ne 5, 3) := dk_154 0 5 (dk_at dksX2_act_0 10 rfl rfl)
theorem dX2_act_13 : decode cX2_act 13 = .ok (.iconst 0, 1) := dk_3 (dk_at dksX2_act_0 13 rfl rfl)
theorem dX2_act_14 : decode cX2_act 14 = .ok (.ireturn, 1) := dk_172 (dk_at dksX2_act_0 14 rfl rfl)
theorem dX2_act_15 : decode cX2_act 15 = .ok (.aload_n 0, 1) := dk_42 (dk_at dksX2_act_0 15 rfl rfl)
theorem dX2_act_16 : decode cX2_act 16 = .ok (.aload_n 0, 1) := dk_42 (dk_at dksX2_act_0 16 rfl rfl)
theorem dX2_act_17 : decode cX2_act 17 = .ok (.getfield 77, 3) := dk_180 0 77 (dk_at dksX2_act_0 17 rfl rfl)
theorem dX2_act_20 : decode cX2_act 20 = .ok (.iload_n 1, 1) := dk_27 (dk_at dksX2_act_0 20 rfl rfl)
theorem dX2_act_21 : decode cX2_act 21 = .ok (.iaload, 1) := dk_46 (dk_at dksX2_act_0 21 rfl rfl)
theorem dX2_act_22 : decode cX2_act 22 = .ok (.putfield 347, 3) := dk_181 1 91 (dk_at dksX2_act_1 0 rfl rfl)
theorem dX2_act_25 : decode cX2_act 25 = .ok (.aload_n 0, 1) := dk_42 (dk_at dksX2_act_1 3 rfl rfl)
theorem dX2_act_26 : decode cX2_act 26 = .ok (.iload_n 1, 1) := dk_27 (dk_at dksX2_act_1 4 rfl rfl)
theorem dX2_act_27 : decode cX2_act 27 = .ok (.putfield 341, 3) := dk_181 1 85 (dk_at dksX2_act_1 5 rfl rfl)
theorem dX2_act_30 : decode cX2_act 30 = .ok (.iload_n 2, 1) := dk_28 (dk_at dksX2_act_1 8 rfl rfl)
theorem dX2_act_31 : decode cX2_act 31 = .ok (.tableswitch 69 0 3 #[29, 39, 49, 59], 29) := by decide +kernel
theorem dX2_act_60 : decode cX2_act 60 = .ok (.aload_n 0, 1) := dk_42 (dk_at dksX2_act_3 0 rfl rfl)
theorem dX2_act_61 : decode cX2_act 61 = .ok (.aload_n 0, 1) := dk_42 (dk_at dksX2_act_3 1 rfl rfl)
theorem dX2_act_62 : decode cX2_act 62 = .ok (.getfield 347, 3) := dk_180 1 91 (dk_at dksX2_act_3 2 rfl rfl)
theorem dX2_act_65 : decode cX2_act 65 = .ok (.iload_n 3, 1) := dk_29 (dk_at dksX2_act_3 5 rfl rfl)
theorem dX2_act_66 : decode cX2_act 66 = .ok (.invokevirtual 338, 3) := dk_182 1 82 (dk_at dksX2_act_3 6 rfl rfl)
theorem dX2_act_69 : decode cX2_act 69 = .ok (.ireturn, 1) := dk_172 (dk_at dksX2_act_3 9 rfl rfl)
theorem dX2_act_70 : decode cX2_act 70 = .ok (.aload_n 0, 1) := dk_42 (dk_at dksX2_act_3 10 rfl rfl)
theorem dX2_act_71 : decode cX2_act 71 = .ok (.aload_n 0, 1) := dk_42 (dk_at dksX2_act_3 11 rfl rfl)
theorem dX2_act_72 : decode cX2_act 72 = .ok (.getfield 347, 3) := dk_180 1 91 (dk_at dksX2_act_3 12 rfl rfl)
theorem dX2_act_75 : decode cX2_act 75 = .ok (.iload_n 3, 1) := dk_29 (dk_at dksX2_act_3 15 rfl rfl)
theorem dX2_act_76 : decode cX2_act 76 = .ok (.invokevirtual 344, 3) := dk_182 1 88 (dk_at dksX2_act_3 16 rfl rfl)
theorem dX2_act_79 : decode cX2_act 79 = .ok (.ireturn, 1) := dk_172 (dk_at dksX2_act_3 19 rfl rfl)
theorem dX2_act_80 : decode cX2_act 80 = .ok (.aload_n 0, 1) := dk_42 (dk_at dksX2_act_3 20 rfl rfl)
theorem dX2_act_81 : decode cX2_act 81 = .ok (.aload_n 0, 1) := dk_42 (dk_at dksX2_act_3 21 rfl rfl)
theorem dX2_act_82 : decode cX2_act 82 = .ok (.getfield 347, 3) := dk_180 1 91 (dk_at dksX2_act_4 0 rfl rfl)
theorem dX2_act_85 : decode cX2_act 85 = .ok (.iload_n 3, 1) := dk_29 (dk_at dksX2_act_4 3 rfl rfl)
theorem dX2_act_86 : decode cX2_act 86 = .ok (.invokevirtual 350, 3) := dk_182 1 94 (dk_at dksX2_act_4 4 rfl rfl)
theorem dX2_act_89 : decode cX2_act 89 = .ok (.ireturn, 1) := dk_172 (dk_at dksX2_act_4 7 rfl rfl)
theorem dX2_act_90 : decode cX2_act 90 = .ok (.aload_n 0, 1) := dk_42 (dk_at dksX2_act_4 8 rfl rfl)
theorem dX2_act_91 : decode cX2_act 91 = .ok (.aload_n 0, 1) := dk_42 (dk_at dksX2_act_4 9 rfl rfl)
theorem dX2_act_92 : decode cX2_act 92 = .ok (.getfield 347, 3) := dk_180 1 91 (dk_at dksX2_act_4 10 rfl rfl)
theorem dX2_act_95 : decode cX2_act 95 = .ok (.iload_n 3, 1) := dk_29 (dk_at dksX2_act_4 13 rfl rfl)
theorem dX2_act_96 : decode cX2_act 96 = .ok (.invokevirtual 353, 3) := dk_182 1 97 (dk_at dksX2_act_4 14 rfl rfl)
theorem dX2_act_99 : decode cX2_act 99 = .ok (.ireturn, 1) := dk_172 (dk_at dksX2_act_4 17 rfl rfl)
theorem dX2_act_100 : decode cX2_act 100 = .ok (.iconst 0, 1) := dk_3 (dk_at dksX2_act_4 18 rfl rfl)
theorem dX2_act_101 : decode cX2_act 101 = .ok (.ireturn, 1) := dk_172 (dk_at dksX2_act_4 19 rfl rfl)
abbrev cX2_isBody : ByteArray := prog_32_method_72_code
def yX2_isBody : MethodName := ⟨RX2, "isBody", "(I)Z"⟩
def dkwX2_isBody_0 : List UInt8 := [27, 133, 9, 42, 180, 1, 71, 4, 100, 133, 184, 0, 105, 172]
abbrev dktX2_isBody_0 : List UInt8 := dkwX2_isBody_0 ++ []
theorem dksX2_isBody_0 : cX2_isBody.data.toList.drop 0 = dktX2_isBody_0 := by decide +kernel
theorem dX2_isBody_0 : decode cX2_isBody 0 = .ok (.iload_n 1, 1) := dk_27 (dk_at dksX2_isBody_0 0 rfl rfl)
theorem dX2_isBody_1 : decode cX2_isBody 1 = .ok (.i2l, 1) := dk_133 (dk_at dksX2_isBody_0 1 rfl rfl)
theorem dX2_isBody_2 : decode cX2_isBody 2 = .ok (.lconst 0, 1) := dk_9 (dk_at dksX2_isBody_0 2 rfl rfl)
theorem dX2_isBody_3 : decode cX2_isBody 3 = .ok (.aload_n 0, 1) := dk_42 (dk_at dksX2_isBody_0 3 rfl rfl)
theorem dX2_isBody_4 : decode cX2_isBody 4 = .ok (.getfield 327, 3) := dk_180 1 71 (dk_at dksX2_isBody_0 4 rfl rfl)
theorem dX2_isBody_7 : decode cX2_isBody 7 = .ok (.iconst 1, 1) := dk_4 (dk_at dksX2_isBody_0 7 rfl rfl)
theorem dX2_isBody_8 : decode cX2_isBody 8 = .ok (.isub, 1) := dk_100 (dk_at dksX2_isBody_0 8 rfl rfl)
theorem dX2_isBody_9 : decode cX2_isBody 9 = .ok (.i2l, 1) := dk_133 (dk_at dksX2_isBody_0 9 rfl rfl)
theorem dX2_isBody_10 : decode cX2_isBody 10 = .ok (.invokestatic 105, 3) := dk_184 0 105 (dk_at dksX2_isBody_0 10 rfl rfl)
theorem dX2_isBody_13 : decode cX2_isBody 13 = .ok (.ireturn, 1) := dk_172 (dk_at dksX2_isBody_0 13 rfl rfl)
abbrev cX2_buysAs : ByteArray := prog_32_method_77_code
def yX2_buysAs : MethodName := ⟨RX2, "buysAs", "(II)I"⟩
def dkwX2_buysAs_3 : List UInt8 := [180, 1, 85, 96, 172]
abbrev dktX2_buysAs_3 : List UInt8 := dkwX2_buysAs_3 ++ []
def dkwX2_buysAs_2 : List UInt8 := [42, 16, 70, 182, 1, 79, 42, 3, 28, 182, 1, 82, 5, 104, 172, 42, 4, 182, 1, 79, 28, 42]
abbrev dktX2_buysAs_2 : List UInt8 := dkwX2_buysAs_2 ++ dktX2_buysAs_3
def dkwX2_buysAs_1 : List UInt8 := [160, 0, 18, 42, 16, 60, 182, 1, 79, 42, 3, 28, 4, 96, 182, 1, 82, 172, 27, 16, 6, 160, 0, 18]
abbrev dktX2_buysAs_1 : List UInt8 := dkwX2_buysAs_1 ++ dktX2_buysAs_2
def dkwX2_buysAs_0 : List UInt8 := [27, 4, 160, 0, 18, 42, 16, 20, 182, 1, 79, 42, 3, 28, 182, 1, 82, 6, 96, 172, 27, 8]
abbrev dktX2_buysAs_0 : List UInt8 := dkwX2_buysAs_0 ++ dktX2_buysAs_1
theorem dksX2_buysAs_0 : cX2_buysAs.data.toList.drop 0 = dktX2_buysAs_0 := by decide +kernel
theorem dksX2_buysAs_1 : cX2_buysAs.data.toList.drop 22 = dktX2_buysAs_1 := dk_seg dksX2_buysAs_0 22 rfl rfl
theorem dksX2_buysAs_2 : cX2_buysAs.data.toList.drop 46 = dktX2_buysAs_2 := dk_seg dksX2_buysAs_1 24 rfl rfl
theorem dksX2_buysAs_3 : cX2_buysAs.data.toList.drop 68 = dktX2_buysAs_3 := dk_seg dksX2_buysAs_2 22 rfl rfl
theorem dX2_buysAs_0 : decode cX2_buysAs 0 = .ok (.iload_n 1, 1) := dk_27 (dk_at dksX2_buysAs_0 0 rfl rfl)
theorem dX2_buysAs_1 : decode cX2_buysAs 1 = .ok (.iconst 1, 1) := dk_4 (dk_at dksX2_buysAs_0 1 rfl rfl)
theorem dX2_buysAs_2 : decode cX2_buysAs 2 = .ok (.if_icmp .ne 18, 3) := dk_160 0 18 (dk_at dksX2_buysAs_0 2 rfl rfl)
theorem dX2_buysAs_5 : decode cX2_buysAs 5 = .ok (.aload_n 0, 1) := dk_42 (dk_at dksX2_buysAs_0 5 rfl rfl)
theorem dX2_buysAs_6 : decode cX2_buysAs 6 = .ok (.bipush 20, 2) := dk_16 20 (dk_at dksX2_buysAs_0 6 rfl rfl)
theorem dX2_buysAs_8 : decode cX2_buysAs 8 = .ok (.invokevirtual 335, 3) := dk_182 1 79 (dk_at dksX2_buysAs_0 8 rfl rfl)
theorem dX2_buysAs_11 : decode cX2_buysAs 11 = .ok (.aload_n 0, 1) := dk_42 (dk_at dksX2_buysAs_0 11 rfl rfl)
theorem dX2_buysAs_12 : decode cX2_buysAs 12 = .ok (.iconst 0, 1) := dk_3 (dk_at dksX2_buysAs_0 12 rfl rfl)
theorem dX2_buysAs_13 : decode cX2_buysAs 13 = .ok (.iload_n 2, 1) := dk_28 (dk_at dksX2_buysAs_0 13 rfl rfl)
theorem dX2_buysAs_14 : decode cX2_buysAs 14 = .ok (.invokevirtual 338, 3) := dk_182 1 82 (dk_at dksX2_buysAs_0 14 rfl rfl)
theorem dX2_buysAs_17 : decode cX2_buysAs 17 = .ok (.iconst 3, 1) := dk_6 (dk_at dksX2_buysAs_0 17 rfl rfl)
theorem dX2_buysAs_18 : decode cX2_buysAs 18 = .ok (.iadd, 1) := dk_96 (dk_at dksX2_buysAs_0 18 rfl rfl)
theorem dX2_buysAs_19 : decode cX2_buysAs 19 = .ok (.ireturn, 1) := dk_172 (dk_at dksX2_buysAs_0 19 rfl rfl)
theorem dX2_buysAs_20 : decode cX2_buysAs 20 = .ok (.iload_n 1, 1) := dk_27 (dk_at dksX2_buysAs_0 20 rfl rfl)
theorem dX2_buysAs_21 : decode cX2_buysAs 21 = .ok (.iconst 5, 1) := dk_8 (dk_at dksX2_buysAs_0 21 rfl rfl)
theorem dX2_buysAs_22 : decode cX2_buysAs 22 = .ok (.if_icmp .ne 18, 3) := dk_160 0 18 (dk_at dksX2_buysAs_1 0 rfl rfl)
theorem dX2_buysAs_25 : decode cX2_buysAs 25 = .ok (.aload_n 0, 1) := dk_42 (dk_at dksX2_buysAs_1 3 rfl rfl)
theorem dX2_buysAs_26 : decode cX2_buysAs 26 = .ok (.bipush 60, 2) := dk_16 60 (dk_at dksX2_buysAs_1 4 rfl rfl)
theorem dX2_buysAs_28 : decode cX2_buysAs 28 = .ok (.invokevirtual 335, 3) := dk_182 1 79 (dk_at dksX2_buysAs_1 6 rfl rfl)
theorem dX2_buysAs_31 : decode cX2_buysAs 31 = .ok (.aload_n 0, 1) := dk_42 (dk_at dksX2_buysAs_1 9 rfl rfl)
theorem dX2_buysAs_32 : decode cX2_buysAs 32 = .ok (.iconst 0, 1) := dk_3 (dk_at dksX2_buysAs_1 10 rfl rfl)
theorem dX2_buysAs_33 : decode cX2_buysAs 33 = .ok (.iload_n 2, 1) := dk_28 (dk_at dksX2_buysAs_1 11 rfl rfl)
theorem dX2_buysAs_34 : decode cX2_buysAs 34 = .ok (.iconst 1, 1) := dk_4 (dk_at dksX2_buysAs_1 12 rfl rfl)
theorem dX2_buysAs_35 : decode cX2_buysAs 35 = .ok (.iadd, 1) := dk_96 (dk_at dksX2_buysAs_1 13 rfl rfl)
theorem dX2_buysAs_36 : decode cX2_buysAs 36 = .ok (.invokevirtual 338, 3) := dk_182 1 82 (dk_at dksX2_buysAs_1 14 rfl rfl)
theorem dX2_buysAs_39 : decode cX2_buysAs 39 = .ok (.ireturn, 1) := dk_172 (dk_at dksX2_buysAs_1 17 rfl rfl)
theorem dX2_buysAs_40 : decode cX2_buysAs 40 = .ok (.iload_n 1, 1) := dk_27 (dk_at dksX2_buysAs_1 18 rfl rfl)
theorem dX2_buysAs_41 : decode cX2_buysAs 41 = .ok (.bipush 6, 2) := dk_16 6 (dk_at dksX2_buysAs_1 19 rfl rfl)
theorem dX2_buysAs_43 : decode cX2_buysAs 43 = .ok (.if_icmp .ne 18, 3) := dk_160 0 18 (dk_at dksX2_buysAs_1 21 rfl rfl)
theorem dX2_buysAs_46 : decode cX2_buysAs 46 = .ok (.aload_n 0, 1) := dk_42 (dk_at dksX2_buysAs_2 0 rfl rfl)
theorem dX2_buysAs_47 : decode cX2_buysAs 47 = .ok (.bipush 70, 2) := dk_16 70 (dk_at dksX2_buysAs_2 1 rfl rfl)
theorem dX2_buysAs_49 : decode cX2_buysAs 49 = .ok (.invokevirtual 335, 3) := dk_182 1 79 (dk_at dksX2_buysAs_2 3 rfl rfl)
theorem dX2_buysAs_52 : decode cX2_buysAs 52 = .ok (.aload_n 0, 1) := dk_42 (dk_at dksX2_buysAs_2 6 rfl rfl)
theorem dX2_buysAs_53 : decode cX2_buysAs 53 = .ok (.iconst 0, 1) := dk_3 (dk_at dksX2_buysAs_2 7 rfl rfl)
theorem dX2_buysAs_54 : decode cX2_buysAs 54 = .ok (.iload_n 2, 1) := dk_28 (dk_at dksX2_buysAs_2 8 rfl rfl)
theorem dX2_buysAs_55 : decode cX2_buysAs 55 = .ok (.invokevirtual 338, 3) := dk_182 1 82 (dk_at dksX2_buysAs_2 9 rfl rfl)
theorem dX2_buysAs_58 : decode cX2_buysAs 58 = .ok (.iconst 2, 1) := dk_5 (dk_at dksX2_buysAs_2 12 rfl rfl)
theorem dX2_buysAs_59 : decode cX2_buysAs 59 = .ok (.imul, 1) := dk_104 (dk_at dksX2_buysAs_2 13 rfl rfl)
theorem dX2_buysAs_60 : decode cX2_buysAs 60 = .ok (.ireturn, 1) := dk_172 (dk_at dksX2_buysAs_2 14 rfl rfl)
theorem dX2_buysAs_61 : decode cX2_buysAs 61 = .ok (.aload_n 0, 1) := dk_42 (dk_at dksX2_buysAs_2 15 rfl rfl)
theorem dX2_buysAs_62 : decode cX2_buysAs 62 = .ok (.iconst 1, 1) := dk_4 (dk_at dksX2_buysAs_2 16 rfl rfl)
theorem dX2_buysAs_63 : decode cX2_buysAs 63 = .ok (.invokevirtual 335, 3) := dk_182 1 79 (dk_at dksX2_buysAs_2 17 rfl rfl)
theorem dX2_buysAs_66 : decode cX2_buysAs 66 = .ok (.iload_n 2, 1) := dk_28 (dk_at dksX2_buysAs_2 20 rfl rfl)
theorem dX2_buysAs_67 : decode cX2_buysAs 67 = .ok (.aload_n 0, 1) := dk_42 (dk_at dksX2_buysAs_2 21 rfl rfl)
theorem dX2_buysAs_68 : decode cX2_buysAs 68 = .ok (.getfield 341, 3) := dk_180 1 85 (dk_at dksX2_buysAs_3 0 rfl rfl)
theorem dX2_buysAs_71 : decode cX2_buysAs 71 = .ok (.iadd, 1) := dk_96 (dk_at dksX2_buysAs_3 3 rfl rfl)
theorem dX2_buysAs_72 : decode cX2_buysAs 72 = .ok (.ireturn, 1) := dk_172 (dk_at dksX2_buysAs_3 4 rfl rfl)
abbrev cX2_begins : ByteArray := prog_32_method_76_code
def yX2_begins : MethodName := ⟨RX2, "begins", "(I)V"⟩
def dkwX2_begins_1 : List UInt8 := [4, 96, 181, 1, 76, 177]
abbrev dktX2_begins_1 : List UInt8 := dkwX2_begins_1 ++ []
def dkwX2_begins_0 : List UInt8 := [42, 180, 1, 76, 16, 24, 162, 0, 13, 42, 180, 0, 80, 42, 180, 1, 76, 27, 79, 42, 89, 180, 1, 76]
abbrev dktX2_begins_0 : List UInt8 := dkwX2_begins_0 ++ dktX2_begins_1
theorem dksX2_begins_0 : cX2_begins.data.toList.drop 0 = dktX2_begins_0 := by decide +kernel
theorem dksX2_begins_1 : cX2_begins.data.toList.drop 24 = dktX2_begins_1 := dk_seg dksX2_begins_0 24 rfl rfl
theorem dX2_begins_0 : decode cX2_begins 0 = .ok (.aload_n 0, 1) := dk_42 (dk_at dksX2_begins_0 0 rfl rfl)
theorem dX2_begins_1 : decode cX2_begins 1 = .ok (.getfield 332, 3) := dk_180 1 76 (dk_at dksX2_begins_0 1 rfl rfl)
theorem dX2_begins_4 : decode cX2_begins 4 = .ok (.bipush 24, 2) := dk_16 24 (dk_at dksX2_begins_0 4 rfl rfl)
theorem dX2_begins_6 : decode cX2_begins 6 = .ok (.if_icmp .ge 13, 3) := dk_162 0 13 (dk_at dksX2_begins_0 6 rfl rfl)
theorem dX2_begins_9 : decode cX2_begins 9 = .ok (.aload_n 0, 1) := dk_42 (dk_at dksX2_begins_0 9 rfl rfl)
theorem dX2_begins_10 : decode cX2_begins 10 = .ok (.getfield 80, 3) := dk_180 0 80 (dk_at dksX2_begins_0 10 rfl rfl)
theorem dX2_begins_13 : decode cX2_begins 13 = .ok (.aload_n 0, 1) := dk_42 (dk_at dksX2_begins_0 13 rfl rfl)
theorem dX2_begins_14 : decode cX2_begins 14 = .ok (.getfield 332, 3) := dk_180 1 76 (dk_at dksX2_begins_0 14 rfl rfl)
theorem dX2_begins_17 : decode cX2_begins 17 = .ok (.iload_n 1, 1) := dk_27 (dk_at dksX2_begins_0 17 rfl rfl)
theorem dX2_begins_18 : decode cX2_begins 18 = .ok (.iastore, 1) := dk_79 (dk_at dksX2_begins_0 18 rfl rfl)
theorem dX2_begins_19 : decode cX2_begins 19 = .ok (.aload_n 0, 1) := dk_42 (dk_at dksX2_begins_0 19 rfl rfl)
theorem dX2_begins_20 : decode cX2_begins 20 = .ok (.dup, 1) := dk_89 (dk_at dksX2_begins_0 20 rfl rfl)
theorem dX2_begins_21 : decode cX2_begins 21 = .ok (.getfield 332, 3) := dk_180 1 76 (dk_at dksX2_begins_0 21 rfl rfl)
theorem dX2_begins_24 : decode cX2_begins 24 = .ok (.iconst 1, 1) := dk_4 (dk_at dksX2_begins_1 0 rfl rfl)
theorem dX2_begins_25 : decode cX2_begins 25 = .ok (.iadd, 1) := dk_96 (dk_at dksX2_begins_1 1 rfl rfl)
theorem dX2_begins_26 : decode cX2_begins 26 = .ok (.putfield 332, 3) := dk_181 1 76 (dk_at dksX2_begins_1 2 rfl rfl)
theorem dX2_begins_29 : decode cX2_begins 29 = .ok (.return_, 1) := dk_177 (dk_at dksX2_begins_1 5 rfl rfl)
abbrev cX2_keepsAs : ByteArray := prog_32_method_78_code
def yX2_keepsAs : MethodName := ⟨RX2, "keepsAs", "(II)I"⟩
def dkwX2_keepsAs_3 : List UInt8 := [182, 1, 79, 42, 42, 180, 1, 91, 28, 182, 1, 82, 5, 104, 172]
abbrev dktX2_keepsAs_3 : List UInt8 := dkwX2_keepsAs_3 ++ []
def dkwX2_keepsAs_2 : List UInt8 := [27, 8, 160, 0, 17, 42, 16, 30, 182, 1, 79, 42, 3, 28, 182, 1, 88, 116, 172, 42, 16, 10]
abbrev dktX2_keepsAs_2 : List UInt8 := dkwX2_keepsAs_2 ++ dktX2_keepsAs_3
def dkwX2_keepsAs_1 : List UInt8 := [180, 1, 91, 5, 182, 1, 94, 96, 172, 27, 5, 159, 0, 18, 27, 6, 159, 0, 13, 27, 7, 159, 0, 8]
abbrev dktX2_keepsAs_1 : List UInt8 := dkwX2_keepsAs_1 ++ dktX2_keepsAs_2
def dkwX2_keepsAs_0 : List UInt8 := [27, 16, 7, 160, 0, 28, 42, 16, 80, 182, 1, 79, 42, 7, 28, 182, 1, 88, 62, 29, 42, 42]
abbrev dktX2_keepsAs_0 : List UInt8 := dkwX2_keepsAs_0 ++ dktX2_keepsAs_1
theorem dksX2_keepsAs_0 : cX2_keepsAs.data.toList.drop 0 = dktX2_keepsAs_0 := by decide +kernel
theorem dksX2_keepsAs_1 : cX2_keepsAs.data.toList.drop 22 = dktX2_keepsAs_1 := dk_seg dksX2_keepsAs_0 22 rfl rfl
theorem dksX2_keepsAs_2 : cX2_keepsAs.data.toList.drop 46 = dktX2_keepsAs_2 := dk_seg dksX2_keepsAs_1 24 rfl rfl
theorem dksX2_keepsAs_3 : cX2_keepsAs.data.toList.drop 68 = dktX2_keepsAs_3 := dk_seg dksX2_keepsAs_2 22 rfl rfl
theorem dX2_keepsAs_0 : decode cX2_keepsAs 0 = .ok (.iload_n 1, 1) := dk_27 (dk_at dksX2_keepsAs_0 0 rfl rfl)
theorem dX2_keepsAs_1 : decode cX2_keepsAs 1 = .ok (.bipush 7, 2) := dk_16 7 (dk_at dksX2_keepsAs_0 1 rfl rfl)
theorem dX2_keepsAs_3 : decode cX2_keepsAs 3 = .ok (.if_icmp .ne 28, 3) := dk_160 0 28 (dk_at dksX2_keepsAs_0 3 rfl rfl)
theorem dX2_keepsAs_6 : decode cX2_keepsAs 6 = .ok (.aload_n 0, 1) := dk_42 (dk_at dksX2_keepsAs_0 6 rfl rfl)
theorem dX2_keepsAs_7 : decode cX2_keepsAs 7 = .ok (.bipush 80, 2) := dk_16 80 (dk_at dksX2_keepsAs_0 7 rfl rfl)
theorem dX2_keepsAs_9 : decode cX2_keepsAs 9 = .ok (.invokevirtual 335, 3) := dk_182 1 79 (dk_at dksX2_keepsAs_0 9 rfl rfl)
theorem dX2_keepsAs_12 : decode cX2_keepsAs 12 = .ok (.aload_n 0, 1) := dk_42 (dk_at dksX2_keepsAs_0 12 rfl rfl)
theorem dX2_keepsAs_13 : decode cX2_keepsAs 13 = .ok (.iconst 4, 1) := dk_7 (dk_at dksX2_keepsAs_0 13 rfl rfl)
theorem dX2_keepsAs_14 : decode cX2_keepsAs 14 = .ok (.iload_n 2, 1) := dk_28 (dk_at dksX2_keepsAs_0 14 rfl rfl)
theorem dX2_keepsAs_15 : decode cX2_keepsAs 15 = .ok (.invokevirtual 344, 3) := dk_182 1 88 (dk_at dksX2_keepsAs_0 15 rfl rfl)
theorem dX2_keepsAs_18 : decode cX2_keepsAs 18 = .ok (.istore_n 3, 1) := dk_62 (dk_at dksX2_keepsAs_0 18 rfl rfl)
theorem dX2_keepsAs_19 : decode cX2_keepsAs 19 = .ok (.iload_n 3, 1) := dk_29 (dk_at dksX2_keepsAs_0 19 rfl rfl)
theorem dX2_keepsAs_20 : decode cX2_keepsAs 20 = .ok (.aload_n 0, 1) := dk_42 (dk_at dksX2_keepsAs_0 20 rfl rfl)
theorem dX2_keepsAs_21 : decode cX2_keepsAs 21 = .ok (.aload_n 0, 1) := dk_42 (dk_at dksX2_keepsAs_0 21 rfl rfl)
theorem dX2_keepsAs_22 : decode cX2_keepsAs 22 = .ok (.getfield 347, 3) := dk_180 1 91 (dk_at dksX2_keepsAs_1 0 rfl rfl)
theorem dX2_keepsAs_25 : decode cX2_keepsAs 25 = .ok (.iconst 2, 1) := dk_5 (dk_at dksX2_keepsAs_1 3 rfl rfl)
theorem dX2_keepsAs_26 : decode cX2_keepsAs 26 = .ok (.invokevirtual 350, 3) := dk_182 1 94 (dk_at dksX2_keepsAs_1 4 rfl rfl)
theorem dX2_keepsAs_29 : decode cX2_keepsAs 29 = .ok (.iadd, 1) := dk_96 (dk_at dksX2_keepsAs_1 7 rfl rfl)
theorem dX2_keepsAs_30 : decode cX2_keepsAs 30 = .ok (.ireturn, 1) := dk_172 (dk_at dksX2_keepsAs_1 8 rfl rfl)
theorem dX2_keepsAs_31 : decode cX2_keepsAs 31 = .ok (.iload_n 1, 1) := dk_27 (dk_at dksX2_keepsAs_1 9 rfl rfl)
theorem dX2_keepsAs_32 : decode cX2_keepsAs 32 = .ok (.iconst 2, 1) := dk_5 (dk_at dksX2_keepsAs_1 10 rfl rfl)
theorem dX2_keepsAs_33 : decode cX2_keepsAs 33 = .ok (.if_icmp .eq 18, 3) := dk_159 0 18 (dk_at dksX2_keepsAs_1 11 rfl rfl)
theorem dX2_keepsAs_36 : decode cX2_keepsAs 36 = .ok (.iload_n 1, 1) := dk_27 (dk_at dksX2_keepsAs_1 14 rfl rfl)
theorem dX2_keepsAs_37 : decode cX2_keepsAs 37 = .ok (.iconst 3, 1) := dk_6 (dk_at dksX2_keepsAs_1 15 rfl rfl)
theorem dX2_keepsAs_38 : decode cX2_keepsAs 38 = .ok (.if_icmp .eq 13, 3) := dk_159 0 13 (dk_at dksX2_keepsAs_1 16 rfl rfl)
theorem dX2_keepsAs_41 : decode cX2_keepsAs 41 = .ok (.iload_n 1, 1) := dk_27 (dk_at dksX2_keepsAs_1 19 rfl rfl)
theorem dX2_keepsAs_42 : decode cX2_keepsAs 42 = .ok (.iconst 4, 1) := dk_7 (dk_at dksX2_keepsAs_1 20 rfl rfl)
theorem dX2_keepsAs_43 : decode cX2_keepsAs 43 = .ok (.if_icmp .eq 8, 3) := dk_159 0 8 (dk_at dksX2_keepsAs_1 21 rfl rfl)
theorem dX2_keepsAs_46 : decode cX2_keepsAs 46 = .ok (.iload_n 1, 1) := dk_27 (dk_at dksX2_keepsAs_2 0 rfl rfl)
theorem dX2_keepsAs_47 : decode cX2_keepsAs 47 = .ok (.iconst 5, 1) := dk_8 (dk_at dksX2_keepsAs_2 1 rfl rfl)
theorem dX2_keepsAs_48 : decode cX2_keepsAs 48 = .ok (.if_icmp .ne 17, 3) := dk_160 0 17 (dk_at dksX2_keepsAs_2 2 rfl rfl)
theorem dX2_keepsAs_51 : decode cX2_keepsAs 51 = .ok (.aload_n 0, 1) := dk_42 (dk_at dksX2_keepsAs_2 5 rfl rfl)
theorem dX2_keepsAs_52 : decode cX2_keepsAs 52 = .ok (.bipush 30, 2) := dk_16 30 (dk_at dksX2_keepsAs_2 6 rfl rfl)
theorem dX2_keepsAs_54 : decode cX2_keepsAs 54 = .ok (.invokevirtual 335, 3) := dk_182 1 79 (dk_at dksX2_keepsAs_2 8 rfl rfl)
theorem dX2_keepsAs_57 : decode cX2_keepsAs 57 = .ok (.aload_n 0, 1) := dk_42 (dk_at dksX2_keepsAs_2 11 rfl rfl)
theorem dX2_keepsAs_58 : decode cX2_keepsAs 58 = .ok (.iconst 0, 1) := dk_3 (dk_at dksX2_keepsAs_2 12 rfl rfl)
theorem dX2_keepsAs_59 : decode cX2_keepsAs 59 = .ok (.iload_n 2, 1) := dk_28 (dk_at dksX2_keepsAs_2 13 rfl rfl)
theorem dX2_keepsAs_60 : decode cX2_keepsAs 60 = .ok (.invokevirtual 344, 3) := dk_182 1 88 (dk_at dksX2_keepsAs_2 14 rfl rfl)
theorem dX2_keepsAs_63 : decode cX2_keepsAs 63 = .ok (.ineg, 1) := dk_116 (dk_at dksX2_keepsAs_2 17 rfl rfl)
theorem dX2_keepsAs_64 : decode cX2_keepsAs 64 = .ok (.ireturn, 1) := dk_172 (dk_at dksX2_keepsAs_2 18 rfl rfl)
theorem dX2_keepsAs_65 : decode cX2_keepsAs 65 = .ok (.aload_n 0, 1) := dk_42 (dk_at dksX2_keepsAs_2 19 rfl rfl)
theorem dX2_keepsAs_66 : decode cX2_keepsAs 66 = .ok (.bipush 10, 2) := dk_16 10 (dk_at dksX2_keepsAs_2 20 rfl rfl)
theorem dX2_keepsAs_68 : decode cX2_keepsAs 68 = .ok (.invokevirtual 335, 3) := dk_182 1 79 (dk_at dksX2_keepsAs_3 0 rfl rfl)
theorem dX2_keepsAs_71 : decode cX2_keepsAs 71 = .ok (.aload_n 0, 1) := dk_42 (dk_at dksX2_keepsAs_3 3 rfl rfl)
theorem dX2_keepsAs_72 : decode cX2_keepsAs 72 = .ok (.aload_n 0, 1) := dk_42 (dk_at dksX2_keepsAs_3 4 rfl rfl)
theorem dX2_keepsAs_73 : decode cX2_keepsAs 73 = .ok (.getfield 347, 3) := dk_180 1 91 (dk_at dksX2_keepsAs_3 5 rfl rfl)
theorem dX2_keepsAs_76 : decode cX2_keepsAs 76 = .ok (.iload_n 2, 1) := dk_28 (dk_at dksX2_keepsAs_3 8 rfl rfl)
theorem dX2_keepsAs_77 : decode cX2_keepsAs 77 = .ok (.invokevirtual 338, 3) := dk_182 1 82 (dk_at dksX2_keepsAs_3 9 rfl rfl)
theorem dX2_keepsAs_80 : decode cX2_keepsAs 80 = .ok (.iconst 2, 1) := dk_5 (dk_at dksX2_keepsAs_3 12 rfl rfl)
theorem dX2_keepsAs_81 : decode cX2_keepsAs 81 = .ok (.imul, 1) := dk_104 (dk_at dksX2_keepsAs_3 13 rfl rfl)
theorem dX2_keepsAs_82 : decode cX2_keepsAs 82 = .ok (.ireturn, 1) := dk_172 (dk_at dksX2_keepsAs_3 14 rfl rfl)
abbrev cX2_lendsAs : ByteArray := prog_32_method_79_code
def yX2_lendsAs : MethodName := ⟨RX2, "lendsAs", "(II)I"⟩
def dkwX2_lendsAs_3 : List UInt8 := [130, 172]
abbrev dktX2_lendsAs_3 : List UInt8 := dkwX2_lendsAs_3 ++ []
def dkwX2_lendsAs_2 : List UInt8 := [62, 29, 42, 42, 180, 1, 91, 5, 182, 1, 82, 100, 172, 42, 16, 11, 182, 1, 79, 28, 42, 180, 1, 85]
abbrev dktX2_lendsAs_2 : List UInt8 := dkwX2_lendsAs_2 ++ dktX2_lendsAs_3
def dkwX2_lendsAs_1 : List UInt8 := [172, 27, 7, 159, 0, 9, 27, 16, 7, 160, 0, 28, 42, 16, 50, 182, 1, 79, 42, 3, 28, 182, 1, 94]
abbrev dktX2_lendsAs_1 : List UInt8 := dkwX2_lendsAs_1 ++ dktX2_lendsAs_2
def dkwX2_lendsAs_0 : List UInt8 := [27, 6, 159, 0, 8, 27, 8, 160, 0, 18, 42, 16, 40, 182, 1, 79, 42, 3, 28, 182, 1, 94, 6, 104]
abbrev dktX2_lendsAs_0 : List UInt8 := dkwX2_lendsAs_0 ++ dktX2_lendsAs_1
theorem dksX2_lendsAs_0 : cX2_lendsAs.data.toList.drop 0 = dktX2_lendsAs_0 := by decide +kernel
theorem dksX2_lendsAs_1 : cX2_lendsAs.data.toList.drop 24 = dktX2_lendsAs_1 := dk_seg dksX2_lendsAs_0 24 rfl rfl
theorem dksX2_lendsAs_2 : cX2_lendsAs.data.toList.drop 48 = dktX2_lendsAs_2 := dk_seg dksX2_lendsAs_1 24 rfl rfl
theorem dksX2_lendsAs_3 : cX2_lendsAs.data.toList.drop 72 = dktX2_lendsAs_3 := dk_seg dksX2_lendsAs_2 24 rfl rfl
theorem dX2_lendsAs_0 : decode cX2_lendsAs 0 = .ok (.iload_n 1, 1) := dk_27 (dk_at dksX2_lendsAs_0 0 rfl rfl)
theorem dX2_lendsAs_1 : decode cX2_lendsAs 1 = .ok (.iconst 3, 1) := dk_6 (dk_at dksX2_lendsAs_0 1 rfl rfl)
theorem dX2_lendsAs_2 : decode cX2_lendsAs 2 = .ok (.if_icmp .eq 8, 3) := dk_159 0 8 (dk_at dksX2_lendsAs_0 2 rfl rfl)
theorem dX2_lendsAs_5 : decode cX2_lendsAs 5 = .ok (.iload_n 1, 1) := dk_27 (dk_at dksX2_lendsAs_0 5 rfl rfl)
theorem dX2_lendsAs_6 : decode cX2_lendsAs 6 = .ok (.iconst 5, 1) := dk_8 (dk_at dksX2_lendsAs_0 6 rfl rfl)
theorem dX2_lendsAs_7 : decode cX2_lendsAs 7 = .ok (.if_icmp .ne 18, 3) := dk_160 0 18 (dk_at dksX2_lendsAs_0 7 rfl rfl)
theorem dX2_lendsAs_10 : decode cX2_lendsAs 10 = .ok (.aload_n 0, 1) := dk_42 (dk_at dksX2_lendsAs_0 10 rfl rfl)
theorem dX2_lendsAs_11 : decode cX2_lendsAs 11 = .ok (.bipush 40, 2) := dk_16 40 (dk_at dksX2_lendsAs_0 11 rfl rfl)
theorem dX2_lendsAs_13 : decode cX2_lendsAs 13 = .ok (.invokevirtual 335, 3) := dk_182 1 79 (dk_at dksX2_lendsAs_0 13 rfl rfl)
theorem dX2_lendsAs_16 : decode cX2_lendsAs 16 = .ok (.aload_n 0, 1) := dk_42 (dk_at dksX2_lendsAs_0 16 rfl rfl)
theorem dX2_lendsAs_17 : decode cX2_lendsAs 17 = .ok (.iconst 0, 1) := dk_3 (dk_at dksX2_lendsAs_0 17 rfl rfl)
theorem dX2_lendsAs_18 : decode cX2_lendsAs 18 = .ok (.iload_n 2, 1) := dk_28 (dk_at dksX2_lendsAs_0 18 rfl rfl)
theorem dX2_lendsAs_19 : decode cX2_lendsAs 19 = .ok (.invokevirtual 350, 3) := dk_182 1 94 (dk_at dksX2_lendsAs_0 19 rfl rfl)
theorem dX2_lendsAs_22 : decode cX2_lendsAs 22 = .ok (.iconst 3, 1) := dk_6 (dk_at dksX2_lendsAs_0 22 rfl rfl)
theorem dX2_lendsAs_23 : decode cX2_lendsAs 23 = .ok (.imul, 1) := dk_104 (dk_at dksX2_lendsAs_0 23 rfl rfl)
theorem dX2_lendsAs_24 : decode cX2_lendsAs 24 = .ok (.ireturn, 1) := dk_172 (dk_at dksX2_lendsAs_1 0 rfl rfl)
theorem dX2_lendsAs_25 : decode cX2_lendsAs 25 = .ok (.iload_n 1, 1) := dk_27 (dk_at dksX2_lendsAs_1 1 rfl rfl)
theorem dX2_lendsAs_26 : decode cX2_lendsAs 26 = .ok (.iconst 4, 1) := dk_7 (dk_at dksX2_lendsAs_1 2 rfl rfl)
theorem dX2_lendsAs_27 : decode cX2_lendsAs 27 = .ok (.if_icmp .eq 9, 3) := dk_159 0 9 (dk_at dksX2_lendsAs_1 3 rfl rfl)
theorem dX2_lendsAs_30 : decode cX2_lendsAs 30 = .ok (.iload_n 1, 1) := dk_27 (dk_at dksX2_lendsAs_1 6 rfl rfl)
theorem dX2_lendsAs_31 : decode cX2_lendsAs 31 = .ok (.bipush 7, 2) := dk_16 7 (dk_at dksX2_lendsAs_1 7 rfl rfl)
theorem dX2_lendsAs_33 : decode cX2_lendsAs 33 = .ok (.if_icmp .ne 28, 3) := dk_160 0 28 (dk_at dksX2_lendsAs_1 9 rfl rfl)
theorem dX2_lendsAs_36 : decode cX2_lendsAs 36 = .ok (.aload_n 0, 1) := dk_42 (dk_at dksX2_lendsAs_1 12 rfl rfl)
theorem dX2_lendsAs_37 : decode cX2_lendsAs 37 = .ok (.bipush 50, 2) := dk_16 50 (dk_at dksX2_lendsAs_1 13 rfl rfl)
theorem dX2_lendsAs_39 : decode cX2_lendsAs 39 = .ok (.invokevirtual 335, 3) := dk_182 1 79 (dk_at dksX2_lendsAs_1 15 rfl rfl)
theorem dX2_lendsAs_42 : decode cX2_lendsAs 42 = .ok (.aload_n 0, 1) := dk_42 (dk_at dksX2_lendsAs_1 18 rfl rfl)
theorem dX2_lendsAs_43 : decode cX2_lendsAs 43 = .ok (.iconst 0, 1) := dk_3 (dk_at dksX2_lendsAs_1 19 rfl rfl)
theorem dX2_lendsAs_44 : decode cX2_lendsAs 44 = .ok (.iload_n 2, 1) := dk_28 (dk_at dksX2_lendsAs_1 20 rfl rfl)
theorem dX2_lendsAs_45 : decode cX2_lendsAs 45 = .ok (.invokevirtual 350, 3) := dk_182 1 94 (dk_at dksX2_lendsAs_1 21 rfl rfl)
theorem dX2_lendsAs_48 : decode cX2_lendsAs 48 = .ok (.istore_n 3, 1) := dk_62 (dk_at dksX2_lendsAs_2 0 rfl rfl)
theorem dX2_lendsAs_49 : decode cX2_lendsAs 49 = .ok (.iload_n 3, 1) := dk_29 (dk_at dksX2_lendsAs_2 1 rfl rfl)
theorem dX2_lendsAs_50 : decode cX2_lendsAs 50 = .ok (.aload_n 0, 1) := dk_42 (dk_at dksX2_lendsAs_2 2 rfl rfl)
theorem dX2_lendsAs_51 : decode cX2_lendsAs 51 = .ok (.aload_n 0, 1) := dk_42 (dk_at dksX2_lendsAs_2 3 rfl rfl)
theorem dX2_lendsAs_52 : decode cX2_lendsAs 52 = .ok (.getfield 347, 3) := dk_180 1 91 (dk_at dksX2_lendsAs_2 4 rfl rfl)
theorem dX2_lendsAs_55 : decode cX2_lendsAs 55 = .ok (.iconst 2, 1) := dk_5 (dk_at dksX2_lendsAs_2 7 rfl rfl)
theorem dX2_lendsAs_56 : decode cX2_lendsAs 56 = .ok (.invokevirtual 338, 3) := dk_182 1 82 (dk_at dksX2_lendsAs_2 8 rfl rfl)
theorem dX2_lendsAs_59 : decode cX2_lendsAs 59 = .ok (.isub, 1) := dk_100 (dk_at dksX2_lendsAs_2 11 rfl rfl)
theorem dX2_lendsAs_60 : decode cX2_lendsAs 60 = .ok (.ireturn, 1) := dk_172 (dk_at dksX2_lendsAs_2 12 rfl rfl)
theorem dX2_lendsAs_61 : decode cX2_lendsAs 61 = .ok (.aload_n 0, 1) := dk_42 (dk_at dksX2_lendsAs_2 13 rfl rfl)
theorem dX2_lendsAs_62 : decode cX2_lendsAs 62 = .ok (.bipush 11, 2) := dk_16 11 (dk_at dksX2_lendsAs_2 14 rfl rfl)
theorem dX2_lendsAs_64 : decode cX2_lendsAs 64 = .ok (.invokevirtual 335, 3) := dk_182 1 79 (dk_at dksX2_lendsAs_2 16 rfl rfl)
theorem dX2_lendsAs_67 : decode cX2_lendsAs 67 = .ok (.iload_n 2, 1) := dk_28 (dk_at dksX2_lendsAs_2 19 rfl rfl)
theorem dX2_lendsAs_68 : decode cX2_lendsAs 68 = .ok (.aload_n 0, 1) := dk_42 (dk_at dksX2_lendsAs_2 20 rfl rfl)
theorem dX2_lendsAs_69 : decode cX2_lendsAs 69 = .ok (.getfield 341, 3) := dk_180 1 85 (dk_at dksX2_lendsAs_2 21 rfl rfl)
theorem dX2_lendsAs_72 : decode cX2_lendsAs 72 = .ok (.ixor, 1) := dk_130 (dk_at dksX2_lendsAs_3 0 rfl rfl)
theorem dX2_lendsAs_73 : decode cX2_lendsAs 73 = .ok (.ireturn, 1) := dk_172 (dk_at dksX2_lendsAs_3 1 rfl rfl)
abbrev cX2_tellsAs : ByteArray := prog_32_method_80_code
def yX2_tellsAs : MethodName := ⟨RX2, "tellsAs", "(II)I"⟩
def dkwX2_tellsAs_2 : List UInt8 := [42, 180, 1, 91, 28, 182, 1, 88, 62, 29, 42, 42, 180, 1, 91, 4, 182, 1, 94, 100, 172]
abbrev dktX2_tellsAs_2 : List UInt8 := dkwX2_tellsAs_2 ++ []
def dkwX2_tellsAs_1 : List UInt8 := [160, 0, 18, 42, 16, 81, 182, 1, 79, 42, 7, 28, 182, 1, 97, 4, 100, 172, 42, 5, 182, 1, 79, 42]
abbrev dktX2_tellsAs_1 : List UInt8 := dkwX2_tellsAs_1 ++ dktX2_tellsAs_2
def dkwX2_tellsAs_0 : List UInt8 := [27, 8, 160, 0, 18, 42, 16, 61, 182, 1, 79, 42, 6, 28, 182, 1, 97, 8, 130, 172, 27, 16, 7]
abbrev dktX2_tellsAs_0 : List UInt8 := dkwX2_tellsAs_0 ++ dktX2_tellsAs_1
theorem dksX2_tellsAs_0 : cX2_tellsAs.data.toList.drop 0 = dktX2_tellsAs_0 := by decide +kernel
theorem dksX2_tellsAs_1 : cX2_tellsAs.data.toList.drop 23 = dktX2_tellsAs_1 := dk_seg dksX2_tellsAs_0 23 rfl rfl
theorem dksX2_tellsAs_2 : cX2_tellsAs.data.toList.drop 47 = dktX2_tellsAs_2 := dk_seg dksX2_tellsAs_1 24 rfl rfl
theorem dX2_tellsAs_0 : decode cX2_tellsAs 0 = .ok (.iload_n 1, 1) := dk_27 (dk_at dksX2_tellsAs_0 0 rfl rfl)
theorem dX2_tellsAs_1 : decode cX2_tellsAs 1 = .ok (.iconst 5, 1) := dk_8 (dk_at dksX2_tellsAs_0 1 rfl rfl)
theorem dX2_tellsAs_2 : decode cX2_tellsAs 2 = .ok (.if_icmp .ne 18, 3) := dk_160 0 18 (dk_at dksX2_tellsAs_0 2 rfl rfl)
theorem dX2_tellsAs_5 : decode cX2_tellsAs 5 = .ok (.aload_n 0, 1) := dk_42 (dk_at dksX2_tellsAs_0 5 rfl rfl)
theorem dX2_tellsAs_6 : decode cX2_tellsAs 6 = .ok (.bipush 61, 2) := dk_16 61 (dk_at dksX2_tellsAs_0 6 rfl rfl)
theorem dX2_tellsAs_8 : decode cX2_tellsAs 8 = .ok (.invokevirtual 335, 3) := dk_182 1 79 (dk_at dksX2_tellsAs_0 8 rfl rfl)
theorem dX2_tellsAs_11 : decode cX2_tellsAs 11 = .ok (.aload_n 0, 1) := dk_42 (dk_at dksX2_tellsAs_0 11 rfl rfl)
theorem dX2_tellsAs_12 : decode cX2_tellsAs 12 = .ok (.iconst 3, 1) := dk_6 (dk_at dksX2_tellsAs_0 12 rfl rfl)
theorem dX2_tellsAs_13 : decode cX2_tellsAs 13 = .ok (.iload_n 2, 1) := dk_28 (dk_at dksX2_tellsAs_0 13 rfl rfl)
theorem dX2_tellsAs_14 : decode cX2_tellsAs 14 = .ok (.invokevirtual 353, 3) := dk_182 1 97 (dk_at dksX2_tellsAs_0 14 rfl rfl)
theorem dX2_tellsAs_17 : decode cX2_tellsAs 17 = .ok (.iconst 5, 1) := dk_8 (dk_at dksX2_tellsAs_0 17 rfl rfl)
theorem dX2_tellsAs_18 : decode cX2_tellsAs 18 = .ok (.ixor, 1) := dk_130 (dk_at dksX2_tellsAs_0 18 rfl rfl)
theorem dX2_tellsAs_19 : decode cX2_tellsAs 19 = .ok (.ireturn, 1) := dk_172 (dk_at dksX2_tellsAs_0 19 rfl rfl)
theorem dX2_tellsAs_20 : decode cX2_tellsAs 20 = .ok (.iload_n 1, 1) := dk_27 (dk_at dksX2_tellsAs_0 20 rfl rfl)
theorem dX2_tellsAs_21 : decode cX2_tellsAs 21 = .ok (.bipush 7, 2) := dk_16 7 (dk_at dksX2_tellsAs_0 21 rfl rfl)
theorem dX2_tellsAs_23 : decode cX2_tellsAs 23 = .ok (.if_icmp .ne 18, 3) := dk_160 0 18 (dk_at dksX2_tellsAs_1 0 rfl rfl)
theorem dX2_tellsAs_26 : decode cX2_tellsAs 26 = .ok (.aload_n 0, 1) := dk_42 (dk_at dksX2_tellsAs_1 3 rfl rfl)
theorem dX2_tellsAs_27 : decode cX2_tellsAs 27 = .ok (.bipush 81, 2) := dk_16 81 (dk_at dksX2_tellsAs_1 4 rfl rfl)
theorem dX2_tellsAs_29 : decode cX2_tellsAs 29 = .ok (.invokevirtual 335, 3) := dk_182 1 79 (dk_at dksX2_tellsAs_1 6 rfl rfl)
theorem dX2_tellsAs_32 : decode cX2_tellsAs 32 = .ok (.aload_n 0, 1) := dk_42 (dk_at dksX2_tellsAs_1 9 rfl rfl)
theorem dX2_tellsAs_33 : decode cX2_tellsAs 33 = .ok (.iconst 4, 1) := dk_7 (dk_at dksX2_tellsAs_1 10 rfl rfl)
theorem dX2_tellsAs_34 : decode cX2_tellsAs 34 = .ok (.iload_n 2, 1) := dk_28 (dk_at dksX2_tellsAs_1 11 rfl rfl)
theorem dX2_tellsAs_35 : decode cX2_tellsAs 35 = .ok (.invokevirtual 353, 3) := dk_182 1 97 (dk_at dksX2_tellsAs_1 12 rfl rfl)
theorem dX2_tellsAs_38 : decode cX2_tellsAs 38 = .ok (.iconst 1, 1) := dk_4 (dk_at dksX2_tellsAs_1 15 rfl rfl)
theorem dX2_tellsAs_39 : decode cX2_tellsAs 39 = .ok (.isub, 1) := dk_100 (dk_at dksX2_tellsAs_1 16 rfl rfl)
theorem dX2_tellsAs_40 : decode cX2_tellsAs 40 = .ok (.ireturn, 1) := dk_172 (dk_at dksX2_tellsAs_1 17 rfl rfl)
theorem dX2_tellsAs_41 : decode cX2_tellsAs 41 = .ok (.aload_n 0, 1) := dk_42 (dk_at dksX2_tellsAs_1 18 rfl rfl)
theorem dX2_tellsAs_42 : decode cX2_tellsAs 42 = .ok (.iconst 2, 1) := dk_5 (dk_at dksX2_tellsAs_1 19 rfl rfl)
theorem dX2_tellsAs_43 : decode cX2_tellsAs 43 = .ok (.invokevirtual 335, 3) := dk_182 1 79 (dk_at dksX2_tellsAs_1 20 rfl rfl)
theorem dX2_tellsAs_46 : decode cX2_tellsAs 46 = .ok (.aload_n 0, 1) := dk_42 (dk_at dksX2_tellsAs_1 23 rfl rfl)
theorem dX2_tellsAs_47 : decode cX2_tellsAs 47 = .ok (.aload_n 0, 1) := dk_42 (dk_at dksX2_tellsAs_2 0 rfl rfl)
theorem dX2_tellsAs_48 : decode cX2_tellsAs 48 = .ok (.getfield 347, 3) := dk_180 1 91 (dk_at dksX2_tellsAs_2 1 rfl rfl)
theorem dX2_tellsAs_51 : decode cX2_tellsAs 51 = .ok (.iload_n 2, 1) := dk_28 (dk_at dksX2_tellsAs_2 4 rfl rfl)
theorem dX2_tellsAs_52 : decode cX2_tellsAs 52 = .ok (.invokevirtual 344, 3) := dk_182 1 88 (dk_at dksX2_tellsAs_2 5 rfl rfl)
theorem dX2_tellsAs_55 : decode cX2_tellsAs 55 = .ok (.istore_n 3, 1) := dk_62 (dk_at dksX2_tellsAs_2 8 rfl rfl)
theorem dX2_tellsAs_56 : decode cX2_tellsAs 56 = .ok (.iload_n 3, 1) := dk_29 (dk_at dksX2_tellsAs_2 9 rfl rfl)
theorem dX2_tellsAs_57 : decode cX2_tellsAs 57 = .ok (.aload_n 0, 1) := dk_42 (dk_at dksX2_tellsAs_2 10 rfl rfl)
theorem dX2_tellsAs_58 : decode cX2_tellsAs 58 = .ok (.aload_n 0, 1) := dk_42 (dk_at dksX2_tellsAs_2 11 rfl rfl)
theorem dX2_tellsAs_59 : decode cX2_tellsAs 59 = .ok (.getfield 347, 3) := dk_180 1 91 (dk_at dksX2_tellsAs_2 12 rfl rfl)
theorem dX2_tellsAs_62 : decode cX2_tellsAs 62 = .ok (.iconst 1, 1) := dk_4 (dk_at dksX2_tellsAs_2 15 rfl rfl)
theorem dX2_tellsAs_63 : decode cX2_tellsAs 63 = .ok (.invokevirtual 350, 3) := dk_182 1 94 (dk_at dksX2_tellsAs_2 16 rfl rfl)
theorem dX2_tellsAs_66 : decode cX2_tellsAs 66 = .ok (.isub, 1) := dk_100 (dk_at dksX2_tellsAs_2 19 rfl rfl)
theorem dX2_tellsAs_67 : decode cX2_tellsAs 67 = .ok (.ireturn, 1) := dk_172 (dk_at dksX2_tellsAs_2 20 rfl rfl)
abbrev cX2_trace : ByteArray := prog_32_method_82_code
def yX2_trace : MethodName := ⟨RX2, "trace", "(I)I"⟩
def dkwX2_trace_1 : List UInt8 := [167, 0, 4, 2, 172]
abbrev dktX2_trace_1 : List UInt8 := dkwX2_trace_1 ++ []
def dkwX2_trace_0 : List UInt8 := [27, 155, 0, 26, 27, 42, 180, 1, 76, 162, 0, 18, 27, 16, 24, 162, 0, 12, 42, 180, 0, 80, 27, 46]
abbrev dktX2_trace_0 : List UInt8 := dkwX2_trace_0 ++ dktX2_trace_1
theorem dksX2_trace_0 : cX2_trace.data.toList.drop 0 = dktX2_trace_0 := by decide +kernel
theorem dksX2_trace_1 : cX2_trace.data.toList.drop 24 = dktX2_trace_1 := dk_seg dksX2_trace_0 24 rfl rfl
theorem dX2_trace_0 : decode cX2_trace 0 = .ok (.iload_n 1, 1) := dk_27 (dk_at dksX2_trace_0 0 rfl rfl)
theorem dX2_trace_1 : decode cX2_trace 1 = .ok (.ifCond .lt 26, 3) := dk_155 0 26 (dk_at dksX2_trace_0 1 rfl rfl)
theorem dX2_trace_4 : decode cX2_trace 4 = .ok (.iload_n 1, 1) := dk_27 (dk_at dksX2_trace_0 4 rfl rfl)
theorem dX2_trace_5 : decode cX2_trace 5 = .ok (.aload_n 0, 1) := dk_42 (dk_at dksX2_trace_0 5 rfl rfl)
theorem dX2_trace_6 : decode cX2_trace 6 = .ok (.getfield 332, 3) := dk_180 1 76 (dk_at dksX2_trace_0 6 rfl rfl)
theorem dX2_trace_9 : decode cX2_trace 9 = .ok (.if_icmp .ge 18, 3) := dk_162 0 18 (dk_at dksX2_trace_0 9 rfl rfl)
theorem dX2_trace_12 : decode cX2_trace 12 = .ok (.iload_n 1, 1) := dk_27 (dk_at dksX2_trace_0 12 rfl rfl)
theorem dX2_trace_13 : decode cX2_trace 13 = .ok (.bipush 24, 2) := dk_16 24 (dk_at dksX2_trace_0 13 rfl rfl)
theorem dX2_trace_15 : decode cX2_trace 15 = .ok (.if_icmp .ge 12, 3) := dk_162 0 12 (dk_at dksX2_trace_0 15 rfl rfl)
theorem dX2_trace_18 : decode cX2_trace 18 = .ok (.aload_n 0, 1) := dk_42 (dk_at dksX2_trace_0 18 rfl rfl)
theorem dX2_trace_19 : decode cX2_trace 19 = .ok (.getfield 80, 3) := dk_180 0 80 (dk_at dksX2_trace_0 19 rfl rfl)
theorem dX2_trace_22 : decode cX2_trace 22 = .ok (.iload_n 1, 1) := dk_27 (dk_at dksX2_trace_0 22 rfl rfl)
theorem dX2_trace_23 : decode cX2_trace 23 = .ok (.iaload, 1) := dk_46 (dk_at dksX2_trace_0 23 rfl rfl)
theorem dX2_trace_24 : decode cX2_trace 24 = .ok (.goto 4, 3) := dk_167 0 4 (dk_at dksX2_trace_1 0 rfl rfl)
theorem dX2_trace_27 : decode cX2_trace 27 = .ok (.iconst (-1), 1) := dk_2 (dk_at dksX2_trace_1 3 rfl rfl)
theorem dX2_trace_28 : decode cX2_trace 28 = .ok (.ireturn, 1) := dk_172 (dk_at dksX2_trace_1 4 rfl rfl)
abbrev cX2_keep : ByteArray := prog_32_method_84_code
def yX2_keep : MethodName := ⟨RX2, "keep", "(II)I"⟩
def dkwX2_keep_1 : List UInt8 := [180, 0, 83, 27, 28, 79, 42, 180, 0, 86, 27, 3, 79, 4, 172]
abbrev dktX2_keep_1 : List UInt8 := dkwX2_keep_1 ++ []
def dkwX2_keep_0 : List UInt8 := [27, 184, 0, 126, 153, 0, 16, 28, 2, 159, 0, 13, 42, 28, 182, 1, 100, 154, 0, 5, 2, 172, 42]
abbrev dktX2_keep_0 : List UInt8 := dkwX2_keep_0 ++ dktX2_keep_1
theorem dksX2_keep_0 : cX2_keep.data.toList.drop 0 = dktX2_keep_0 := by decide +kernel
theorem dksX2_keep_1 : cX2_keep.data.toList.drop 23 = dktX2_keep_1 := dk_seg dksX2_keep_0 23 rfl rfl
theorem dX2_keep_0 : decode cX2_keep 0 = .ok (.iload_n 1, 1) := dk_27 (dk_at dksX2_keep_0 0 rfl rfl)
theorem dX2_keep_1 : decode cX2_keep 1 = .ok (.invokestatic 126, 3) := dk_184 0 126 (dk_at dksX2_keep_0 1 rfl rfl)
theorem dX2_keep_4 : decode cX2_keep 4 = .ok (.ifCond .eq 16, 3) := dk_153 0 16 (dk_at dksX2_keep_0 4 rfl rfl)
theorem dX2_keep_7 : decode cX2_keep 7 = .ok (.iload_n 2, 1) := dk_28 (dk_at dksX2_keep_0 7 rfl rfl)
theorem dX2_keep_8 : decode cX2_keep 8 = .ok (.iconst (-1), 1) := dk_2 (dk_at dksX2_keep_0 8 rfl rfl)
theorem dX2_keep_9 : decode cX2_keep 9 = .ok (.if_icmp .eq 13, 3) := dk_159 0 13 (dk_at dksX2_keep_0 9 rfl rfl)
theorem dX2_keep_12 : decode cX2_keep 12 = .ok (.aload_n 0, 1) := dk_42 (dk_at dksX2_keep_0 12 rfl rfl)
theorem dX2_keep_13 : decode cX2_keep 13 = .ok (.iload_n 2, 1) := dk_28 (dk_at dksX2_keep_0 13 rfl rfl)
theorem dX2_keep_14 : decode cX2_keep 14 = .ok (.invokevirtual 356, 3) := dk_182 1 100 (dk_at dksX2_keep_0 14 rfl rfl)
theorem dX2_keep_17 : decode cX2_keep 17 = .ok (.ifCond .ne 5, 3) := dk_154 0 5 (dk_at dksX2_keep_0 17 rfl rfl)
theorem dX2_keep_20 : decode cX2_keep 20 = .ok (.iconst (-1), 1) := dk_2 (dk_at dksX2_keep_0 20 rfl rfl)
theorem dX2_keep_21 : decode cX2_keep 21 = .ok (.ireturn, 1) := dk_172 (dk_at dksX2_keep_0 21 rfl rfl)
theorem dX2_keep_22 : decode cX2_keep 22 = .ok (.aload_n 0, 1) := dk_42 (dk_at dksX2_keep_0 22 rfl rfl)
theorem dX2_keep_23 : decode cX2_keep 23 = .ok (.getfield 83, 3) := dk_180 0 83 (dk_at dksX2_keep_1 0 rfl rfl)
theorem dX2_keep_26 : decode cX2_keep 26 = .ok (.iload_n 1, 1) := dk_27 (dk_at dksX2_keep_1 3 rfl rfl)
theorem dX2_keep_27 : decode cX2_keep 27 = .ok (.iload_n 2, 1) := dk_28 (dk_at dksX2_keep_1 4 rfl rfl)
theorem dX2_keep_28 : decode cX2_keep 28 = .ok (.iastore, 1) := dk_79 (dk_at dksX2_keep_1 5 rfl rfl)
theorem dX2_keep_29 : decode cX2_keep 29 = .ok (.aload_n 0, 1) := dk_42 (dk_at dksX2_keep_1 6 rfl rfl)
theorem dX2_keep_30 : decode cX2_keep 30 = .ok (.getfield 86, 3) := dk_180 0 86 (dk_at dksX2_keep_1 7 rfl rfl)
theorem dX2_keep_33 : decode cX2_keep 33 = .ok (.iload_n 1, 1) := dk_27 (dk_at dksX2_keep_1 10 rfl rfl)
theorem dX2_keep_34 : decode cX2_keep 34 = .ok (.iconst 0, 1) := dk_3 (dk_at dksX2_keep_1 11 rfl rfl)
theorem dX2_keep_35 : decode cX2_keep 35 = .ok (.iastore, 1) := dk_79 (dk_at dksX2_keep_1 12 rfl rfl)
theorem dX2_keep_36 : decode cX2_keep 36 = .ok (.iconst 1, 1) := dk_4 (dk_at dksX2_keep_1 13 rfl rfl)
theorem dX2_keep_37 : decode cX2_keep 37 = .ok (.ireturn, 1) := dk_172 (dk_at dksX2_keep_1 14 rfl rfl)
abbrev cX2_row : ByteArray := prog_32_method_85_code
def yX2_row : MethodName := ⟨RX2, "row", "(III)I"⟩
def dkwX2_row_3 : List UInt8 := [42, 180, 0, 89, 21, 4, 9, 80, 132, 4, 1, 167, 255, 233, 4, 172]
abbrev dktX2_row_3 : List UInt8 := dkwX2_row_3 ++ []
def dkwX2_row_2 : List UInt8 := [180, 0, 86, 27, 29, 79, 16, 60, 27, 104, 54, 4, 21, 4, 16, 60, 27, 104, 16, 60, 96, 162, 0, 17]
abbrev dktX2_row_2 : List UInt8 := dkwX2_row_2 ++ dktX2_row_3
def dkwX2_row_1 : List UInt8 := [164, 0, 5, 2, 172, 29, 156, 0, 6, 16, 242, 172, 42, 180, 0, 83, 27, 16, 50, 28, 96, 79, 42]
abbrev dktX2_row_1 : List UInt8 := dkwX2_row_1 ++ dktX2_row_2
def dkwX2_row_0 : List UInt8 := [27, 184, 0, 126, 153, 0, 21, 28, 133, 9, 20, 0, 156, 184, 0, 105, 153, 0, 9, 29, 16, 60]
abbrev dktX2_row_0 : List UInt8 := dkwX2_row_0 ++ dktX2_row_1
theorem dksX2_row_0 : cX2_row.data.toList.drop 0 = dktX2_row_0 := by decide +kernel
theorem dksX2_row_1 : cX2_row.data.toList.drop 22 = dktX2_row_1 := dk_seg dksX2_row_0 22 rfl rfl
theorem dksX2_row_2 : cX2_row.data.toList.drop 45 = dktX2_row_2 := dk_seg dksX2_row_1 23 rfl rfl
theorem dksX2_row_3 : cX2_row.data.toList.drop 69 = dktX2_row_3 := dk_seg dksX2_row_2 24 rfl rfl
theorem dX2_row_0 : decode cX2_row 0 = .ok (.iload_n 1, 1) := dk_27 (dk_at dksX2_row_0 0 rfl rfl)
theorem dX2_row_1 : decode cX2_row 1 = .ok (.invokestatic 126, 3) := dk_184 0 126 (dk_at dksX2_row_0 1 rfl rfl)
theorem dX2_row_4 : decode cX2_row 4 = .ok (.ifCond .eq 21, 3) := dk_153 0 21 (dk_at dksX2_row_0 4 rfl rfl)
theorem dX2_row_7 : decode cX2_row 7 = .ok (.iload_n 2, 1) := dk_28 (dk_at dksX2_row_0 7 rfl rfl)
theorem dX2_row_8 : decode cX2_row 8 = .ok (.i2l, 1) := dk_133 (dk_at dksX2_row_0 8 rfl rfl)
theorem dX2_row_9 : decode cX2_row 9 = .ok (.lconst 0, 1) := dk_9 (dk_at dksX2_row_0 9 rfl rfl)
theorem dX2_row_10 : decode cX2_row 10 = .ok (.ldc2_w 156, 3) := dk_20 0 156 (dk_at dksX2_row_0 10 rfl rfl)
theorem dX2_row_13 : decode cX2_row 13 = .ok (.invokestatic 105, 3) := dk_184 0 105 (dk_at dksX2_row_0 13 rfl rfl)
theorem dX2_row_16 : decode cX2_row 16 = .ok (.ifCond .eq 9, 3) := dk_153 0 9 (dk_at dksX2_row_0 16 rfl rfl)
theorem dX2_row_19 : decode cX2_row 19 = .ok (.iload_n 3, 1) := dk_29 (dk_at dksX2_row_0 19 rfl rfl)
theorem dX2_row_20 : decode cX2_row 20 = .ok (.bipush 60, 2) := dk_16 60 (dk_at dksX2_row_0 20 rfl rfl)
theorem dX2_row_22 : decode cX2_row 22 = .ok (.if_icmp .le 5, 3) := dk_164 0 5 (dk_at dksX2_row_1 0 rfl rfl)
theorem dX2_row_25 : decode cX2_row 25 = .ok (.iconst (-1), 1) := dk_2 (dk_at dksX2_row_1 3 rfl rfl)
theorem dX2_row_26 : decode cX2_row 26 = .ok (.ireturn, 1) := dk_172 (dk_at dksX2_row_1 4 rfl rfl)
theorem dX2_row_27 : decode cX2_row 27 = .ok (.iload_n 3, 1) := dk_29 (dk_at dksX2_row_1 5 rfl rfl)
theorem dX2_row_28 : decode cX2_row 28 = .ok (.ifCond .ge 6, 3) := dk_156 0 6 (dk_at dksX2_row_1 6 rfl rfl)
theorem dX2_row_31 : decode cX2_row 31 = .ok (.bipush (-14), 2) := dk_16 242 (dk_at dksX2_row_1 9 rfl rfl)
theorem dX2_row_33 : decode cX2_row 33 = .ok (.ireturn, 1) := dk_172 (dk_at dksX2_row_1 11 rfl rfl)
theorem dX2_row_34 : decode cX2_row 34 = .ok (.aload_n 0, 1) := dk_42 (dk_at dksX2_row_1 12 rfl rfl)
theorem dX2_row_35 : decode cX2_row 35 = .ok (.getfield 83, 3) := dk_180 0 83 (dk_at dksX2_row_1 13 rfl rfl)
theorem dX2_row_38 : decode cX2_row 38 = .ok (.iload_n 1, 1) := dk_27 (dk_at dksX2_row_1 16 rfl rfl)
theorem dX2_row_39 : decode cX2_row 39 = .ok (.bipush 50, 2) := dk_16 50 (dk_at dksX2_row_1 17 rfl rfl)
theorem dX2_row_41 : decode cX2_row 41 = .ok (.iload_n 2, 1) := dk_28 (dk_at dksX2_row_1 19 rfl rfl)
theorem dX2_row_42 : decode cX2_row 42 = .ok (.iadd, 1) := dk_96 (dk_at dksX2_row_1 20 rfl rfl)
theorem dX2_row_43 : decode cX2_row 43 = .ok (.iastore, 1) := dk_79 (dk_at dksX2_row_1 21 rfl rfl)
theorem dX2_row_44 : decode cX2_row 44 = .ok (.aload_n 0, 1) := dk_42 (dk_at dksX2_row_1 22 rfl rfl)
theorem dX2_row_45 : decode cX2_row 45 = .ok (.getfield 86, 3) := dk_180 0 86 (dk_at dksX2_row_2 0 rfl rfl)
theorem dX2_row_48 : decode cX2_row 48 = .ok (.iload_n 1, 1) := dk_27 (dk_at dksX2_row_2 3 rfl rfl)
theorem dX2_row_49 : decode cX2_row 49 = .ok (.iload_n 3, 1) := dk_29 (dk_at dksX2_row_2 4 rfl rfl)
theorem dX2_row_50 : decode cX2_row 50 = .ok (.iastore, 1) := dk_79 (dk_at dksX2_row_2 5 rfl rfl)
theorem dX2_row_51 : decode cX2_row 51 = .ok (.bipush 60, 2) := dk_16 60 (dk_at dksX2_row_2 6 rfl rfl)
theorem dX2_row_53 : decode cX2_row 53 = .ok (.iload_n 1, 1) := dk_27 (dk_at dksX2_row_2 8 rfl rfl)
theorem dX2_row_54 : decode cX2_row 54 = .ok (.imul, 1) := dk_104 (dk_at dksX2_row_2 9 rfl rfl)
theorem dX2_row_55 : decode cX2_row 55 = .ok (.istore 4, 2) := dk_54 4 (dk_at dksX2_row_2 10 rfl rfl)
theorem dX2_row_57 : decode cX2_row 57 = .ok (.iload 4, 2) := dk_21 4 (dk_at dksX2_row_2 12 rfl rfl)
theorem dX2_row_59 : decode cX2_row 59 = .ok (.bipush 60, 2) := dk_16 60 (dk_at dksX2_row_2 14 rfl rfl)
theorem dX2_row_61 : decode cX2_row 61 = .ok (.iload_n 1, 1) := dk_27 (dk_at dksX2_row_2 16 rfl rfl)
theorem dX2_row_62 : decode cX2_row 62 = .ok (.imul, 1) := dk_104 (dk_at dksX2_row_2 17 rfl rfl)
theorem dX2_row_63 : decode cX2_row 63 = .ok (.bipush 60, 2) := dk_16 60 (dk_at dksX2_row_2 18 rfl rfl)
theorem dX2_row_65 : decode cX2_row 65 = .ok (.iadd, 1) := dk_96 (dk_at dksX2_row_2 20 rfl rfl)
theorem dX2_row_66 : decode cX2_row 66 = .ok (.if_icmp .ge 17, 3) := dk_162 0 17 (dk_at dksX2_row_2 21 rfl rfl)
theorem dX2_row_69 : decode cX2_row 69 = .ok (.aload_n 0, 1) := dk_42 (dk_at dksX2_row_3 0 rfl rfl)
theorem dX2_row_70 : decode cX2_row 70 = .ok (.getfield 89, 3) := dk_180 0 89 (dk_at dksX2_row_3 1 rfl rfl)
theorem dX2_row_73 : decode cX2_row 73 = .ok (.iload 4, 2) := dk_21 4 (dk_at dksX2_row_3 4 rfl rfl)
theorem dX2_row_75 : decode cX2_row 75 = .ok (.lconst 0, 1) := dk_9 (dk_at dksX2_row_3 6 rfl rfl)
theorem dX2_row_76 : decode cX2_row 76 = .ok (.lastore, 1) := dk_80 (dk_at dksX2_row_3 7 rfl rfl)
theorem dX2_row_77 : decode cX2_row 77 = .ok (.iinc 4 1, 3) := dk_132 4 1 (dk_at dksX2_row_3 8 rfl rfl)
theorem dX2_row_80 : decode cX2_row 80 = .ok (.goto (-23), 3) := dk_167 255 233 (dk_at dksX2_row_3 11 rfl rfl)
theorem dX2_row_83 : decode cX2_row 83 = .ok (.iconst 1, 1) := dk_4 (dk_at dksX2_row_3 14 rfl rfl)
theorem dX2_row_84 : decode cX2_row 84 = .ok (.ireturn, 1) := dk_172 (dk_at dksX2_row_3 15 rfl rfl)
abbrev cX2_put : ByteArray := prog_32_method_88_code
def yX2_put : MethodName := ⟨RX2, "put", "(IIJ)I"⟩
def dkwX2_put_2 : List UInt8 := [172]
abbrev dktX2_put_2 : List UInt8 := dkwX2_put_2 ++ []
def dkwX2_put_1 : List UInt8 := [180, 0, 83, 27, 46, 16, 50, 100, 33, 184, 1, 108, 80, 21, 5, 154, 0, 7, 4, 167, 0, 5, 21, 5]
abbrev dktX2_put_1 : List UInt8 := dkwX2_put_1 ++ dktX2_put_2
def dkwX2_put_0 : List UInt8 := [42, 27, 28, 182, 1, 105, 54, 5, 21, 5, 154, 0, 27, 42, 180, 0, 89, 16, 60, 27, 104, 28, 96, 42]
abbrev dktX2_put_0 : List UInt8 := dkwX2_put_0 ++ dktX2_put_1
theorem dksX2_put_0 : cX2_put.data.toList.drop 0 = dktX2_put_0 := by decide +kernel
theorem dksX2_put_1 : cX2_put.data.toList.drop 24 = dktX2_put_1 := dk_seg dksX2_put_0 24 rfl rfl
theorem dksX2_put_2 : cX2_put.data.toList.drop 48 = dktX2_put_2 := dk_seg dksX2_put_1 24 rfl rfl
theorem dX2_put_0 : decode cX2_put 0 = .ok (.aload_n 0, 1) := dk_42 (dk_at dksX2_put_0 0 rfl rfl)
theorem dX2_put_1 : decode cX2_put 1 = .ok (.iload_n 1, 1) := dk_27 (dk_at dksX2_put_0 1 rfl rfl)
theorem dX2_put_2 : decode cX2_put 2 = .ok (.iload_n 2, 1) := dk_28 (dk_at dksX2_put_0 2 rfl rfl)
theorem dX2_put_3 : decode cX2_put 3 = .ok (.invokevirtual 361, 3) := dk_182 1 105 (dk_at dksX2_put_0 3 rfl rfl)
theorem dX2_put_6 : decode cX2_put 6 = .ok (.istore 5, 2) := dk_54 5 (dk_at dksX2_put_0 6 rfl rfl)
theorem dX2_put_8 : decode cX2_put 8 = .ok (.iload 5, 2) := dk_21 5 (dk_at dksX2_put_0 8 rfl rfl)
theorem dX2_put_10 : decode cX2_put 10 = .ok (.ifCond .ne 27, 3) := dk_154 0 27 (dk_at dksX2_put_0 10 rfl rfl)
theorem dX2_put_13 : decode cX2_put 13 = .ok (.aload_n 0, 1) := dk_42 (dk_at dksX2_put_0 13 rfl rfl)
theorem dX2_put_14 : decode cX2_put 14 = .ok (.getfield 89, 3) := dk_180 0 89 (dk_at dksX2_put_0 14 rfl rfl)
theorem dX2_put_17 : decode cX2_put 17 = .ok (.bipush 60, 2) := dk_16 60 (dk_at dksX2_put_0 17 rfl rfl)
theorem dX2_put_19 : decode cX2_put 19 = .ok (.iload_n 1, 1) := dk_27 (dk_at dksX2_put_0 19 rfl rfl)
theorem dX2_put_20 : decode cX2_put 20 = .ok (.imul, 1) := dk_104 (dk_at dksX2_put_0 20 rfl rfl)
theorem dX2_put_21 : decode cX2_put 21 = .ok (.iload_n 2, 1) := dk_28 (dk_at dksX2_put_0 21 rfl rfl)
theorem dX2_put_22 : decode cX2_put 22 = .ok (.iadd, 1) := dk_96 (dk_at dksX2_put_0 22 rfl rfl)
theorem dX2_put_23 : decode cX2_put 23 = .ok (.aload_n 0, 1) := dk_42 (dk_at dksX2_put_0 23 rfl rfl)
theorem dX2_put_24 : decode cX2_put 24 = .ok (.getfield 83, 3) := dk_180 0 83 (dk_at dksX2_put_1 0 rfl rfl)
theorem dX2_put_27 : decode cX2_put 27 = .ok (.iload_n 1, 1) := dk_27 (dk_at dksX2_put_1 3 rfl rfl)
theorem dX2_put_28 : decode cX2_put 28 = .ok (.iaload, 1) := dk_46 (dk_at dksX2_put_1 4 rfl rfl)
theorem dX2_put_29 : decode cX2_put 29 = .ok (.bipush 50, 2) := dk_16 50 (dk_at dksX2_put_1 5 rfl rfl)
theorem dX2_put_31 : decode cX2_put 31 = .ok (.isub, 1) := dk_100 (dk_at dksX2_put_1 7 rfl rfl)
theorem dX2_put_32 : decode cX2_put 32 = .ok (.lload_n 3, 1) := dk_33 (dk_at dksX2_put_1 8 rfl rfl)
theorem dX2_put_33 : decode cX2_put 33 = .ok (.invokestatic 364, 3) := dk_184 1 108 (dk_at dksX2_put_1 9 rfl rfl)
theorem dX2_put_36 : decode cX2_put 36 = .ok (.lastore, 1) := dk_80 (dk_at dksX2_put_1 12 rfl rfl)
theorem dX2_put_37 : decode cX2_put 37 = .ok (.iload 5, 2) := dk_21 5 (dk_at dksX2_put_1 13 rfl rfl)
theorem dX2_put_39 : decode cX2_put 39 = .ok (.ifCond .ne 7, 3) := dk_154 0 7 (dk_at dksX2_put_1 15 rfl rfl)
theorem dX2_put_42 : decode cX2_put 42 = .ok (.iconst 1, 1) := dk_4 (dk_at dksX2_put_1 18 rfl rfl)
theorem dX2_put_43 : decode cX2_put 43 = .ok (.goto 5, 3) := dk_167 0 5 (dk_at dksX2_put_1 19 rfl rfl)
theorem dX2_put_46 : decode cX2_put 46 = .ok (.iload 5, 2) := dk_21 5 (dk_at dksX2_put_1 22 rfl rfl)
theorem dX2_put_48 : decode cX2_put 48 = .ok (.ireturn, 1) := dk_172 (dk_at dksX2_put_2 0 rfl rfl)
abbrev cX2_refusal : ByteArray := prog_32_method_86_code
def yX2_refusal : MethodName := ⟨RX2, "refusal", "(II)I"⟩
def dkwX2_refusal_2 : List UInt8 := [162, 0, 7, 3, 167, 0, 5, 16, 243, 172]
abbrev dktX2_refusal_2 : List UInt8 := dkwX2_refusal_2 ++ []
def dkwX2_refusal_1 : List UInt8 := [180, 0, 83, 27, 46, 16, 50, 162, 0, 6, 16, 244, 172, 28, 155, 0, 17, 28, 42, 180, 0, 86, 27, 46]
abbrev dktX2_refusal_1 : List UInt8 := dkwX2_refusal_1 ++ dktX2_refusal_2
def dkwX2_refusal_0 : List UInt8 := [27, 184, 0, 126, 154, 0, 5, 2, 172, 42, 180, 0, 83, 27, 46, 156, 0, 6, 16, 245, 172, 42]
abbrev dktX2_refusal_0 : List UInt8 := dkwX2_refusal_0 ++ dktX2_refusal_1
theorem dksX2_refusal_0 : cX2_refusal.data.toList.drop 0 = dktX2_refusal_0 := by decide +kernel
theorem dksX2_refusal_1 : cX2_refusal.data.toList.drop 22 = dktX2_refusal_1 := dk_seg dksX2_refusal_0 22 rfl rfl
theorem dksX2_refusal_2 : cX2_refusal.data.toList.drop 46 = dktX2_refusal_2 := dk_seg dksX2_refusal_1 24 rfl rfl
theorem dX2_refusal_0 : decode cX2_refusal 0 = .ok (.iload_n 1, 1) := dk_27 (dk_at dksX2_refusal_0 0 rfl rfl)
theorem dX2_refusal_1 : decode cX2_refusal 1 = .ok (.invokestatic 126, 3) := dk_184 0 126 (dk_at dksX2_refusal_0 1 rfl rfl)
theorem dX2_refusal_4 : decode cX2_refusal 4 = .ok (.ifCond .ne 5, 3) := dk_154 0 5 (dk_at dksX2_refusal_0 4 rfl rfl)
theorem dX2_refusal_7 : decode cX2_refusal 7 = .ok (.iconst (-1), 1) := dk_2 (dk_at dksX2_refusal_0 7 rfl rfl)
theorem dX2_refusal_8 : decode cX2_refusal 8 = .ok (.ireturn, 1) := dk_172 (dk_at dksX2_refusal_0 8 rfl rfl)
theorem dX2_refusal_9 : decode cX2_refusal 9 = .ok (.aload_n 0, 1) := dk_42 (dk_at dksX2_refusal_0 9 rfl rfl)
theorem dX2_refusal_10 : decode cX2_refusal 10 = .ok (.getfield 83, 3) := dk_180 0 83 (dk_at dksX2_refusal_0 10 rfl rfl)
theorem dX2_refusal_13 : decode cX2_refusal 13 = .ok (.iload_n 1, 1) := dk_27 (dk_at dksX2_refusal_0 13 rfl rfl)
theorem dX2_refusal_14 : decode cX2_refusal 14 = .ok (.iaload, 1) := dk_46 (dk_at dksX2_refusal_0 14 rfl rfl)
theorem dX2_refusal_15 : decode cX2_refusal 15 = .ok (.ifCond .ge 6, 3) := dk_156 0 6 (dk_at dksX2_refusal_0 15 rfl rfl)
theorem dX2_refusal_18 : decode cX2_refusal 18 = .ok (.bipush (-11), 2) := dk_16 245 (dk_at dksX2_refusal_0 18 rfl rfl)
theorem dX2_refusal_20 : decode cX2_refusal 20 = .ok (.ireturn, 1) := dk_172 (dk_at dksX2_refusal_0 20 rfl rfl)
theorem dX2_refusal_21 : decode cX2_refusal 21 = .ok (.aload_n 0, 1) := dk_42 (dk_at dksX2_refusal_0 21 rfl rfl)
theorem dX2_refusal_22 : decode cX2_refusal 22 = .ok (.getfield 83, 3) := dk_180 0 83 (dk_at dksX2_refusal_1 0 rfl rfl)
theorem dX2_refusal_25 : decode cX2_refusal 25 = .ok (.iload_n 1, 1) := dk_27 (dk_at dksX2_refusal_1 3 rfl rfl)
theorem dX2_refusal_26 : decode cX2_refusal 26 = .ok (.iaload, 1) := dk_46 (dk_at dksX2_refusal_1 4 rfl rfl)
theorem dX2_refusal_27 : decode cX2_refusal 27 = .ok (.bipush 50, 2) := dk_16 50 (dk_at dksX2_refusal_1 5 rfl rfl)
theorem dX2_refusal_29 : decode cX2_refusal 29 = .ok (.if_icmp .ge 6, 3) := dk_162 0 6 (dk_at dksX2_refusal_1 7 rfl rfl)
theorem dX2_refusal_32 : decode cX2_refusal 32 = .ok (.bipush (-12), 2) := dk_16 244 (dk_at dksX2_refusal_1 10 rfl rfl)
theorem dX2_refusal_34 : decode cX2_refusal 34 = .ok (.ireturn, 1) := dk_172 (dk_at dksX2_refusal_1 12 rfl rfl)
theorem dX2_refusal_35 : decode cX2_refusal 35 = .ok (.iload_n 2, 1) := dk_28 (dk_at dksX2_refusal_1 13 rfl rfl)
theorem dX2_refusal_36 : decode cX2_refusal 36 = .ok (.ifCond .lt 17, 3) := dk_155 0 17 (dk_at dksX2_refusal_1 14 rfl rfl)
theorem dX2_refusal_39 : decode cX2_refusal 39 = .ok (.iload_n 2, 1) := dk_28 (dk_at dksX2_refusal_1 17 rfl rfl)
theorem dX2_refusal_40 : decode cX2_refusal 40 = .ok (.aload_n 0, 1) := dk_42 (dk_at dksX2_refusal_1 18 rfl rfl)
theorem dX2_refusal_41 : decode cX2_refusal 41 = .ok (.getfield 86, 3) := dk_180 0 86 (dk_at dksX2_refusal_1 19 rfl rfl)
theorem dX2_refusal_44 : decode cX2_refusal 44 = .ok (.iload_n 1, 1) := dk_27 (dk_at dksX2_refusal_1 22 rfl rfl)
theorem dX2_refusal_45 : decode cX2_refusal 45 = .ok (.iaload, 1) := dk_46 (dk_at dksX2_refusal_1 23 rfl rfl)
theorem dX2_refusal_46 : decode cX2_refusal 46 = .ok (.if_icmp .ge 7, 3) := dk_162 0 7 (dk_at dksX2_refusal_2 0 rfl rfl)
theorem dX2_refusal_49 : decode cX2_refusal 49 = .ok (.iconst 0, 1) := dk_3 (dk_at dksX2_refusal_2 3 rfl rfl)
theorem dX2_refusal_50 : decode cX2_refusal 50 = .ok (.goto 5, 3) := dk_167 0 5 (dk_at dksX2_refusal_2 4 rfl rfl)
theorem dX2_refusal_53 : decode cX2_refusal 53 = .ok (.bipush (-13), 2) := dk_16 243 (dk_at dksX2_refusal_2 7 rfl rfl)
theorem dX2_refusal_55 : decode cX2_refusal 55 = .ok (.ireturn, 1) := dk_172 (dk_at dksX2_refusal_2 9 rfl rfl)
abbrev cX2_asSort : ByteArray := prog_32_method_87_code
def yX2_asSort : MethodName := ⟨RX2, "asSort", "(IJ)J"⟩
def dkwX2_asSort_2 : List UInt8 := [167, 0, 8, 9, 167, 0, 4, 31, 173]
abbrev dktX2_asSort_2 : List UInt8 := dkwX2_asSort_2 ++ []
def dkwX2_asSort_1 : List UInt8 := [5, 160, 0, 9, 31, 136, 133, 167, 0, 23, 26, 7, 160, 0, 17, 31, 9, 148, 153, 0, 7, 10]
abbrev dktX2_asSort_1 : List UInt8 := dkwX2_asSort_1 ++ dktX2_asSort_2
def dkwX2_asSort_0 : List UInt8 := [26, 154, 0, 10, 31, 136, 145, 133, 167, 0, 46, 26, 4, 160, 0, 10, 31, 136, 147, 133, 167, 0, 34, 26]
abbrev dktX2_asSort_0 : List UInt8 := dkwX2_asSort_0 ++ dktX2_asSort_1
theorem dksX2_asSort_0 : cX2_asSort.data.toList.drop 0 = dktX2_asSort_0 := by decide +kernel
theorem dksX2_asSort_1 : cX2_asSort.data.toList.drop 24 = dktX2_asSort_1 := dk_seg dksX2_asSort_0 24 rfl rfl
theorem dksX2_asSort_2 : cX2_asSort.data.toList.drop 46 = dktX2_asSort_2 := dk_seg dksX2_asSort_1 22 rfl rfl
theorem dX2_asSort_0 : decode cX2_asSort 0 = .ok (.iload_n 0, 1) := dk_26 (dk_at dksX2_asSort_0 0 rfl rfl)
theorem dX2_asSort_1 : decode cX2_asSort 1 = .ok (.ifCond .ne 10, 3) := dk_154 0 10 (dk_at dksX2_asSort_0 1 rfl rfl)
theorem dX2_asSort_4 : decode cX2_asSort 4 = .ok (.lload_n 1, 1) := dk_31 (dk_at dksX2_asSort_0 4 rfl rfl)
theorem dX2_asSort_5 : decode cX2_asSort 5 = .ok (.l2i, 1) := dk_136 (dk_at dksX2_asSort_0 5 rfl rfl)
theorem dX2_asSort_6 : decode cX2_asSort 6 = .ok (.i2b, 1) := dk_145 (dk_at dksX2_asSort_0 6 rfl rfl)
theorem dX2_asSort_7 : decode cX2_asSort 7 = .ok (.i2l, 1) := dk_133 (dk_at dksX2_asSort_0 7 rfl rfl)
theorem dX2_asSort_8 : decode cX2_asSort 8 = .ok (.goto 46, 3) := dk_167 0 46 (dk_at dksX2_asSort_0 8 rfl rfl)
theorem dX2_asSort_11 : decode cX2_asSort 11 = .ok (.iload_n 0, 1) := dk_26 (dk_at dksX2_asSort_0 11 rfl rfl)
theorem dX2_asSort_12 : decode cX2_asSort 12 = .ok (.iconst 1, 1) := dk_4 (dk_at dksX2_asSort_0 12 rfl rfl)
theorem dX2_asSort_13 : decode cX2_asSort 13 = .ok (.if_icmp .ne 10, 3) := dk_160 0 10 (dk_at dksX2_asSort_0 13 rfl rfl)
theorem dX2_asSort_16 : decode cX2_asSort 16 = .ok (.lload_n 1, 1) := dk_31 (dk_at dksX2_asSort_0 16 rfl rfl)
theorem dX2_asSort_17 : decode cX2_asSort 17 = .ok (.l2i, 1) := dk_136 (dk_at dksX2_asSort_0 17 rfl rfl)
theorem dX2_asSort_18 : decode cX2_asSort 18 = .ok (.i2s, 1) := dk_147 (dk_at dksX2_asSort_0 18 rfl rfl)
theorem dX2_asSort_19 : decode cX2_asSort 19 = .ok (.i2l, 1) := dk_133 (dk_at dksX2_asSort_0 19 rfl rfl)
theorem dX2_asSort_20 : decode cX2_asSort 20 = .ok (.goto 34, 3) := dk_167 0 34 (dk_at dksX2_asSort_0 20 rfl rfl)
theorem dX2_asSort_23 : decode cX2_asSort 23 = .ok (.iload_n 0, 1) := dk_26 (dk_at dksX2_asSort_0 23 rfl rfl)
theorem dX2_asSort_24 : decode cX2_asSort 24 = .ok (.iconst 2, 1) := dk_5 (dk_at dksX2_asSort_1 0 rfl rfl)
theorem dX2_asSort_25 : decode cX2_asSort 25 = .ok (.if_icmp .ne 9, 3) := dk_160 0 9 (dk_at dksX2_asSort_1 1 rfl rfl)
theorem dX2_asSort_28 : decode cX2_asSort 28 = .ok (.lload_n 1, 1) := dk_31 (dk_at dksX2_asSort_1 4 rfl rfl)
theorem dX2_asSort_29 : decode cX2_asSort 29 = .ok (.l2i, 1) := dk_136 (dk_at dksX2_asSort_1 5 rfl rfl)
theorem dX2_asSort_30 : decode cX2_asSort 30 = .ok (.i2l, 1) := dk_133 (dk_at dksX2_asSort_1 6 rfl rfl)
theorem dX2_asSort_31 : decode cX2_asSort 31 = .ok (.goto 23, 3) := dk_167 0 23 (dk_at dksX2_asSort_1 7 rfl rfl)
theorem dX2_asSort_34 : decode cX2_asSort 34 = .ok (.iload_n 0, 1) := dk_26 (dk_at dksX2_asSort_1 10 rfl rfl)
theorem dX2_asSort_35 : decode cX2_asSort 35 = .ok (.iconst 4, 1) := dk_7 (dk_at dksX2_asSort_1 11 rfl rfl)
theorem dX2_asSort_36 : decode cX2_asSort 36 = .ok (.if_icmp .ne 17, 3) := dk_160 0 17 (dk_at dksX2_asSort_1 12 rfl rfl)
theorem dX2_asSort_39 : decode cX2_asSort 39 = .ok (.lload_n 1, 1) := dk_31 (dk_at dksX2_asSort_1 15 rfl rfl)
theorem dX2_asSort_40 : decode cX2_asSort 40 = .ok (.lconst 0, 1) := dk_9 (dk_at dksX2_asSort_1 16 rfl rfl)
theorem dX2_asSort_41 : decode cX2_asSort 41 = .ok (.lcmp, 1) := dk_148 (dk_at dksX2_asSort_1 17 rfl rfl)
theorem dX2_asSort_42 : decode cX2_asSort 42 = .ok (.ifCond .eq 7, 3) := dk_153 0 7 (dk_at dksX2_asSort_1 18 rfl rfl)
theorem dX2_asSort_45 : decode cX2_asSort 45 = .ok (.lconst 1, 1) := dk_10 (dk_at dksX2_asSort_1 21 rfl rfl)
theorem dX2_asSort_46 : decode cX2_asSort 46 = .ok (.goto 8, 3) := dk_167 0 8 (dk_at dksX2_asSort_2 0 rfl rfl)
theorem dX2_asSort_49 : decode cX2_asSort 49 = .ok (.lconst 0, 1) := dk_9 (dk_at dksX2_asSort_2 3 rfl rfl)
theorem dX2_asSort_50 : decode cX2_asSort 50 = .ok (.goto 4, 3) := dk_167 0 4 (dk_at dksX2_asSort_2 4 rfl rfl)
theorem dX2_asSort_53 : decode cX2_asSort 53 = .ok (.lload_n 1, 1) := dk_31 (dk_at dksX2_asSort_2 7 rfl rfl)
theorem dX2_asSort_54 : decode cX2_asSort 54 = .ok (.lreturn, 1) := dk_173 (dk_at dksX2_asSort_2 8 rfl rfl)
abbrev cX2_element : ByteArray := prog_32_method_89_code
def yX2_element : MethodName := ⟨RX2, "element", "(II)J"⟩
def dkwX2_element_1 : List UInt8 := [96, 47, 173]
abbrev dktX2_element_1 : List UInt8 := dkwX2_element_1 ++ []
def dkwX2_element_0 : List UInt8 := [42, 27, 28, 182, 1, 105, 153, 0, 9, 20, 1, 114, 167, 0, 14, 42, 180, 0, 89, 16, 60, 27, 104, 28]
abbrev dktX2_element_0 : List UInt8 := dkwX2_element_0 ++ dktX2_element_1
theorem dksX2_element_0 : cX2_element.data.toList.drop 0 = dktX2_element_0 := by decide +kernel
theorem dksX2_element_1 : cX2_element.data.toList.drop 24 = dktX2_element_1 := dk_seg dksX2_element_0 24 rfl rfl
theorem dX2_element_0 : decode cX2_element 0 = .ok (.aload_n 0, 1) := dk_42 (dk_at dksX2_element_0 0 rfl rfl)
theorem dX2_element_1 : decode cX2_element 1 = .ok (.iload_n 1, 1) := dk_27 (dk_at dksX2_element_0 1 rfl rfl)
theorem dX2_element_2 : decode cX2_element 2 = .ok (.iload_n 2, 1) := dk_28 (dk_at dksX2_element_0 2 rfl rfl)
theorem dX2_element_3 : decode cX2_element 3 = .ok (.invokevirtual 361, 3) := dk_182 1 105 (dk_at dksX2_element_0 3 rfl rfl)
theorem dX2_element_6 : decode cX2_element 6 = .ok (.ifCond .eq 9, 3) := dk_153 0 9 (dk_at dksX2_element_0 6 rfl rfl)
theorem dX2_element_9 : decode cX2_element 9 = .ok (.ldc2_w 370, 3) := dk_20 1 114 (dk_at dksX2_element_0 9 rfl rfl)
theorem dX2_element_12 : decode cX2_element 12 = .ok (.goto 14, 3) := dk_167 0 14 (dk_at dksX2_element_0 12 rfl rfl)
theorem dX2_element_15 : decode cX2_element 15 = .ok (.aload_n 0, 1) := dk_42 (dk_at dksX2_element_0 15 rfl rfl)
theorem dX2_element_16 : decode cX2_element 16 = .ok (.getfield 89, 3) := dk_180 0 89 (dk_at dksX2_element_0 16 rfl rfl)
theorem dX2_element_19 : decode cX2_element 19 = .ok (.bipush 60, 2) := dk_16 60 (dk_at dksX2_element_0 19 rfl rfl)
theorem dX2_element_21 : decode cX2_element 21 = .ok (.iload_n 1, 1) := dk_27 (dk_at dksX2_element_0 21 rfl rfl)
theorem dX2_element_22 : decode cX2_element 22 = .ok (.imul, 1) := dk_104 (dk_at dksX2_element_0 22 rfl rfl)
theorem dX2_element_23 : decode cX2_element 23 = .ok (.iload_n 2, 1) := dk_28 (dk_at dksX2_element_0 23 rfl rfl)
theorem dX2_element_24 : decode cX2_element 24 = .ok (.iadd, 1) := dk_96 (dk_at dksX2_element_1 0 rfl rfl)
theorem dX2_element_25 : decode cX2_element 25 = .ok (.laload, 1) := dk_47 (dk_at dksX2_element_1 1 rfl rfl)
theorem dX2_element_26 : decode cX2_element 26 = .ok (.lreturn, 1) := dk_173 (dk_at dksX2_element_1 2 rfl rfl)
abbrev cX2_shift : ByteArray := prog_32_method_90_code
def yX2_shift : MethodName := ⟨RX2, "shift", "(IIIII)I"⟩
def dkwX2_shift_8 : List UInt8 := [167, 255, 224, 21, 5, 172]
abbrev dktX2_shift_8 : List UInt8 := dkwX2_shift_8 ++ []
def dkwX2_shift_7 : List UInt8 := [180, 0, 89, 16, 60, 29, 104, 21, 4, 96, 21, 6, 96, 42, 180, 0, 93, 21, 6, 47, 80, 132, 6, 1]
abbrev dktX2_shift_7 : List UInt8 := dkwX2_shift_7 ++ dktX2_shift_8
def dkwX2_shift_6 : List UInt8 := [21, 6, 96, 47, 80, 132, 6, 1, 167, 255, 225, 3, 54, 6, 21, 6, 21, 5, 162, 0, 31, 42]
abbrev dktX2_shift_6 : List UInt8 := dkwX2_shift_6 ++ dktX2_shift_7
def dkwX2_shift_5 : List UInt8 := [21, 6, 21, 5, 162, 0, 30, 42, 180, 0, 93, 21, 6, 42, 180, 0, 89, 16, 60, 27, 104, 28, 96]
abbrev dktX2_shift_5 : List UInt8 := dkwX2_shift_5 ++ dktX2_shift_6
def dkwX2_shift_4 : List UInt8 := [163, 0, 17, 21, 4, 42, 180, 0, 86, 29, 46, 21, 5, 100, 164, 0, 6, 16, 243, 172, 3, 54, 6]
abbrev dktX2_shift_4 : List UInt8 := dkwX2_shift_4 ++ dktX2_shift_5
def dkwX2_shift_3 : List UInt8 := [155, 0, 39, 28, 155, 0, 35, 21, 4, 155, 0, 30, 28, 42, 180, 0, 86, 27, 46, 21, 5, 100]
abbrev dktX2_shift_3 : List UInt8 := dkwX2_shift_3 ++ dktX2_shift_4
def dkwX2_shift_2 : List UInt8 := [161, 0, 18, 42, 180, 0, 83, 27, 46, 42, 180, 0, 83, 29, 46, 159, 0, 6, 16, 244, 172, 21, 5]
abbrev dktX2_shift_2 : List UInt8 := dkwX2_shift_2 ++ dktX2_shift_3
def dkwX2_shift_1 : List UInt8 := [155, 0, 12, 42, 180, 0, 83, 29, 46, 156, 0, 6, 16, 245, 172, 42, 180, 0, 83, 27, 46, 16, 50]
abbrev dktX2_shift_1 : List UInt8 := dkwX2_shift_1 ++ dktX2_shift_2
def dkwX2_shift_0 : List UInt8 := [27, 184, 0, 126, 153, 0, 10, 29, 184, 0, 126, 154, 0, 5, 2, 172, 42, 180, 0, 83, 27, 46]
abbrev dktX2_shift_0 : List UInt8 := dkwX2_shift_0 ++ dktX2_shift_1
theorem dksX2_shift_0 : cX2_shift.data.toList.drop 0 = dktX2_shift_0 := by decide +kernel
theorem dksX2_shift_1 : cX2_shift.data.toList.drop 22 = dktX2_shift_1 := dk_seg dksX2_shift_0 22 rfl rfl
theorem dksX2_shift_2 : cX2_shift.data.toList.drop 45 = dktX2_shift_2 := dk_seg dksX2_shift_1 23 rfl rfl
theorem dksX2_shift_3 : cX2_shift.data.toList.drop 68 = dktX2_shift_3 := dk_seg dksX2_shift_2 23 rfl rfl
theorem dksX2_shift_4 : cX2_shift.data.toList.drop 90 = dktX2_shift_4 := dk_seg dksX2_shift_3 22 rfl rfl
theorem dksX2_shift_5 : cX2_shift.data.toList.drop 113 = dktX2_shift_5 := dk_seg dksX2_shift_4 23 rfl rfl
theorem dksX2_shift_6 : cX2_shift.data.toList.drop 136 = dktX2_shift_6 := dk_seg dksX2_shift_5 23 rfl rfl
theorem dksX2_shift_7 : cX2_shift.data.toList.drop 158 = dktX2_shift_7 := dk_seg dksX2_shift_6 22 rfl rfl
theorem dksX2_shift_8 : cX2_shift.data.toList.drop 182 = dktX2_shift_8 := dk_seg dksX2_shift_7 24 rfl rfl
theorem dX2_shift_0 : decode cX2_shift 0 = .ok (.iload_n 1, 1) := dk_27 (dk_at dksX2_shift_0 0 rfl rfl)
theorem dX2_shift_1 : decode cX2_shift 1 = .ok (.invokestatic 126, 3) := dk_184 0 126 (dk_at dksX2_shift_0 1 rfl rfl)
theorem dX2_shift_4 : decode cX2_shift 4 = .ok (.ifCond .eq 10, 3) := dk_153 0 10 (dk_at dksX2_shift_0 4 rfl rfl)
theorem dX2_shift_7 : decode cX2_shift 7 = .ok (.iload_n 3, 1) := dk_29 (dk_at dksX2_shift_0 7 rfl rfl)
theorem dX2_shift_8 : decode cX2_shift 8 = .ok (.invokestatic 126, 3) := dk_184 0 126 (dk_at dksX2_shift_0 8 rfl rfl)
theorem dX2_shift_11 : decode cX2_shift 11 = .ok (.ifCond .ne 5, 3) := dk_154 0 5 (dk_at dksX2_shift_0 11 rfl rfl)
theorem dX2_shift_14 : decode cX2_shift 14 = .ok (.iconst (-1), 1) := dk_2 (dk_at dksX2_shift_0 14 rfl rfl)
theorem dX2_shift_15 : decode cX2_shift 15 = .ok (.ireturn, 1) := dk_172 (dk_at dksX2_shift_0 15 rfl rfl)
theorem dX2_shift_16 : decode cX2_shift 16 = .ok (.aload_n 0, 1) := dk_42 (dk_at dksX2_shift_0 16 rfl rfl)
theorem dX2_shift_17 : decode cX2_shift 17 = .ok (.getfield 83, 3) := dk_180 0 83 (dk_at dksX2_shift_0 17 rfl rfl)
theorem dX2_shift_20 : decode cX2_shift 20 = .ok (.iload_n 1, 1) := dk_27 (dk_at dksX2_shift_0 20 rfl rfl)
theorem dX2_shift_21 : decode cX2_shift 21 = .ok (.iaload, 1) := dk_46 (dk_at dksX2_shift_0 21 rfl rfl)
theorem dX2_shift_22 : decode cX2_shift 22 = .ok (.ifCond .lt 12, 3) := dk_155 0 12 (dk_at dksX2_shift_1 0 rfl rfl)
theorem dX2_shift_25 : decode cX2_shift 25 = .ok (.aload_n 0, 1) := dk_42 (dk_at dksX2_shift_1 3 rfl rfl)
theorem dX2_shift_26 : decode cX2_shift 26 = .ok (.getfield 83, 3) := dk_180 0 83 (dk_at dksX2_shift_1 4 rfl rfl)
theorem dX2_shift_29 : decode cX2_shift 29 = .ok (.iload_n 3, 1) := dk_29 (dk_at dksX2_shift_1 7 rfl rfl)
theorem dX2_shift_30 : decode cX2_shift 30 = .ok (.iaload, 1) := dk_46 (dk_at dksX2_shift_1 8 rfl rfl)
theorem dX2_shift_31 : decode cX2_shift 31 = .ok (.ifCond .ge 6, 3) := dk_156 0 6 (dk_at dksX2_shift_1 9 rfl rfl)
theorem dX2_shift_34 : decode cX2_shift 34 = .ok (.bipush (-11), 2) := dk_16 245 (dk_at dksX2_shift_1 12 rfl rfl)
theorem dX2_shift_36 : decode cX2_shift 36 = .ok (.ireturn, 1) := dk_172 (dk_at dksX2_shift_1 14 rfl rfl)
theorem dX2_shift_37 : decode cX2_shift 37 = .ok (.aload_n 0, 1) := dk_42 (dk_at dksX2_shift_1 15 rfl rfl)
theorem dX2_shift_38 : decode cX2_shift 38 = .ok (.getfield 83, 3) := dk_180 0 83 (dk_at dksX2_shift_1 16 rfl rfl)
theorem dX2_shift_41 : decode cX2_shift 41 = .ok (.iload_n 1, 1) := dk_27 (dk_at dksX2_shift_1 19 rfl rfl)
theorem dX2_shift_42 : decode cX2_shift 42 = .ok (.iaload, 1) := dk_46 (dk_at dksX2_shift_1 20 rfl rfl)
theorem dX2_shift_43 : decode cX2_shift 43 = .ok (.bipush 50, 2) := dk_16 50 (dk_at dksX2_shift_1 21 rfl rfl)
theorem dX2_shift_45 : decode cX2_shift 45 = .ok (.if_icmp .lt 18, 3) := dk_161 0 18 (dk_at dksX2_shift_2 0 rfl rfl)
theorem dX2_shift_48 : decode cX2_shift 48 = .ok (.aload_n 0, 1) := dk_42 (dk_at dksX2_shift_2 3 rfl rfl)
theorem dX2_shift_49 : decode cX2_shift 49 = .ok (.getfield 83, 3) := dk_180 0 83 (dk_at dksX2_shift_2 4 rfl rfl)
theorem dX2_shift_52 : decode cX2_shift 52 = .ok (.iload_n 1, 1) := dk_27 (dk_at dksX2_shift_2 7 rfl rfl)
theorem dX2_shift_53 : decode cX2_shift 53 = .ok (.iaload, 1) := dk_46 (dk_at dksX2_shift_2 8 rfl rfl)
theorem dX2_shift_54 : decode cX2_shift 54 = .ok (.aload_n 0, 1) := dk_42 (dk_at dksX2_shift_2 9 rfl rfl)
theorem dX2_shift_55 : decode cX2_shift 55 = .ok (.getfield 83, 3) := dk_180 0 83 (dk_at dksX2_shift_2 10 rfl rfl)
theorem dX2_shift_58 : decode cX2_shift 58 = .ok (.iload_n 3, 1) := dk_29 (dk_at dksX2_shift_2 13 rfl rfl)
theorem dX2_shift_59 : decode cX2_shift 59 = .ok (.iaload, 1) := dk_46 (dk_at dksX2_shift_2 14 rfl rfl)
theorem dX2_shift_60 : decode cX2_shift 60 = .ok (.if_icmp .eq 6, 3) := dk_159 0 6 (dk_at dksX2_shift_2 15 rfl rfl)
theorem dX2_shift_63 : decode cX2_shift 63 = .ok (.bipush (-12), 2) := dk_16 244 (dk_at dksX2_shift_2 18 rfl rfl)
theorem dX2_shift_65 : decode cX2_shift 65 = .ok (.ireturn, 1) := dk_172 (dk_at dksX2_shift_2 20 rfl rfl)
theorem dX2_shift_66 : decode cX2_shift 66 = .ok (.iload 5, 2) := dk_21 5 (dk_at dksX2_shift_2 21 rfl rfl)
theorem dX2_shift_68 : decode cX2_shift 68 = .ok (.ifCond .lt 39, 3) := dk_155 0 39 (dk_at dksX2_shift_3 0 rfl rfl)
theorem dX2_shift_71 : decode cX2_shift 71 = .ok (.iload_n 2, 1) := dk_28 (dk_at dksX2_shift_3 3 rfl rfl)
theorem dX2_shift_72 : decode cX2_shift 72 = .ok (.ifCond .lt 35, 3) := dk_155 0 35 (dk_at dksX2_shift_3 4 rfl rfl)
theorem dX2_shift_75 : decode cX2_shift 75 = .ok (.iload 4, 2) := dk_21 4 (dk_at dksX2_shift_3 7 rfl rfl)
theorem dX2_shift_77 : decode cX2_shift 77 = .ok (.ifCond .lt 30, 3) := dk_155 0 30 (dk_at dksX2_shift_3 9 rfl rfl)
theorem dX2_shift_80 : decode cX2_shift 80 = .ok (.iload_n 2, 1) := dk_28 (dk_at dksX2_shift_3 12 rfl rfl)
theorem dX2_shift_81 : decode cX2_shift 81 = .ok (.aload_n 0, 1) := dk_42 (dk_at dksX2_shift_3 13 rfl rfl)
theorem dX2_shift_82 : decode cX2_shift 82 = .ok (.getfield 86, 3) := dk_180 0 86 (dk_at dksX2_shift_3 14 rfl rfl)
theorem dX2_shift_85 : decode cX2_shift 85 = .ok (.iload_n 1, 1) := dk_27 (dk_at dksX2_shift_3 17 rfl rfl)
theorem dX2_shift_86 : decode cX2_shift 86 = .ok (.iaload, 1) := dk_46 (dk_at dksX2_shift_3 18 rfl rfl)
theorem dX2_shift_87 : decode cX2_shift 87 = .ok (.iload 5, 2) := dk_21 5 (dk_at dksX2_shift_3 19 rfl rfl)
theorem dX2_shift_89 : decode cX2_shift 89 = .ok (.isub, 1) := dk_100 (dk_at dksX2_shift_3 21 rfl rfl)
theorem dX2_shift_90 : decode cX2_shift 90 = .ok (.if_icmp .gt 17, 3) := dk_163 0 17 (dk_at dksX2_shift_4 0 rfl rfl)
theorem dX2_shift_93 : decode cX2_shift 93 = .ok (.iload 4, 2) := dk_21 4 (dk_at dksX2_shift_4 3 rfl rfl)
theorem dX2_shift_95 : decode cX2_shift 95 = .ok (.aload_n 0, 1) := dk_42 (dk_at dksX2_shift_4 5 rfl rfl)
theorem dX2_shift_96 : decode cX2_shift 96 = .ok (.getfield 86, 3) := dk_180 0 86 (dk_at dksX2_shift_4 6 rfl rfl)
theorem dX2_shift_99 : decode cX2_shift 99 = .ok (.iload_n 3, 1) := dk_29 (dk_at dksX2_shift_4 9 rfl rfl)
theorem dX2_shift_100 : decode cX2_shift 100 = .ok (.iaload, 1) := dk_46 (dk_at dksX2_shift_4 10 rfl rfl)
theorem dX2_shift_101 : decode cX2_shift 101 = .ok (.iload 5, 2) := dk_21 5 (dk_at dksX2_shift_4 11 rfl rfl)
theorem dX2_shift_103 : decode cX2_shift 103 = .ok (.isub, 1) := dk_100 (dk_at dksX2_shift_4 13 rfl rfl)
theorem dX2_shift_104 : decode cX2_shift 104 = .ok (.if_icmp .le 6, 3) := dk_164 0 6 (dk_at dksX2_shift_4 14 rfl rfl)
theorem dX2_shift_107 : decode cX2_shift 107 = .ok (.bipush (-13), 2) := dk_16 243 (dk_at dksX2_shift_4 17 rfl rfl)
theorem dX2_shift_109 : decode cX2_shift 109 = .ok (.ireturn, 1) := dk_172 (dk_at dksX2_shift_4 19 rfl rfl)
theorem dX2_shift_110 : decode cX2_shift 110 = .ok (.iconst 0, 1) := dk_3 (dk_at dksX2_shift_4 20 rfl rfl)
theorem dX2_shift_111 : decode cX2_shift 111 = .ok (.istore 6, 2) := dk_54 6 (dk_at dksX2_shift_4 21 rfl rfl)
theorem dX2_shift_113 : decode cX2_shift 113 = .ok (.iload 6, 2) := dk_21 6 (dk_at dksX2_shift_5 0 rfl rfl)
theorem dX2_shift_115 : decode cX2_shift 115 = .ok (.iload 5, 2) := dk_21 5 (dk_at dksX2_shift_5 2 rfl rfl)
theorem dX2_shift_117 : decode cX2_shift 117 = .ok (.if_icmp .ge 30, 3) := dk_162 0 30 (dk_at dksX2_shift_5 4 rfl rfl)
theorem dX2_shift_120 : decode cX2_shift 120 = .ok (.aload_n 0, 1) := dk_42 (dk_at dksX2_shift_5 7 rfl rfl)
theorem dX2_shift_121 : decode cX2_shift 121 = .ok (.getfield 93, 3) := dk_180 0 93 (dk_at dksX2_shift_5 8 rfl rfl)
theorem dX2_shift_124 : decode cX2_shift 124 = .ok (.iload 6, 2) := dk_21 6 (dk_at dksX2_shift_5 11 rfl rfl)
theorem dX2_shift_126 : decode cX2_shift 126 = .ok (.aload_n 0, 1) := dk_42 (dk_at dksX2_shift_5 13 rfl rfl)
theorem dX2_shift_127 : decode cX2_shift 127 = .ok (.getfield 89, 3) := dk_180 0 89 (dk_at dksX2_shift_5 14 rfl rfl)
theorem dX2_shift_130 : decode cX2_shift 130 = .ok (.bipush 60, 2) := dk_16 60 (dk_at dksX2_shift_5 17 rfl rfl)
theorem dX2_shift_132 : decode cX2_shift 132 = .ok (.iload_n 1, 1) := dk_27 (dk_at dksX2_shift_5 19 rfl rfl)
theorem dX2_shift_133 : decode cX2_shift 133 = .ok (.imul, 1) := dk_104 (dk_at dksX2_shift_5 20 rfl rfl)
theorem dX2_shift_134 : decode cX2_shift 134 = .ok (.iload_n 2, 1) := dk_28 (dk_at dksX2_shift_5 21 rfl rfl)
theorem dX2_shift_135 : decode cX2_shift 135 = .ok (.iadd, 1) := dk_96 (dk_at dksX2_shift_5 22 rfl rfl)
theorem dX2_shift_136 : decode cX2_shift 136 = .ok (.iload 6, 2) := dk_21 6 (dk_at dksX2_shift_6 0 rfl rfl)
theorem dX2_shift_138 : decode cX2_shift 138 = .ok (.iadd, 1) := dk_96 (dk_at dksX2_shift_6 2 rfl rfl)
theorem dX2_shift_139 : decode cX2_shift 139 = .ok (.laload, 1) := dk_47 (dk_at dksX2_shift_6 3 rfl rfl)
theorem dX2_shift_140 : decode cX2_shift 140 = .ok (.lastore, 1) := dk_80 (dk_at dksX2_shift_6 4 rfl rfl)
theorem dX2_shift_141 : decode cX2_shift 141 = .ok (.iinc 6 1, 3) := dk_132 6 1 (dk_at dksX2_shift_6 5 rfl rfl)
theorem dX2_shift_144 : decode cX2_shift 144 = .ok (.goto (-31), 3) := dk_167 255 225 (dk_at dksX2_shift_6 8 rfl rfl)
theorem dX2_shift_147 : decode cX2_shift 147 = .ok (.iconst 0, 1) := dk_3 (dk_at dksX2_shift_6 11 rfl rfl)
theorem dX2_shift_148 : decode cX2_shift 148 = .ok (.istore 6, 2) := dk_54 6 (dk_at dksX2_shift_6 12 rfl rfl)
theorem dX2_shift_150 : decode cX2_shift 150 = .ok (.iload 6, 2) := dk_21 6 (dk_at dksX2_shift_6 14 rfl rfl)
theorem dX2_shift_152 : decode cX2_shift 152 = .ok (.iload 5, 2) := dk_21 5 (dk_at dksX2_shift_6 16 rfl rfl)
theorem dX2_shift_154 : decode cX2_shift 154 = .ok (.if_icmp .ge 31, 3) := dk_162 0 31 (dk_at dksX2_shift_6 18 rfl rfl)
theorem dX2_shift_157 : decode cX2_shift 157 = .ok (.aload_n 0, 1) := dk_42 (dk_at dksX2_shift_6 21 rfl rfl)
theorem dX2_shift_158 : decode cX2_shift 158 = .ok (.getfield 89, 3) := dk_180 0 89 (dk_at dksX2_shift_7 0 rfl rfl)
theorem dX2_shift_161 : decode cX2_shift 161 = .ok (.bipush 60, 2) := dk_16 60 (dk_at dksX2_shift_7 3 rfl rfl)
theorem dX2_shift_163 : decode cX2_shift 163 = .ok (.iload_n 3, 1) := dk_29 (dk_at dksX2_shift_7 5 rfl rfl)
theorem dX2_shift_164 : decode cX2_shift 164 = .ok (.imul, 1) := dk_104 (dk_at dksX2_shift_7 6 rfl rfl)
theorem dX2_shift_165 : decode cX2_shift 165 = .ok (.iload 4, 2) := dk_21 4 (dk_at dksX2_shift_7 7 rfl rfl)
theorem dX2_shift_167 : decode cX2_shift 167 = .ok (.iadd, 1) := dk_96 (dk_at dksX2_shift_7 9 rfl rfl)
theorem dX2_shift_168 : decode cX2_shift 168 = .ok (.iload 6, 2) := dk_21 6 (dk_at dksX2_shift_7 10 rfl rfl)
theorem dX2_shift_170 : decode cX2_shift 170 = .ok (.iadd, 1) := dk_96 (dk_at dksX2_shift_7 12 rfl rfl)
theorem dX2_shift_171 : decode cX2_shift 171 = .ok (.aload_n 0, 1) := dk_42 (dk_at dksX2_shift_7 13 rfl rfl)
theorem dX2_shift_172 : decode cX2_shift 172 = .ok (.getfield 93, 3) := dk_180 0 93 (dk_at dksX2_shift_7 14 rfl rfl)
theorem dX2_shift_175 : decode cX2_shift 175 = .ok (.iload 6, 2) := dk_21 6 (dk_at dksX2_shift_7 17 rfl rfl)
theorem dX2_shift_177 : decode cX2_shift 177 = .ok (.laload, 1) := dk_47 (dk_at dksX2_shift_7 19 rfl rfl)
theorem dX2_shift_178 : decode cX2_shift 178 = .ok (.lastore, 1) := dk_80 (dk_at dksX2_shift_7 20 rfl rfl)
theorem dX2_shift_179 : decode cX2_shift 179 = .ok (.iinc 6 1, 3) := dk_132 6 1 (dk_at dksX2_shift_7 21 rfl rfl)
theorem dX2_shift_182 : decode cX2_shift 182 = .ok (.goto (-32), 3) := dk_167 255 224 (dk_at dksX2_shift_8 0 rfl rfl)
theorem dX2_shift_185 : decode cX2_shift 185 = .ok (.iload 5, 2) := dk_21 5 (dk_at dksX2_shift_8 3 rfl rfl)
theorem dX2_shift_187 : decode cX2_shift 187 = .ok (.ireturn, 1) := dk_172 (dk_at dksX2_shift_8 5 rfl rfl)
abbrev cX2_taken : ByteArray := prog_32_method_91_code
def yX2_taken : MethodName := ⟨RX2, "taken", "(II)I"⟩
def dkwX2_taken_4 : List UInt8 := [167, 0, 5, 16, 244, 172]
abbrev dktX2_taken_4 : List UInt8 := dkwX2_taken_4 ++ []
def dkwX2_taken_3 : List UInt8 := [184, 1, 119, 62, 167, 255, 242, 29, 28, 160, 0, 16, 42, 42, 180, 0, 83, 27, 46, 182, 1, 116]
abbrev dktX2_taken_3 : List UInt8 := dkwX2_taken_3 ++ dktX2_taken_4
def dkwX2_taken_2 : List UInt8 := [172, 42, 42, 180, 0, 83, 27, 46, 182, 1, 116, 62, 29, 28, 159, 0, 15, 29, 158, 0, 11, 29]
abbrev dktX2_taken_2 : List UInt8 := dkwX2_taken_2 ++ dktX2_taken_3
def dkwX2_taken_1 : List UInt8 := [180, 0, 83, 27, 46, 156, 0, 6, 16, 245, 172, 42, 180, 0, 83, 27, 46, 16, 50, 161, 0, 6, 16, 244]
abbrev dktX2_taken_1 : List UInt8 := dkwX2_taken_1 ++ dktX2_taken_2
def dkwX2_taken_0 : List UInt8 := [27, 184, 0, 126, 153, 0, 15, 28, 133, 9, 20, 1, 74, 184, 0, 105, 154, 0, 5, 2, 172, 42]
abbrev dktX2_taken_0 : List UInt8 := dkwX2_taken_0 ++ dktX2_taken_1
theorem dksX2_taken_0 : cX2_taken.data.toList.drop 0 = dktX2_taken_0 := by decide +kernel
theorem dksX2_taken_1 : cX2_taken.data.toList.drop 22 = dktX2_taken_1 := dk_seg dksX2_taken_0 22 rfl rfl
theorem dksX2_taken_2 : cX2_taken.data.toList.drop 46 = dktX2_taken_2 := dk_seg dksX2_taken_1 24 rfl rfl
theorem dksX2_taken_3 : cX2_taken.data.toList.drop 68 = dktX2_taken_3 := dk_seg dksX2_taken_2 22 rfl rfl
theorem dksX2_taken_4 : cX2_taken.data.toList.drop 90 = dktX2_taken_4 := dk_seg dksX2_taken_3 22 rfl rfl
theorem dX2_taken_0 : decode cX2_taken 0 = .ok (.iload_n 1, 1) := dk_27 (dk_at dksX2_taken_0 0 rfl rfl)
theorem dX2_taken_1 : decode cX2_taken 1 = .ok (.invokestatic 126, 3) := dk_184 0 126 (dk_at dksX2_taken_0 1 rfl rfl)
theorem dX2_taken_4 : decode cX2_taken 4 = .ok (.ifCond .eq 15, 3) := dk_153 0 15 (dk_at dksX2_taken_0 4 rfl rfl)
theorem dX2_taken_7 : decode cX2_taken 7 = .ok (.iload_n 2, 1) := dk_28 (dk_at dksX2_taken_0 7 rfl rfl)
theorem dX2_taken_8 : decode cX2_taken 8 = .ok (.i2l, 1) := dk_133 (dk_at dksX2_taken_0 8 rfl rfl)
theorem dX2_taken_9 : decode cX2_taken 9 = .ok (.lconst 0, 1) := dk_9 (dk_at dksX2_taken_0 9 rfl rfl)
theorem dX2_taken_10 : decode cX2_taken 10 = .ok (.ldc2_w 330, 3) := dk_20 1 74 (dk_at dksX2_taken_0 10 rfl rfl)
theorem dX2_taken_13 : decode cX2_taken 13 = .ok (.invokestatic 105, 3) := dk_184 0 105 (dk_at dksX2_taken_0 13 rfl rfl)
theorem dX2_taken_16 : decode cX2_taken 16 = .ok (.ifCond .ne 5, 3) := dk_154 0 5 (dk_at dksX2_taken_0 16 rfl rfl)
theorem dX2_taken_19 : decode cX2_taken 19 = .ok (.iconst (-1), 1) := dk_2 (dk_at dksX2_taken_0 19 rfl rfl)
theorem dX2_taken_20 : decode cX2_taken 20 = .ok (.ireturn, 1) := dk_172 (dk_at dksX2_taken_0 20 rfl rfl)
theorem dX2_taken_21 : decode cX2_taken 21 = .ok (.aload_n 0, 1) := dk_42 (dk_at dksX2_taken_0 21 rfl rfl)
theorem dX2_taken_22 : decode cX2_taken 22 = .ok (.getfield 83, 3) := dk_180 0 83 (dk_at dksX2_taken_1 0 rfl rfl)
theorem dX2_taken_25 : decode cX2_taken 25 = .ok (.iload_n 1, 1) := dk_27 (dk_at dksX2_taken_1 3 rfl rfl)
theorem dX2_taken_26 : decode cX2_taken 26 = .ok (.iaload, 1) := dk_46 (dk_at dksX2_taken_1 4 rfl rfl)
theorem dX2_taken_27 : decode cX2_taken 27 = .ok (.ifCond .ge 6, 3) := dk_156 0 6 (dk_at dksX2_taken_1 5 rfl rfl)
theorem dX2_taken_30 : decode cX2_taken 30 = .ok (.bipush (-11), 2) := dk_16 245 (dk_at dksX2_taken_1 8 rfl rfl)
theorem dX2_taken_32 : decode cX2_taken 32 = .ok (.ireturn, 1) := dk_172 (dk_at dksX2_taken_1 10 rfl rfl)
theorem dX2_taken_33 : decode cX2_taken 33 = .ok (.aload_n 0, 1) := dk_42 (dk_at dksX2_taken_1 11 rfl rfl)
theorem dX2_taken_34 : decode cX2_taken 34 = .ok (.getfield 83, 3) := dk_180 0 83 (dk_at dksX2_taken_1 12 rfl rfl)
theorem dX2_taken_37 : decode cX2_taken 37 = .ok (.iload_n 1, 1) := dk_27 (dk_at dksX2_taken_1 15 rfl rfl)
theorem dX2_taken_38 : decode cX2_taken 38 = .ok (.iaload, 1) := dk_46 (dk_at dksX2_taken_1 16 rfl rfl)
theorem dX2_taken_39 : decode cX2_taken 39 = .ok (.bipush 50, 2) := dk_16 50 (dk_at dksX2_taken_1 17 rfl rfl)
theorem dX2_taken_41 : decode cX2_taken 41 = .ok (.if_icmp .lt 6, 3) := dk_161 0 6 (dk_at dksX2_taken_1 19 rfl rfl)
theorem dX2_taken_44 : decode cX2_taken 44 = .ok (.bipush (-12), 2) := dk_16 244 (dk_at dksX2_taken_1 22 rfl rfl)
theorem dX2_taken_46 : decode cX2_taken 46 = .ok (.ireturn, 1) := dk_172 (dk_at dksX2_taken_2 0 rfl rfl)
theorem dX2_taken_47 : decode cX2_taken 47 = .ok (.aload_n 0, 1) := dk_42 (dk_at dksX2_taken_2 1 rfl rfl)
theorem dX2_taken_48 : decode cX2_taken 48 = .ok (.aload_n 0, 1) := dk_42 (dk_at dksX2_taken_2 2 rfl rfl)
theorem dX2_taken_49 : decode cX2_taken 49 = .ok (.getfield 83, 3) := dk_180 0 83 (dk_at dksX2_taken_2 3 rfl rfl)
theorem dX2_taken_52 : decode cX2_taken 52 = .ok (.iload_n 1, 1) := dk_27 (dk_at dksX2_taken_2 6 rfl rfl)
theorem dX2_taken_53 : decode cX2_taken 53 = .ok (.iaload, 1) := dk_46 (dk_at dksX2_taken_2 7 rfl rfl)
theorem dX2_taken_54 : decode cX2_taken 54 = .ok (.invokevirtual 372, 3) := dk_182 1 116 (dk_at dksX2_taken_2 8 rfl rfl)
theorem dX2_taken_57 : decode cX2_taken 57 = .ok (.istore_n 3, 1) := dk_62 (dk_at dksX2_taken_2 11 rfl rfl)
theorem dX2_taken_58 : decode cX2_taken 58 = .ok (.iload_n 3, 1) := dk_29 (dk_at dksX2_taken_2 12 rfl rfl)
theorem dX2_taken_59 : decode cX2_taken 59 = .ok (.iload_n 2, 1) := dk_28 (dk_at dksX2_taken_2 13 rfl rfl)
theorem dX2_taken_60 : decode cX2_taken 60 = .ok (.if_icmp .eq 15, 3) := dk_159 0 15 (dk_at dksX2_taken_2 14 rfl rfl)
theorem dX2_taken_63 : decode cX2_taken 63 = .ok (.iload_n 3, 1) := dk_29 (dk_at dksX2_taken_2 17 rfl rfl)
theorem dX2_taken_64 : decode cX2_taken 64 = .ok (.ifCond .le 11, 3) := dk_158 0 11 (dk_at dksX2_taken_2 18 rfl rfl)
theorem dX2_taken_67 : decode cX2_taken 67 = .ok (.iload_n 3, 1) := dk_29 (dk_at dksX2_taken_2 21 rfl rfl)
theorem dX2_taken_68 : decode cX2_taken 68 = .ok (.invokestatic 375, 3) := dk_184 1 119 (dk_at dksX2_taken_3 0 rfl rfl)
theorem dX2_taken_71 : decode cX2_taken 71 = .ok (.istore_n 3, 1) := dk_62 (dk_at dksX2_taken_3 3 rfl rfl)
theorem dX2_taken_72 : decode cX2_taken 72 = .ok (.goto (-14), 3) := dk_167 255 242 (dk_at dksX2_taken_3 4 rfl rfl)
theorem dX2_taken_75 : decode cX2_taken 75 = .ok (.iload_n 3, 1) := dk_29 (dk_at dksX2_taken_3 7 rfl rfl)
theorem dX2_taken_76 : decode cX2_taken 76 = .ok (.iload_n 2, 1) := dk_28 (dk_at dksX2_taken_3 8 rfl rfl)
theorem dX2_taken_77 : decode cX2_taken 77 = .ok (.if_icmp .ne 16, 3) := dk_160 0 16 (dk_at dksX2_taken_3 9 rfl rfl)
theorem dX2_taken_80 : decode cX2_taken 80 = .ok (.aload_n 0, 1) := dk_42 (dk_at dksX2_taken_3 12 rfl rfl)
theorem dX2_taken_81 : decode cX2_taken 81 = .ok (.aload_n 0, 1) := dk_42 (dk_at dksX2_taken_3 13 rfl rfl)
theorem dX2_taken_82 : decode cX2_taken 82 = .ok (.getfield 83, 3) := dk_180 0 83 (dk_at dksX2_taken_3 14 rfl rfl)
theorem dX2_taken_85 : decode cX2_taken 85 = .ok (.iload_n 1, 1) := dk_27 (dk_at dksX2_taken_3 17 rfl rfl)
theorem dX2_taken_86 : decode cX2_taken 86 = .ok (.iaload, 1) := dk_46 (dk_at dksX2_taken_3 18 rfl rfl)
theorem dX2_taken_87 : decode cX2_taken 87 = .ok (.invokevirtual 372, 3) := dk_182 1 116 (dk_at dksX2_taken_3 19 rfl rfl)
theorem dX2_taken_90 : decode cX2_taken 90 = .ok (.goto 5, 3) := dk_167 0 5 (dk_at dksX2_taken_4 0 rfl rfl)
theorem dX2_taken_93 : decode cX2_taken 93 = .ok (.bipush (-12), 2) := dk_16 244 (dk_at dksX2_taken_4 3 rfl rfl)
theorem dX2_taken_95 : decode cX2_taken 95 = .ok (.ireturn, 1) := dk_172 (dk_at dksX2_taken_4 5 rfl rfl)
abbrev cX2_kindOf : ByteArray := prog_32_method_73_code
def yX2_kindOf : MethodName := ⟨RX2, "kindOf", "(I)I"⟩
def dkwX2_kindOf_0 : List UInt8 := [42, 180, 0, 77, 27, 46, 172]
abbrev dktX2_kindOf_0 : List UInt8 := dkwX2_kindOf_0 ++ []
theorem dksX2_kindOf_0 : cX2_kindOf.data.toList.drop 0 = dktX2_kindOf_0 := by decide +kernel
theorem dX2_kindOf_0 : decode cX2_kindOf 0 = .ok (.aload_n 0, 1) := dk_42 (dk_at dksX2_kindOf_0 0 rfl rfl)
theorem dX2_kindOf_1 : decode cX2_kindOf 1 = .ok (.getfield 77, 3) := dk_180 0 77 (dk_at dksX2_kindOf_0 1 rfl rfl)
theorem dX2_kindOf_4 : decode cX2_kindOf 4 = .ok (.iload_n 1, 1) := dk_27 (dk_at dksX2_kindOf_0 4 rfl rfl)
theorem dX2_kindOf_5 : decode cX2_kindOf 5 = .ok (.iaload, 1) := dk_46 (dk_at dksX2_kindOf_0 5 rfl rfl)
theorem dX2_kindOf_6 : decode cX2_kindOf 6 = .ok (.ireturn, 1) := dk_172 (dk_at dksX2_kindOf_0 6 rfl rfl)
abbrev cX2_above : ByteArray := prog_32_method_75_code
def yX2_above : MethodName := ⟨RX2, "above", "(I)I"⟩
def dkwX2_above_1 : List UInt8 := [16, 7, 160, 0, 7, 7, 167, 0, 4, 3, 172]
abbrev dktX2_above_1 : List UInt8 := dkwX2_above_1 ++ []
def dkwX2_above_0 : List UInt8 := [26, 6, 159, 0, 8, 26, 7, 160, 0, 7, 5, 167, 0, 23, 26, 8, 160, 0, 7, 6, 167, 0, 14, 26]
abbrev dktX2_above_0 : List UInt8 := dkwX2_above_0 ++ dktX2_above_1
theorem dksX2_above_0 : cX2_above.data.toList.drop 0 = dktX2_above_0 := by decide +kernel
theorem dksX2_above_1 : cX2_above.data.toList.drop 24 = dktX2_above_1 := dk_seg dksX2_above_0 24 rfl rfl
theorem dX2_above_0 : decode cX2_above 0 = .ok (.iload_n 0, 1) := dk_26 (dk_at dksX2_above_0 0 rfl rfl)
theorem dX2_above_1 : decode cX2_above 1 = .ok (.iconst 3, 1) := dk_6 (dk_at dksX2_above_0 1 rfl rfl)
theorem dX2_above_2 : decode cX2_above 2 = .ok (.if_icmp .eq 8, 3) := dk_159 0 8 (dk_at dksX2_above_0 2 rfl rfl)
theorem dX2_above_5 : decode cX2_above 5 = .ok (.iload_n 0, 1) := dk_26 (dk_at dksX2_above_0 5 rfl rfl)
theorem dX2_above_6 : decode cX2_above 6 = .ok (.iconst 4, 1) := dk_7 (dk_at dksX2_above_0 6 rfl rfl)
theorem dX2_above_7 : decode cX2_above 7 = .ok (.if_icmp .ne 7, 3) := dk_160 0 7 (dk_at dksX2_above_0 7 rfl rfl)
theorem dX2_above_10 : decode cX2_above 10 = .ok (.iconst 2, 1) := dk_5 (dk_at dksX2_above_0 10 rfl rfl)
theorem dX2_above_11 : decode cX2_above 11 = .ok (.goto 23, 3) := dk_167 0 23 (dk_at dksX2_above_0 11 rfl rfl)
theorem dX2_above_14 : decode cX2_above 14 = .ok (.iload_n 0, 1) := dk_26 (dk_at dksX2_above_0 14 rfl rfl)
theorem dX2_above_15 : decode cX2_above 15 = .ok (.iconst 5, 1) := dk_8 (dk_at dksX2_above_0 15 rfl rfl)
theorem dX2_above_16 : decode cX2_above 16 = .ok (.if_icmp .ne 7, 3) := dk_160 0 7 (dk_at dksX2_above_0 16 rfl rfl)
theorem dX2_above_19 : decode cX2_above 19 = .ok (.iconst 3, 1) := dk_6 (dk_at dksX2_above_0 19 rfl rfl)
theorem dX2_above_20 : decode cX2_above 20 = .ok (.goto 14, 3) := dk_167 0 14 (dk_at dksX2_above_0 20 rfl rfl)
theorem dX2_above_23 : decode cX2_above 23 = .ok (.iload_n 0, 1) := dk_26 (dk_at dksX2_above_0 23 rfl rfl)
theorem dX2_above_24 : decode cX2_above 24 = .ok (.bipush 7, 2) := dk_16 7 (dk_at dksX2_above_1 0 rfl rfl)
theorem dX2_above_26 : decode cX2_above 26 = .ok (.if_icmp .ne 7, 3) := dk_160 0 7 (dk_at dksX2_above_1 2 rfl rfl)
theorem dX2_above_29 : decode cX2_above 29 = .ok (.iconst 4, 1) := dk_7 (dk_at dksX2_above_1 5 rfl rfl)
theorem dX2_above_30 : decode cX2_above 30 = .ok (.goto 4, 3) := dk_167 0 4 (dk_at dksX2_above_1 6 rfl rfl)
theorem dX2_above_33 : decode cX2_above 33 = .ok (.iconst 0, 1) := dk_3 (dk_at dksX2_above_1 9 rfl rfl)
theorem dX2_above_34 : decode cX2_above 34 = .ok (.ireturn, 1) := dk_172 (dk_at dksX2_above_1 10 rfl rfl)
abbrev cX2_count : ByteArray := prog_32_method_92_code
def yX2_count : MethodName := ⟨RX2, "count", "(I)I"⟩
def dkwX2_count_3 : List UInt8 := [172, 42, 180, 1, 71, 172, 42, 180, 1, 76, 172, 2, 172]
abbrev dktX2_count_3 : List UInt8 := dkwX2_count_3 ++ []
def dkwX2_count_2 : List UInt8 := [42, 180, 0, 102, 172, 42, 180, 0, 109, 172, 42, 180, 0, 141, 172, 42, 180, 0, 158, 172, 42, 180, 0, 96]
abbrev dktX2_count_2 : List UInt8 := dkwX2_count_2 ++ dktX2_count_3
def dkwX2_count_1 : List UInt8 := [170, 0, 0, 0, 0, 0, 78, 0, 0, 0, 0, 0, 0, 0, 6, 0, 0, 0, 43, 0, 0, 0, 48, 0, 0, 0, 53, 0, 0, 0, 58, 0, 0, 0, 63, 0, 0, 0, 68, 0, 0, 0, 73]
abbrev dktX2_count_1 : List UInt8 := dkwX2_count_1 ++ dktX2_count_2
def dkwX2_count_0 : List UInt8 := [27]
abbrev dktX2_count_0 : List UInt8 := dkwX2_count_0 ++ dktX2_count_1
theorem dksX2_count_0 : cX2_count.data.toList.drop 0 = dktX2_count_0 := by decide +kernel
theorem dksX2_count_1 : cX2_count.data.toList.drop 1 = dktX2_count_1 := dk_seg dksX2_count_0 1 rfl rfl
theorem dksX2_count_2 : cX2_count.data.toList.drop 44 = dktX2_count_2 := dk_seg dksX2_count_1 43 rfl rfl
theorem dksX2_count_3 : cX2_count.data.toList.drop 68 = dktX2_count_3 := dk_seg dksX2_count_2 24 rfl rfl
theorem dX2_count_0 : decode cX2_count 0 = .ok (.iload_n 1, 1) := dk_27 (dk_at dksX2_count_0 0 rfl rfl)
theorem dX2_count_1 : decode cX2_count 1 = .ok (.tableswitch 78 0 6 #[43, 48, 53, 58, 63, 68, 73], 43) := by decide +kernel
theorem dX2_count_44 : decode cX2_count 44 = .ok (.aload_n 0, 1) := dk_42 (dk_at dksX2_count_2 0 rfl rfl)
theorem dX2_count_45 : decode cX2_count 45 = .ok (.getfield 102, 3) := dk_180 0 102 (dk_at dksX2_count_2 1 rfl rfl)
theorem dX2_count_48 : decode cX2_count 48 = .ok (.ireturn, 1) := dk_172 (dk_at dksX2_count_2 4 rfl rfl)
theorem dX2_count_49 : decode cX2_count 49 = .ok (.aload_n 0, 1) := dk_42 (dk_at dksX2_count_2 5 rfl rfl)
theorem dX2_count_50 : decode cX2_count 50 = .ok (.getfield 109, 3) := dk_180 0 109 (dk_at dksX2_count_2 6 rfl rfl)
theorem dX2_count_53 : decode cX2_count 53 = .ok (.ireturn, 1) := dk_172 (dk_at dksX2_count_2 9 rfl rfl)
theorem dX2_count_54 : decode cX2_count 54 = .ok (.aload_n 0, 1) := dk_42 (dk_at dksX2_count_2 10 rfl rfl)
theorem dX2_count_55 : decode cX2_count 55 = .ok (.getfield 141, 3) := dk_180 0 141 (dk_at dksX2_count_2 11 rfl rfl)
theorem dX2_count_58 : decode cX2_count 58 = .ok (.ireturn, 1) := dk_172 (dk_at dksX2_count_2 14 rfl rfl)
theorem dX2_count_59 : decode cX2_count 59 = .ok (.aload_n 0, 1) := dk_42 (dk_at dksX2_count_2 15 rfl rfl)
theorem dX2_count_60 : decode cX2_count 60 = .ok (.getfield 158, 3) := dk_180 0 158 (dk_at dksX2_count_2 16 rfl rfl)
theorem dX2_count_63 : decode cX2_count 63 = .ok (.ireturn, 1) := dk_172 (dk_at dksX2_count_2 19 rfl rfl)
theorem dX2_count_64 : decode cX2_count 64 = .ok (.aload_n 0, 1) := dk_42 (dk_at dksX2_count_2 20 rfl rfl)
theorem dX2_count_65 : decode cX2_count 65 = .ok (.getfield 96, 3) := dk_180 0 96 (dk_at dksX2_count_2 21 rfl rfl)
theorem dX2_count_68 : decode cX2_count 68 = .ok (.ireturn, 1) := dk_172 (dk_at dksX2_count_3 0 rfl rfl)
theorem dX2_count_69 : decode cX2_count 69 = .ok (.aload_n 0, 1) := dk_42 (dk_at dksX2_count_3 1 rfl rfl)
theorem dX2_count_70 : decode cX2_count 70 = .ok (.getfield 327, 3) := dk_180 1 71 (dk_at dksX2_count_3 2 rfl rfl)
theorem dX2_count_73 : decode cX2_count 73 = .ok (.ireturn, 1) := dk_172 (dk_at dksX2_count_3 5 rfl rfl)
theorem dX2_count_74 : decode cX2_count 74 = .ok (.aload_n 0, 1) := dk_42 (dk_at dksX2_count_3 6 rfl rfl)
theorem dX2_count_75 : decode cX2_count 75 = .ok (.getfield 332, 3) := dk_180 1 76 (dk_at dksX2_count_3 7 rfl rfl)
theorem dX2_count_78 : decode cX2_count 78 = .ok (.ireturn, 1) := dk_172 (dk_at dksX2_count_3 10 rfl rfl)
theorem dX2_count_79 : decode cX2_count 79 = .ok (.iconst (-1), 1) := dk_2 (dk_at dksX2_count_3 11 rfl rfl)
theorem dX2_count_80 : decode cX2_count 80 = .ok (.ireturn, 1) := dk_172 (dk_at dksX2_count_3 12 rfl rfl)
theorem q84 : (Jvm.Cond.initialized "PointsForAllModel") ∈ lw_all := lw_g (lw_at lw_m1 3 rfl) rfl
theorem q1448 : (Jvm.Cond.instantiable "PointsForAllModel" (55 : Nat)) ∈ lw_all := lw_g (lw_at lw_m6 167 rfl) rfl
theorem q1450 : (Jvm.Cond.instanceMethod ({ cls := "PointsForAllModel", name := "<init>", desc := "()V" } : Jvm.MethodName)) ∈ lw_all := lw_g (lw_at lw_m6 169 rfl) rfl
theorem q1451 : (Jvm.Cond.code ({ cls := "PointsForAllModel", name := "<init>", desc := "()V" } : Jvm.MethodName) prog_32_method_3_code (2 : Nat) (Option.none : Option Jvm.ClassFile.FieldType)) ∈ lw_all := lw_g (lw_at lw_m6 170 rfl) rfl
theorem q1452 : (Jvm.Cond.methodLink "PointsForAllModel" (3 : Nat) ({ cls := "java/lang/Object", name := "<init>", desc := "()V" } : Jvm.MethodName)) ∈ lw_all := lw_g (lw_at lw_m6 171 rfl) rfl
theorem q1453 : (Jvm.Cond.fieldLink "PointsForAllModel" (9 : Nat) "PointsForAllModel" "may" "[I") ∈ lw_all := lw_g (lw_at lw_m6 172 rfl) rfl
theorem q1454 : (Jvm.Cond.fieldLink "PointsForAllModel" (13 : Nat) "PointsForAllModel" "changeAt" "[I") ∈ lw_all := lw_g (lw_at lw_m6 173 rfl) rfl
theorem q1455 : (Jvm.Cond.fieldLink "PointsForAllModel" (16 : Nat) "PointsForAllModel" "changeWas" "[I") ∈ lw_all := lw_g (lw_at lw_m6 174 rfl) rfl
theorem q1456 : (Jvm.Cond.fieldLink "PointsForAllModel" (19 : Nat) "PointsForAllModel" "changeIs" "[I") ∈ lw_all := lw_g (lw_at lw_m6 175 rfl) rfl
theorem q1457 : (Jvm.Cond.fieldLink "PointsForAllModel" (99 : Nat) "PointsForAllModel" "keptMany" "I") ∈ lw_all := lw_g (lw_at lw_m6 176 rfl) rfl
theorem q1458 : (Jvm.Cond.fieldLink "PointsForAllModel" (96 : Nat) "PointsForAllModel" "done" "I") ∈ lw_all := lw_g (lw_at lw_m6 177 rfl) rfl
theorem q1459 : (Jvm.Cond.fieldLink "PointsForAllModel" (102 : Nat) "PointsForAllModel" "things" "I") ∈ lw_all := lw_g (lw_at lw_m6 178 rfl) rfl
theorem q1460 : (Jvm.Cond.fieldLink "PointsForAllModel" (22 : Nat) "PointsForAllModel" "madeAt" "[I") ∈ lw_all := lw_g (lw_at lw_m6 179 rfl) rfl
theorem q1461 : (Jvm.Cond.fieldLink "PointsForAllModel" (109 : Nat) "PointsForAllModel" "sorts" "I") ∈ lw_all := lw_g (lw_at lw_m6 180 rfl) rfl
theorem q1462 : (Jvm.Cond.fieldLink "PointsForAllModel" (25 : Nat) "PointsForAllModel" "heads" "[I") ∈ lw_all := lw_g (lw_at lw_m6 181 rfl) rfl
theorem q1463 : (Jvm.Cond.fieldLink "PointsForAllModel" (28 : Nat) "PointsForAllModel" "babies" "[I") ∈ lw_all := lw_g (lw_at lw_m6 182 rfl) rfl
theorem q1464 : (Jvm.Cond.fieldLink "PointsForAllModel" (31 : Nat) "PointsForAllModel" "wantOf" "[I") ∈ lw_all := lw_g (lw_at lw_m6 183 rfl) rfl
theorem q1465 : (Jvm.Cond.fieldLink "PointsForAllModel" (34 : Nat) "PointsForAllModel" "told" "[I") ∈ lw_all := lw_g (lw_at lw_m6 184 rfl) rfl
theorem q1466 : (Jvm.Cond.fieldLink "PointsForAllModel" (37 : Nat) "PointsForAllModel" "tape" "[I") ∈ lw_all := lw_g (lw_at lw_m6 185 rfl) rfl
theorem q1467 : (Jvm.Cond.fieldLink "PointsForAllModel" (158 : Nat) "PointsForAllModel" "tapeMany" "I") ∈ lw_all := lw_g (lw_at lw_m6 186 rfl) rfl
theorem q1468 : (Jvm.Cond.fieldLink "PointsForAllModel" (141 : Nat) "PointsForAllModel" "wants" "I") ∈ lw_all := lw_g (lw_at lw_m6 187 rfl) rfl
theorem q1469 : (Jvm.Cond.fieldLink "PointsForAllModel" (40 : Nat) "PointsForAllModel" "text" "[I") ∈ lw_all := lw_g (lw_at lw_m6 188 rfl) rfl
theorem q1470 : (Jvm.Cond.fieldLink "PointsForAllModel" (43 : Nat) "PointsForAllModel" "textMany" "[I") ∈ lw_all := lw_g (lw_at lw_m6 189 rfl) rfl
theorem q1471 : (Jvm.Cond.fieldLink "PointsForAllModel" (167 : Nat) "PointsForAllModel" "base" "I") ∈ lw_all := lw_g (lw_at lw_m6 190 rfl) rfl
theorem q1472 : (Jvm.Cond.fieldLink "PointsForAllModel" (161 : Nat) "PointsForAllModel" "at" "I") ∈ lw_all := lw_g (lw_at lw_m6 191 rfl) rfl
theorem q1473 : (Jvm.Cond.fieldLink "PointsForAllModel" (164 : Nat) "PointsForAllModel" "ends" "I") ∈ lw_all := lw_g (lw_at lw_m6 192 rfl) rfl
theorem q1474 : (Jvm.Cond.fieldLink "PointsForAllModel" (170 : Nat) "PointsForAllModel" "fault" "I") ∈ lw_all := lw_g (lw_at lw_m6 193 rfl) rfl
theorem q1475 : (Jvm.Cond.fieldLink "PointsForAllModel" (194 : Nat) "PointsForAllModel" "opened" "I") ∈ lw_all := lw_g (lw_at lw_m6 194 rfl) rfl
theorem q1476 : (Jvm.Cond.fieldLink "PointsForAllModel" (46 : Nat) "PointsForAllModel" "names" "[I") ∈ lw_all := lw_g (lw_at lw_m6 195 rfl) rfl
theorem q1477 : (Jvm.Cond.fieldLink "PointsForAllModel" (49 : Nat) "PointsForAllModel" "worths" "[I") ∈ lw_all := lw_g (lw_at lw_m6 196 rfl) rfl
theorem q1478 : (Jvm.Cond.fieldLink "PointsForAllModel" (52 : Nat) "PointsForAllModel" "inBasket" "[I") ∈ lw_all := lw_g (lw_at lw_m6 197 rfl) rfl
theorem q1479 : (Jvm.Cond.fieldLink "PointsForAllModel" (213 : Nat) "PointsForAllModel" "basketWorth" "I") ∈ lw_all := lw_g (lw_at lw_m6 198 rfl) rfl
theorem q1480 : (Jvm.Cond.fieldLink "PointsForAllModel" (216 : Nat) "PointsForAllModel" "basketCoin" "I") ∈ lw_all := lw_g (lw_at lw_m6 199 rfl) rfl
theorem q1481 : (Jvm.Cond.fieldLink "PointsForAllModel" (219 : Nat) "PointsForAllModel" "basketPoints" "I") ∈ lw_all := lw_g (lw_at lw_m6 200 rfl) rfl
theorem q1482 : (Jvm.Cond.fieldLink "PointsForAllModel" (55 : Nat) "PointsForAllModel" "dearer" "I") ∈ lw_all := lw_g (lw_at lw_m6 201 rfl) rfl
theorem q1483 : (Jvm.Cond.fieldLink "PointsForAllModel" (232 : Nat) "PointsForAllModel" "bestWorth" "I") ∈ lw_all := lw_g (lw_at lw_m6 202 rfl) rfl
theorem q1484 : (Jvm.Cond.fieldLink "PointsForAllModel" (235 : Nat) "PointsForAllModel" "bestCoin" "I") ∈ lw_all := lw_g (lw_at lw_m6 203 rfl) rfl
theorem q1485 : (Jvm.Cond.fieldLink "PointsForAllModel" (238 : Nat) "PointsForAllModel" "bestPoints" "I") ∈ lw_all := lw_g (lw_at lw_m6 204 rfl) rfl
theorem q1486 : (Jvm.Cond.fieldLink "PointsForAllModel" (59 : Nat) "PointsForAllModel" "wanted" "[I") ∈ lw_all := lw_g (lw_at lw_m6 205 rfl) rfl
theorem q1487 : (Jvm.Cond.fieldLink "PointsForAllModel" (62 : Nat) "PointsForAllModel" "takes" "[I") ∈ lw_all := lw_g (lw_at lw_m6 206 rfl) rfl
theorem q1488 : (Jvm.Cond.fieldLink "PointsForAllModel" (263 : Nat) "PointsForAllModel" "movedRounds" "I") ∈ lw_all := lw_g (lw_at lw_m6 207 rfl) rfl
theorem q1489 : (Jvm.Cond.fieldLink "PointsForAllModel" (266 : Nat) "PointsForAllModel" "bothThen" "I") ∈ lw_all := lw_g (lw_at lw_m6 208 rfl) rfl
theorem q1490 : (Jvm.Cond.fieldLink "PointsForAllModel" (269 : Nat) "PointsForAllModel" "leastBoth" "I") ∈ lw_all := lw_g (lw_at lw_m6 209 rfl) rfl
theorem q1491 : (Jvm.Cond.fieldLink "PointsForAllModel" (272 : Nat) "PointsForAllModel" "leastRound" "I") ∈ lw_all := lw_g (lw_at lw_m6 210 rfl) rfl
theorem q1492 : (Jvm.Cond.fieldLink "PointsForAllModel" (65 : Nat) "PointsForAllModel" "pointsThen" "[I") ∈ lw_all := lw_g (lw_at lw_m6 211 rfl) rfl
theorem q1493 : (Jvm.Cond.fieldLink "PointsForAllModel" (68 : Nat) "PointsForAllModel" "pointsBest" "[I") ∈ lw_all := lw_g (lw_at lw_m6 212 rfl) rfl
theorem q1494 : (Jvm.Cond.fieldLink "PointsForAllModel" (71 : Nat) "PointsForAllModel" "pointsWas" "[I") ∈ lw_all := lw_g (lw_at lw_m6 213 rfl) rfl
theorem q1495 : (Jvm.Cond.fieldLink "PointsForAllModel" (294 : Nat) "PointsForAllModel" "changedWorth" "I") ∈ lw_all := lw_g (lw_at lw_m6 214 rfl) rfl
theorem q1496 : (Jvm.Cond.fieldLink "PointsForAllModel" (297 : Nat) "PointsForAllModel" "changedPoints" "I") ∈ lw_all := lw_g (lw_at lw_m6 215 rfl) rfl
theorem q1497 : (Jvm.Cond.fieldLink "PointsForAllModel" (74 : Nat) "PointsForAllModel" "worthBy" "[I") ∈ lw_all := lw_g (lw_at lw_m6 216 rfl) rfl
theorem q1498 : (Jvm.Cond.fieldLink "PointsForAllModel" (327 : Nat) "PointsForAllModel" "bodies" "I") ∈ lw_all := lw_g (lw_at lw_m6 217 rfl) rfl
theorem q1499 : (Jvm.Cond.fieldLink "PointsForAllModel" (77 : Nat) "PointsForAllModel" "bodyKind" "[I") ∈ lw_all := lw_g (lw_at lw_m6 218 rfl) rfl
theorem q1500 : (Jvm.Cond.fieldLink "PointsForAllModel" (80 : Nat) "PointsForAllModel" "trace" "[I") ∈ lw_all := lw_g (lw_at lw_m6 219 rfl) rfl
theorem q1501 : (Jvm.Cond.fieldLink "PointsForAllModel" (332 : Nat) "PointsForAllModel" "ran" "I") ∈ lw_all := lw_g (lw_at lw_m6 220 rfl) rfl
theorem q1502 : (Jvm.Cond.fieldLink "PointsForAllModel" (347 : Nat) "PointsForAllModel" "ownKind" "I") ∈ lw_all := lw_g (lw_at lw_m6 221 rfl) rfl
theorem q1503 : (Jvm.Cond.fieldLink "PointsForAllModel" (341 : Nat) "PointsForAllModel" "ownNumber" "I") ∈ lw_all := lw_g (lw_at lw_m6 222 rfl) rfl
theorem q1504 : (Jvm.Cond.fieldLink "PointsForAllModel" (83 : Nat) "PointsForAllModel" "shelf" "[I") ∈ lw_all := lw_g (lw_at lw_m6 223 rfl) rfl
theorem q1505 : (Jvm.Cond.fieldLink "PointsForAllModel" (86 : Nat) "PointsForAllModel" "many" "[I") ∈ lw_all := lw_g (lw_at lw_m6 224 rfl) rfl
theorem q1506 : (Jvm.Cond.fieldLink "PointsForAllModel" (89 : Nat) "PointsForAllModel" "items" "[J") ∈ lw_all := lw_g (lw_at lw_m6 225 rfl) rfl
theorem q1507 : (Jvm.Cond.fieldLink "PointsForAllModel" (93 : Nat) "PointsForAllModel" "carried" "[J") ∈ lw_all := lw_g (lw_at lw_m6 226 rfl) rfl
theorem q1508 : (Jvm.Cond.laysFinal "PointsForAllModel" "PointsForAllModel" "may" "[I") ∈ lw_all := lw_g (lw_at lw_m6 227 rfl) rfl
theorem q1509 : (Jvm.Cond.soleField "PointsForAllModel" "may") ∈ lw_all := lw_g (lw_at lw_m6 228 rfl) rfl
theorem q1510 : (Jvm.Cond.laysFinal "PointsForAllModel" "PointsForAllModel" "changeAt" "[I") ∈ lw_all := lw_g (lw_at lw_m6 229 rfl) rfl
theorem q1511 : (Jvm.Cond.soleField "PointsForAllModel" "changeAt") ∈ lw_all := lw_g (lw_at lw_m6 230 rfl) rfl
theorem q1512 : (Jvm.Cond.laysFinal "PointsForAllModel" "PointsForAllModel" "changeWas" "[I") ∈ lw_all := lw_g (lw_at lw_m6 231 rfl) rfl
theorem q1513 : (Jvm.Cond.soleField "PointsForAllModel" "changeWas") ∈ lw_all := lw_g (lw_at lw_m6 232 rfl) rfl
theorem q1514 : (Jvm.Cond.laysFinal "PointsForAllModel" "PointsForAllModel" "changeIs" "[I") ∈ lw_all := lw_g (lw_at lw_m6 233 rfl) rfl
theorem q1515 : (Jvm.Cond.soleField "PointsForAllModel" "changeIs") ∈ lw_all := lw_g (lw_at lw_m6 234 rfl) rfl
theorem q1516 : (Jvm.Cond.lays "PointsForAllModel" "PointsForAllModel" "keptMany" "I") ∈ lw_all := lw_g (lw_at lw_m6 235 rfl) rfl
theorem q1517 : (Jvm.Cond.soleField "PointsForAllModel" "keptMany") ∈ lw_all := lw_g (lw_at lw_m6 236 rfl) rfl
theorem q1518 : (Jvm.Cond.lays "PointsForAllModel" "PointsForAllModel" "done" "I") ∈ lw_all := lw_g (lw_at lw_m6 237 rfl) rfl
theorem q1519 : (Jvm.Cond.soleField "PointsForAllModel" "done") ∈ lw_all := lw_g (lw_at lw_m6 238 rfl) rfl
theorem q1520 : (Jvm.Cond.lays "PointsForAllModel" "PointsForAllModel" "things" "I") ∈ lw_all := lw_g (lw_at lw_m6 239 rfl) rfl
theorem q1521 : (Jvm.Cond.soleField "PointsForAllModel" "things") ∈ lw_all := lw_g (lw_at lw_m7 0 rfl) rfl
theorem q1522 : (Jvm.Cond.laysFinal "PointsForAllModel" "PointsForAllModel" "madeAt" "[I") ∈ lw_all := lw_g (lw_at lw_m7 1 rfl) rfl
theorem q1523 : (Jvm.Cond.soleField "PointsForAllModel" "madeAt") ∈ lw_all := lw_g (lw_at lw_m7 2 rfl) rfl
theorem q1524 : (Jvm.Cond.lays "PointsForAllModel" "PointsForAllModel" "sorts" "I") ∈ lw_all := lw_g (lw_at lw_m7 3 rfl) rfl
theorem q1525 : (Jvm.Cond.soleField "PointsForAllModel" "sorts") ∈ lw_all := lw_g (lw_at lw_m7 4 rfl) rfl
theorem q1526 : (Jvm.Cond.laysFinal "PointsForAllModel" "PointsForAllModel" "heads" "[I") ∈ lw_all := lw_g (lw_at lw_m7 5 rfl) rfl
theorem q1527 : (Jvm.Cond.soleField "PointsForAllModel" "heads") ∈ lw_all := lw_g (lw_at lw_m7 6 rfl) rfl
theorem q1528 : (Jvm.Cond.laysFinal "PointsForAllModel" "PointsForAllModel" "babies" "[I") ∈ lw_all := lw_g (lw_at lw_m7 7 rfl) rfl
theorem q1529 : (Jvm.Cond.soleField "PointsForAllModel" "babies") ∈ lw_all := lw_g (lw_at lw_m7 8 rfl) rfl
theorem q1530 : (Jvm.Cond.laysFinal "PointsForAllModel" "PointsForAllModel" "wantOf" "[I") ∈ lw_all := lw_g (lw_at lw_m7 9 rfl) rfl
theorem q1531 : (Jvm.Cond.soleField "PointsForAllModel" "wantOf") ∈ lw_all := lw_g (lw_at lw_m7 10 rfl) rfl
theorem q1532 : (Jvm.Cond.laysFinal "PointsForAllModel" "PointsForAllModel" "told" "[I") ∈ lw_all := lw_g (lw_at lw_m7 11 rfl) rfl
theorem q1533 : (Jvm.Cond.soleField "PointsForAllModel" "told") ∈ lw_all := lw_g (lw_at lw_m7 12 rfl) rfl
theorem q1534 : (Jvm.Cond.laysFinal "PointsForAllModel" "PointsForAllModel" "tape" "[I") ∈ lw_all := lw_g (lw_at lw_m7 13 rfl) rfl
theorem q1535 : (Jvm.Cond.soleField "PointsForAllModel" "tape") ∈ lw_all := lw_g (lw_at lw_m7 14 rfl) rfl
theorem q1536 : (Jvm.Cond.lays "PointsForAllModel" "PointsForAllModel" "tapeMany" "I") ∈ lw_all := lw_g (lw_at lw_m7 15 rfl) rfl
theorem q1537 : (Jvm.Cond.soleField "PointsForAllModel" "tapeMany") ∈ lw_all := lw_g (lw_at lw_m7 16 rfl) rfl
theorem q1538 : (Jvm.Cond.lays "PointsForAllModel" "PointsForAllModel" "wants" "I") ∈ lw_all := lw_g (lw_at lw_m7 17 rfl) rfl
theorem q1539 : (Jvm.Cond.soleField "PointsForAllModel" "wants") ∈ lw_all := lw_g (lw_at lw_m7 18 rfl) rfl
theorem q1540 : (Jvm.Cond.laysFinal "PointsForAllModel" "PointsForAllModel" "text" "[I") ∈ lw_all := lw_g (lw_at lw_m7 19 rfl) rfl
theorem q1541 : (Jvm.Cond.soleField "PointsForAllModel" "text") ∈ lw_all := lw_g (lw_at lw_m7 20 rfl) rfl
theorem q1542 : (Jvm.Cond.laysFinal "PointsForAllModel" "PointsForAllModel" "textMany" "[I") ∈ lw_all := lw_g (lw_at lw_m7 21 rfl) rfl
theorem q1543 : (Jvm.Cond.soleField "PointsForAllModel" "textMany") ∈ lw_all := lw_g (lw_at lw_m7 22 rfl) rfl
theorem q1544 : (Jvm.Cond.lays "PointsForAllModel" "PointsForAllModel" "base" "I") ∈ lw_all := lw_g (lw_at lw_m7 23 rfl) rfl
theorem q1545 : (Jvm.Cond.soleField "PointsForAllModel" "base") ∈ lw_all := lw_g (lw_at lw_m7 24 rfl) rfl
theorem q1546 : (Jvm.Cond.lays "PointsForAllModel" "PointsForAllModel" "at" "I") ∈ lw_all := lw_g (lw_at lw_m7 25 rfl) rfl
theorem q1547 : (Jvm.Cond.soleField "PointsForAllModel" "at") ∈ lw_all := lw_g (lw_at lw_m7 26 rfl) rfl
theorem q1548 : (Jvm.Cond.lays "PointsForAllModel" "PointsForAllModel" "ends" "I") ∈ lw_all := lw_g (lw_at lw_m7 27 rfl) rfl
theorem q1549 : (Jvm.Cond.soleField "PointsForAllModel" "ends") ∈ lw_all := lw_g (lw_at lw_m7 28 rfl) rfl
theorem q1550 : (Jvm.Cond.lays "PointsForAllModel" "PointsForAllModel" "fault" "I") ∈ lw_all := lw_g (lw_at lw_m7 29 rfl) rfl
theorem q1551 : (Jvm.Cond.soleField "PointsForAllModel" "fault") ∈ lw_all := lw_g (lw_at lw_m7 30 rfl) rfl
theorem q1552 : (Jvm.Cond.lays "PointsForAllModel" "PointsForAllModel" "opened" "I") ∈ lw_all := lw_g (lw_at lw_m7 31 rfl) rfl
theorem q1553 : (Jvm.Cond.soleField "PointsForAllModel" "opened") ∈ lw_all := lw_g (lw_at lw_m7 32 rfl) rfl
theorem q1554 : (Jvm.Cond.laysFinal "PointsForAllModel" "PointsForAllModel" "names" "[I") ∈ lw_all := lw_g (lw_at lw_m7 33 rfl) rfl
theorem q1555 : (Jvm.Cond.soleField "PointsForAllModel" "names") ∈ lw_all := lw_g (lw_at lw_m7 34 rfl) rfl
theorem q1556 : (Jvm.Cond.laysFinal "PointsForAllModel" "PointsForAllModel" "worths" "[I") ∈ lw_all := lw_g (lw_at lw_m7 35 rfl) rfl
theorem q1557 : (Jvm.Cond.soleField "PointsForAllModel" "worths") ∈ lw_all := lw_g (lw_at lw_m7 36 rfl) rfl
theorem q1558 : (Jvm.Cond.laysFinal "PointsForAllModel" "PointsForAllModel" "inBasket" "[I") ∈ lw_all := lw_g (lw_at lw_m7 37 rfl) rfl
theorem q1559 : (Jvm.Cond.soleField "PointsForAllModel" "inBasket") ∈ lw_all := lw_g (lw_at lw_m7 38 rfl) rfl
theorem q1560 : (Jvm.Cond.lays "PointsForAllModel" "PointsForAllModel" "basketWorth" "I") ∈ lw_all := lw_g (lw_at lw_m7 39 rfl) rfl
theorem q1561 : (Jvm.Cond.soleField "PointsForAllModel" "basketWorth") ∈ lw_all := lw_g (lw_at lw_m7 40 rfl) rfl
theorem q1562 : (Jvm.Cond.lays "PointsForAllModel" "PointsForAllModel" "basketCoin" "I") ∈ lw_all := lw_g (lw_at lw_m7 41 rfl) rfl
theorem q1563 : (Jvm.Cond.soleField "PointsForAllModel" "basketCoin") ∈ lw_all := lw_g (lw_at lw_m7 42 rfl) rfl
theorem q1564 : (Jvm.Cond.lays "PointsForAllModel" "PointsForAllModel" "basketPoints" "I") ∈ lw_all := lw_g (lw_at lw_m7 43 rfl) rfl
theorem q1565 : (Jvm.Cond.soleField "PointsForAllModel" "basketPoints") ∈ lw_all := lw_g (lw_at lw_m7 44 rfl) rfl
theorem q1566 : (Jvm.Cond.lays "PointsForAllModel" "PointsForAllModel" "dearer" "I") ∈ lw_all := lw_g (lw_at lw_m7 45 rfl) rfl
theorem q1567 : (Jvm.Cond.soleField "PointsForAllModel" "dearer") ∈ lw_all := lw_g (lw_at lw_m7 46 rfl) rfl
theorem q1568 : (Jvm.Cond.lays "PointsForAllModel" "PointsForAllModel" "bestWorth" "I") ∈ lw_all := lw_g (lw_at lw_m7 47 rfl) rfl
theorem q1569 : (Jvm.Cond.soleField "PointsForAllModel" "bestWorth") ∈ lw_all := lw_g (lw_at lw_m7 48 rfl) rfl
theorem q1570 : (Jvm.Cond.lays "PointsForAllModel" "PointsForAllModel" "bestCoin" "I") ∈ lw_all := lw_g (lw_at lw_m7 49 rfl) rfl
theorem q1571 : (Jvm.Cond.soleField "PointsForAllModel" "bestCoin") ∈ lw_all := lw_g (lw_at lw_m7 50 rfl) rfl
theorem q1572 : (Jvm.Cond.lays "PointsForAllModel" "PointsForAllModel" "bestPoints" "I") ∈ lw_all := lw_g (lw_at lw_m7 51 rfl) rfl
theorem q1573 : (Jvm.Cond.soleField "PointsForAllModel" "bestPoints") ∈ lw_all := lw_g (lw_at lw_m7 52 rfl) rfl
theorem q1574 : (Jvm.Cond.laysFinal "PointsForAllModel" "PointsForAllModel" "wanted" "[I") ∈ lw_all := lw_g (lw_at lw_m7 53 rfl) rfl
theorem q1575 : (Jvm.Cond.soleField "PointsForAllModel" "wanted") ∈ lw_all := lw_g (lw_at lw_m7 54 rfl) rfl
theorem q1576 : (Jvm.Cond.laysFinal "PointsForAllModel" "PointsForAllModel" "takes" "[I") ∈ lw_all := lw_g (lw_at lw_m7 55 rfl) rfl
theorem q1577 : (Jvm.Cond.soleField "PointsForAllModel" "takes") ∈ lw_all := lw_g (lw_at lw_m7 56 rfl) rfl
theorem q1578 : (Jvm.Cond.lays "PointsForAllModel" "PointsForAllModel" "movedRounds" "I") ∈ lw_all := lw_g (lw_at lw_m7 57 rfl) rfl
theorem q1579 : (Jvm.Cond.soleField "PointsForAllModel" "movedRounds") ∈ lw_all := lw_g (lw_at lw_m7 58 rfl) rfl
theorem q1580 : (Jvm.Cond.lays "PointsForAllModel" "PointsForAllModel" "bothThen" "I") ∈ lw_all := lw_g (lw_at lw_m7 59 rfl) rfl
theorem q1581 : (Jvm.Cond.soleField "PointsForAllModel" "bothThen") ∈ lw_all := lw_g (lw_at lw_m7 60 rfl) rfl
theorem q1582 : (Jvm.Cond.lays "PointsForAllModel" "PointsForAllModel" "leastBoth" "I") ∈ lw_all := lw_g (lw_at lw_m7 61 rfl) rfl
theorem q1583 : (Jvm.Cond.soleField "PointsForAllModel" "leastBoth") ∈ lw_all := lw_g (lw_at lw_m7 62 rfl) rfl
theorem q1584 : (Jvm.Cond.lays "PointsForAllModel" "PointsForAllModel" "leastRound" "I") ∈ lw_all := lw_g (lw_at lw_m7 63 rfl) rfl
theorem q1585 : (Jvm.Cond.soleField "PointsForAllModel" "leastRound") ∈ lw_all := lw_g (lw_at lw_m7 64 rfl) rfl
theorem q1586 : (Jvm.Cond.laysFinal "PointsForAllModel" "PointsForAllModel" "pointsThen" "[I") ∈ lw_all := lw_g (lw_at lw_m7 65 rfl) rfl
theorem q1587 : (Jvm.Cond.soleField "PointsForAllModel" "pointsThen") ∈ lw_all := lw_g (lw_at lw_m7 66 rfl) rfl
theorem q1588 : (Jvm.Cond.laysFinal "PointsForAllModel" "PointsForAllModel" "pointsBest" "[I") ∈ lw_all := lw_g (lw_at lw_m7 67 rfl) rfl
theorem q1589 : (Jvm.Cond.soleField "PointsForAllModel" "pointsBest") ∈ lw_all := lw_g (lw_at lw_m7 68 rfl) rfl
theorem q1590 : (Jvm.Cond.laysFinal "PointsForAllModel" "PointsForAllModel" "pointsWas" "[I") ∈ lw_all := lw_g (lw_at lw_m7 69 rfl) rfl
theorem q1591 : (Jvm.Cond.soleField "PointsForAllModel" "pointsWas") ∈ lw_all := lw_g (lw_at lw_m7 70 rfl) rfl
theorem q1592 : (Jvm.Cond.lays "PointsForAllModel" "PointsForAllModel" "changedWorth" "I") ∈ lw_all := lw_g (lw_at lw_m7 71 rfl) rfl
theorem q1593 : (Jvm.Cond.soleField "PointsForAllModel" "changedWorth") ∈ lw_all := lw_g (lw_at lw_m7 72 rfl) rfl
theorem q1594 : (Jvm.Cond.lays "PointsForAllModel" "PointsForAllModel" "changedPoints" "I") ∈ lw_all := lw_g (lw_at lw_m7 73 rfl) rfl
theorem q1595 : (Jvm.Cond.soleField "PointsForAllModel" "changedPoints") ∈ lw_all := lw_g (lw_at lw_m7 74 rfl) rfl
theorem q1596 : (Jvm.Cond.laysFinal "PointsForAllModel" "PointsForAllModel" "worthBy" "[I") ∈ lw_all := lw_g (lw_at lw_m7 75 rfl) rfl
theorem q1597 : (Jvm.Cond.soleField "PointsForAllModel" "worthBy") ∈ lw_all := lw_g (lw_at lw_m7 76 rfl) rfl
theorem q1598 : (Jvm.Cond.lays "PointsForAllModel" "PointsForAllModel" "bodies" "I") ∈ lw_all := lw_g (lw_at lw_m7 77 rfl) rfl
theorem q1599 : (Jvm.Cond.soleField "PointsForAllModel" "bodies") ∈ lw_all := lw_g (lw_at lw_m7 78 rfl) rfl
theorem q1600 : (Jvm.Cond.laysFinal "PointsForAllModel" "PointsForAllModel" "bodyKind" "[I") ∈ lw_all := lw_g (lw_at lw_m7 79 rfl) rfl
theorem q1601 : (Jvm.Cond.soleField "PointsForAllModel" "bodyKind") ∈ lw_all := lw_g (lw_at lw_m7 80 rfl) rfl
theorem q1602 : (Jvm.Cond.laysFinal "PointsForAllModel" "PointsForAllModel" "trace" "[I") ∈ lw_all := lw_g (lw_at lw_m7 81 rfl) rfl
theorem q1603 : (Jvm.Cond.soleField "PointsForAllModel" "trace") ∈ lw_all := lw_g (lw_at lw_m7 82 rfl) rfl
theorem q1604 : (Jvm.Cond.lays "PointsForAllModel" "PointsForAllModel" "ran" "I") ∈ lw_all := lw_g (lw_at lw_m7 83 rfl) rfl
theorem q1605 : (Jvm.Cond.soleField "PointsForAllModel" "ran") ∈ lw_all := lw_g (lw_at lw_m7 84 rfl) rfl
theorem q1606 : (Jvm.Cond.lays "PointsForAllModel" "PointsForAllModel" "ownKind" "I") ∈ lw_all := lw_g (lw_at lw_m7 85 rfl) rfl
theorem q1607 : (Jvm.Cond.soleField "PointsForAllModel" "ownKind") ∈ lw_all := lw_g (lw_at lw_m7 86 rfl) rfl
theorem q1608 : (Jvm.Cond.lays "PointsForAllModel" "PointsForAllModel" "ownNumber" "I") ∈ lw_all := lw_g (lw_at lw_m7 87 rfl) rfl
theorem q1609 : (Jvm.Cond.soleField "PointsForAllModel" "ownNumber") ∈ lw_all := lw_g (lw_at lw_m7 88 rfl) rfl
theorem q1610 : (Jvm.Cond.laysFinal "PointsForAllModel" "PointsForAllModel" "shelf" "[I") ∈ lw_all := lw_g (lw_at lw_m7 89 rfl) rfl
theorem q1611 : (Jvm.Cond.soleField "PointsForAllModel" "shelf") ∈ lw_all := lw_g (lw_at lw_m7 90 rfl) rfl
theorem q1612 : (Jvm.Cond.laysFinal "PointsForAllModel" "PointsForAllModel" "many" "[I") ∈ lw_all := lw_g (lw_at lw_m7 91 rfl) rfl
theorem q1613 : (Jvm.Cond.soleField "PointsForAllModel" "many") ∈ lw_all := lw_g (lw_at lw_m7 92 rfl) rfl
theorem q1614 : (Jvm.Cond.laysFinal "PointsForAllModel" "PointsForAllModel" "items" "[J") ∈ lw_all := lw_g (lw_at lw_m7 93 rfl) rfl
theorem q1615 : (Jvm.Cond.soleField "PointsForAllModel" "items") ∈ lw_all := lw_g (lw_at lw_m7 94 rfl) rfl
theorem q1616 : (Jvm.Cond.laysFinal "PointsForAllModel" "PointsForAllModel" "carried" "[J") ∈ lw_all := lw_g (lw_at lw_m7 95 rfl) rfl
theorem q1617 : (Jvm.Cond.soleField "PointsForAllModel" "carried") ∈ lw_all := lw_g (lw_at lw_m7 96 rfl) rfl
theorem q1618 : (Jvm.Cond.superclass "PointsForAllModel" "java/lang/Object") ∈ lw_all := lw_g (lw_at lw_m7 97 rfl) rfl
theorem q1620 : (Jvm.Cond.instanceMethod ({ cls := "PointsForAllModel", name := "undo", desc := "()I" } : Jvm.MethodName)) ∈ lw_all := lw_g (lw_at lw_m7 99 rfl) rfl
theorem q1621 : (Jvm.Cond.selects "PointsForAllModel" ({ cls := "PointsForAllModel", name := "undo", desc := "()I" } : Jvm.MethodName) ({ cls := "PointsForAllModel", name := "undo", desc := "()I" } : Jvm.MethodName)) ∈ lw_all := lw_g (lw_at lw_m7 100 rfl) rfl
theorem q1622 : (Jvm.Cond.code ({ cls := "PointsForAllModel", name := "undo", desc := "()I" } : Jvm.MethodName) prog_32_method_5_code (1 : Nat) (Option.some Jvm.ClassFile.FieldType.int)) ∈ lw_all := lw_g (lw_at lw_m7 101 rfl) rfl
theorem q1624 : (Jvm.Cond.instanceMethod ({ cls := "PointsForAllModel", name := "redo", desc := "()I" } : Jvm.MethodName)) ∈ lw_all := lw_g (lw_at lw_m7 103 rfl) rfl
theorem q1625 : (Jvm.Cond.selects "PointsForAllModel" ({ cls := "PointsForAllModel", name := "redo", desc := "()I" } : Jvm.MethodName) ({ cls := "PointsForAllModel", name := "redo", desc := "()I" } : Jvm.MethodName)) ∈ lw_all := lw_g (lw_at lw_m7 104 rfl) rfl
theorem q1626 : (Jvm.Cond.code ({ cls := "PointsForAllModel", name := "redo", desc := "()I" } : Jvm.MethodName) prog_32_method_6_code (1 : Nat) (Option.some Jvm.ClassFile.FieldType.int)) ∈ lw_all := lw_g (lw_at lw_m7 105 rfl) rfl
theorem q1628 : (Jvm.Cond.instanceMethod ({ cls := "PointsForAllModel", name := "thing", desc := "(III)I" } : Jvm.MethodName)) ∈ lw_all := lw_g (lw_at lw_m7 107 rfl) rfl
theorem q1629 : (Jvm.Cond.selects "PointsForAllModel" ({ cls := "PointsForAllModel", name := "thing", desc := "(III)I" } : Jvm.MethodName) ({ cls := "PointsForAllModel", name := "thing", desc := "(III)I" } : Jvm.MethodName)) ∈ lw_all := lw_g (lw_at lw_m7 108 rfl) rfl
theorem q1630 : (Jvm.Cond.code ({ cls := "PointsForAllModel", name := "thing", desc := "(III)I" } : Jvm.MethodName) prog_32_method_11_code (4 : Nat) (Option.some Jvm.ClassFile.FieldType.int)) ∈ lw_all := lw_g (lw_at lw_m7 109 rfl) rfl
theorem q1631 : (Jvm.Cond.constantLong "PointsForAllModel" (114 : Nat) (999 : Int64)) ∈ lw_all := lw_g (lw_at lw_m7 110 rfl) rfl
theorem q1632 : (Jvm.Cond.methodLink "PointsForAllModel" (105 : Nat) ({ cls := "PointsForAllModel", name := "within", desc := "(JJJ)Z" } : Jvm.MethodName)) ∈ lw_all := lw_g (lw_at lw_m7 111 rfl) rfl
theorem q1633 : (Jvm.Cond.static ({ cls := "PointsForAllModel", name := "within", desc := "(JJJ)Z" } : Jvm.MethodName)) ∈ lw_all := lw_g (lw_at lw_m7 112 rfl) rfl
theorem q1634 : (Jvm.Cond.code ({ cls := "PointsForAllModel", name := "within", desc := "(JJJ)Z" } : Jvm.MethodName) prog_32_method_1_code (6 : Nat) (Option.some Jvm.ClassFile.FieldType.boolean)) ∈ lw_all := lw_g (lw_at lw_m7 113 rfl) rfl
theorem q1635 : (Jvm.Cond.constantLong "PointsForAllModel" (116 : Nat) (9999 : Int64)) ∈ lw_all := lw_g (lw_at lw_m7 114 rfl) rfl
theorem q1636 : (Jvm.Cond.methodLink "PointsForAllModel" (118 : Nat) ({ cls := "PointsForAllModel", name := "isTwo", desc := "(J)Z" } : Jvm.MethodName)) ∈ lw_all := lw_g (lw_at lw_m7 115 rfl) rfl
theorem q1637 : (Jvm.Cond.static ({ cls := "PointsForAllModel", name := "isTwo", desc := "(J)Z" } : Jvm.MethodName)) ∈ lw_all := lw_g (lw_at lw_m7 116 rfl) rfl
theorem q1638 : (Jvm.Cond.code ({ cls := "PointsForAllModel", name := "isTwo", desc := "(J)Z" } : Jvm.MethodName) prog_32_method_9_code (2 : Nat) (Option.some Jvm.ClassFile.FieldType.boolean)) ∈ lw_all := lw_g (lw_at lw_m7 117 rfl) rfl
theorem q1639 : (Jvm.Cond.constantLong "PointsForAllModel" (112 : Nat) (99 : Int64)) ∈ lw_all := lw_g (lw_at lw_m7 118 rfl) rfl
theorem q1640 : (Jvm.Cond.methodLink "PointsForAllModel" (122 : Nat) ({ cls := "PointsForAllModel", name := "adds", desc := "(IIII)V" } : Jvm.MethodName)) ∈ lw_all := lw_g (lw_at lw_m7 119 rfl) rfl
theorem q1641 : (Jvm.Cond.privateMethod ({ cls := "PointsForAllModel", name := "adds", desc := "(IIII)V" } : Jvm.MethodName)) ∈ lw_tbl := lw_at lw_m7 120 rfl
theorem q1642 : (Jvm.Cond.instanceMethod ({ cls := "PointsForAllModel", name := "adds", desc := "(IIII)V" } : Jvm.MethodName)) ∈ lw_all := lw_g (lw_at lw_m7 121 rfl) rfl
theorem q1643 : (Jvm.Cond.code ({ cls := "PointsForAllModel", name := "adds", desc := "(IIII)V" } : Jvm.MethodName) prog_32_method_10_code (5 : Nat) (Option.none : Option Jvm.ClassFile.FieldType)) ∈ lw_all := lw_g (lw_at lw_m7 122 rfl) rfl
theorem q1645 : (Jvm.Cond.instanceMethod ({ cls := "PointsForAllModel", name := "things", desc := "(III)I" } : Jvm.MethodName)) ∈ lw_all := lw_g (lw_at lw_m7 124 rfl) rfl
theorem q1646 : (Jvm.Cond.selects "PointsForAllModel" ({ cls := "PointsForAllModel", name := "things", desc := "(III)I" } : Jvm.MethodName) ({ cls := "PointsForAllModel", name := "things", desc := "(III)I" } : Jvm.MethodName)) ∈ lw_all := lw_g (lw_at lw_m7 125 rfl) rfl
theorem q1647 : (Jvm.Cond.code ({ cls := "PointsForAllModel", name := "things", desc := "(III)I" } : Jvm.MethodName) prog_32_method_12_code (7 : Nat) (Option.some Jvm.ClassFile.FieldType.int)) ∈ lw_all := lw_g (lw_at lw_m7 126 rfl) rfl
theorem q1648 : (Jvm.Cond.methodLink "PointsForAllModel" (126 : Nat) ({ cls := "PointsForAllModel", name := "isShelf", desc := "(I)Z" } : Jvm.MethodName)) ∈ lw_all := lw_g (lw_at lw_m7 127 rfl) rfl
theorem q1649 : (Jvm.Cond.static ({ cls := "PointsForAllModel", name := "isShelf", desc := "(I)Z" } : Jvm.MethodName)) ∈ lw_all := lw_g (lw_at lw_m7 128 rfl) rfl
theorem q1650 : (Jvm.Cond.code ({ cls := "PointsForAllModel", name := "isShelf", desc := "(I)Z" } : Jvm.MethodName) prog_32_method_83_code (1 : Nat) (Option.some Jvm.ClassFile.FieldType.boolean)) ∈ lw_all := lw_g (lw_at lw_m7 129 rfl) rfl
theorem q1651 : (Jvm.Cond.constantLong "PointsForAllModel" (359 : Nat) (5 : Int64)) ∈ lw_all := lw_g (lw_at lw_m7 130 rfl) rfl
theorem q1652 : (Jvm.Cond.constantLong "PointsForAllModel" (130 : Nat) (6 : Int64)) ∈ lw_all := lw_g (lw_at lw_m7 131 rfl) rfl
theorem q1654 : (Jvm.Cond.instanceMethod ({ cls := "PointsForAllModel", name := "mend", desc := "(III)I" } : Jvm.MethodName)) ∈ lw_all := lw_g (lw_at lw_m7 133 rfl) rfl
theorem q1655 : (Jvm.Cond.selects "PointsForAllModel" ({ cls := "PointsForAllModel", name := "mend", desc := "(III)I" } : Jvm.MethodName) ({ cls := "PointsForAllModel", name := "mend", desc := "(III)I" } : Jvm.MethodName)) ∈ lw_all := lw_g (lw_at lw_m7 134 rfl) rfl
theorem q1656 : (Jvm.Cond.code ({ cls := "PointsForAllModel", name := "mend", desc := "(III)I" } : Jvm.MethodName) prog_32_method_13_code (4 : Nat) (Option.some Jvm.ClassFile.FieldType.int)) ∈ lw_all := lw_g (lw_at lw_m7 135 rfl) rfl
theorem q1657 : (Jvm.Cond.methodLink "PointsForAllModel" (132 : Nat) ({ cls := "PointsForAllModel", name := "isThing", desc := "(I)Z" } : Jvm.MethodName)) ∈ lw_all := lw_g (lw_at lw_m7 136 rfl) rfl
theorem q1658 : (Jvm.Cond.privateMethod ({ cls := "PointsForAllModel", name := "isThing", desc := "(I)Z" } : Jvm.MethodName)) ∈ lw_tbl := lw_at lw_m7 137 rfl
theorem q1659 : (Jvm.Cond.instanceMethod ({ cls := "PointsForAllModel", name := "isThing", desc := "(I)Z" } : Jvm.MethodName)) ∈ lw_all := lw_g (lw_at lw_m7 138 rfl) rfl
theorem q1660 : (Jvm.Cond.code ({ cls := "PointsForAllModel", name := "isThing", desc := "(I)Z" } : Jvm.MethodName) prog_32_method_7_code (2 : Nat) (Option.some Jvm.ClassFile.FieldType.boolean)) ∈ lw_all := lw_g (lw_at lw_m7 139 rfl) rfl
theorem q1661 : (Jvm.Cond.constantLong "PointsForAllModel" (135 : Nat) (2 : Int64)) ∈ lw_all := lw_g (lw_at lw_m7 140 rfl) rfl
theorem q1662 : (Jvm.Cond.methodLink "PointsForAllModel" (137 : Nat) ({ cls := "PointsForAllModel", name := "becomes", desc := "(II)I" } : Jvm.MethodName)) ∈ lw_all := lw_g (lw_at lw_m7 141 rfl) rfl
theorem q1663 : (Jvm.Cond.privateMethod ({ cls := "PointsForAllModel", name := "becomes", desc := "(II)I" } : Jvm.MethodName)) ∈ lw_tbl := lw_at lw_m7 142 rfl
theorem q1664 : (Jvm.Cond.instanceMethod ({ cls := "PointsForAllModel", name := "becomes", desc := "(II)I" } : Jvm.MethodName)) ∈ lw_all := lw_g (lw_at lw_m7 143 rfl) rfl
theorem q1665 : (Jvm.Cond.code ({ cls := "PointsForAllModel", name := "becomes", desc := "(II)I" } : Jvm.MethodName) prog_32_method_4_code (5 : Nat) (Option.some Jvm.ClassFile.FieldType.int)) ∈ lw_all := lw_g (lw_at lw_m7 144 rfl) rfl
theorem q1667 : (Jvm.Cond.instanceMethod ({ cls := "PointsForAllModel", name := "sort", desc := "(III)I" } : Jvm.MethodName)) ∈ lw_all := lw_g (lw_at lw_m7 146 rfl) rfl
theorem q1668 : (Jvm.Cond.selects "PointsForAllModel" ({ cls := "PointsForAllModel", name := "sort", desc := "(III)I" } : Jvm.MethodName) ({ cls := "PointsForAllModel", name := "sort", desc := "(III)I" } : Jvm.MethodName)) ∈ lw_all := lw_g (lw_at lw_m7 147 rfl) rfl
theorem q1669 : (Jvm.Cond.code ({ cls := "PointsForAllModel", name := "sort", desc := "(III)I" } : Jvm.MethodName) prog_32_method_14_code (4 : Nat) (Option.some Jvm.ClassFile.FieldType.int)) ∈ lw_all := lw_g (lw_at lw_m7 148 rfl) rfl
theorem q1671 : (Jvm.Cond.instanceMethod ({ cls := "PointsForAllModel", name := "purse", desc := "(III)I" } : Jvm.MethodName)) ∈ lw_all := lw_g (lw_at lw_m7 150 rfl) rfl
theorem q1672 : (Jvm.Cond.selects "PointsForAllModel" ({ cls := "PointsForAllModel", name := "purse", desc := "(III)I" } : Jvm.MethodName) ({ cls := "PointsForAllModel", name := "purse", desc := "(III)I" } : Jvm.MethodName)) ∈ lw_all := lw_g (lw_at lw_m7 151 rfl) rfl
theorem q1673 : (Jvm.Cond.code ({ cls := "PointsForAllModel", name := "purse", desc := "(III)I" } : Jvm.MethodName) prog_32_method_15_code (4 : Nat) (Option.some Jvm.ClassFile.FieldType.int)) ∈ lw_all := lw_g (lw_at lw_m7 152 rfl) rfl
theorem q1674 : (Jvm.Cond.methodLink "PointsForAllModel" (144 : Nat) ({ cls := "PointsForAllModel", name := "isSort", desc := "(I)Z" } : Jvm.MethodName)) ∈ lw_all := lw_g (lw_at lw_m7 153 rfl) rfl
theorem q1675 : (Jvm.Cond.privateMethod ({ cls := "PointsForAllModel", name := "isSort", desc := "(I)Z" } : Jvm.MethodName)) ∈ lw_tbl := lw_at lw_m7 154 rfl
theorem q1676 : (Jvm.Cond.instanceMethod ({ cls := "PointsForAllModel", name := "isSort", desc := "(I)Z" } : Jvm.MethodName)) ∈ lw_all := lw_g (lw_at lw_m7 155 rfl) rfl
theorem q1677 : (Jvm.Cond.code ({ cls := "PointsForAllModel", name := "isSort", desc := "(I)Z" } : Jvm.MethodName) prog_32_method_8_code (2 : Nat) (Option.some Jvm.ClassFile.FieldType.boolean)) ∈ lw_all := lw_g (lw_at lw_m7 156 rfl) rfl
theorem q1679 : (Jvm.Cond.instanceMethod ({ cls := "PointsForAllModel", name := "of", desc := "(II)I" } : Jvm.MethodName)) ∈ lw_all := lw_g (lw_at lw_m7 158 rfl) rfl
theorem q1680 : (Jvm.Cond.selects "PointsForAllModel" ({ cls := "PointsForAllModel", name := "of", desc := "(II)I" } : Jvm.MethodName) ({ cls := "PointsForAllModel", name := "of", desc := "(II)I" } : Jvm.MethodName)) ∈ lw_all := lw_g (lw_at lw_m7 159 rfl) rfl
theorem q1681 : (Jvm.Cond.code ({ cls := "PointsForAllModel", name := "of", desc := "(II)I" } : Jvm.MethodName) prog_32_method_18_code (3 : Nat) (Option.some Jvm.ClassFile.FieldType.int)) ∈ lw_all := lw_g (lw_at lw_m7 160 rfl) rfl
theorem q1682 : (Jvm.Cond.constantLong "PointsForAllModel" (147 : Nat) (3 : Int64)) ∈ lw_all := lw_g (lw_at lw_m7 161 rfl) rfl
theorem q1683 : (Jvm.Cond.methodLink "PointsForAllModel" (149 : Nat) ({ cls := "PointsForAllModel", name := "purseOf", desc := "(I)I" } : Jvm.MethodName)) ∈ lw_all := lw_g (lw_at lw_m7 162 rfl) rfl
theorem q1684 : (Jvm.Cond.privateMethod ({ cls := "PointsForAllModel", name := "purseOf", desc := "(I)I" } : Jvm.MethodName)) ∈ lw_tbl := lw_at lw_m7 163 rfl
theorem q1685 : (Jvm.Cond.instanceMethod ({ cls := "PointsForAllModel", name := "purseOf", desc := "(I)I" } : Jvm.MethodName)) ∈ lw_all := lw_g (lw_at lw_m7 164 rfl) rfl
theorem q1686 : (Jvm.Cond.code ({ cls := "PointsForAllModel", name := "purseOf", desc := "(I)I" } : Jvm.MethodName) prog_32_method_16_code (2 : Nat) (Option.some Jvm.ClassFile.FieldType.int)) ∈ lw_all := lw_g (lw_at lw_m7 165 rfl) rfl
theorem q1687 : (Jvm.Cond.methodLink "PointsForAllModel" (153 : Nat) ({ cls := "PointsForAllModel", name := "pointsInAll", desc := "(I)I" } : Jvm.MethodName)) ∈ lw_all := lw_g (lw_at lw_m7 166 rfl) rfl
theorem q1688 : (Jvm.Cond.privateMethod ({ cls := "PointsForAllModel", name := "pointsInAll", desc := "(I)I" } : Jvm.MethodName)) ∈ lw_tbl := lw_at lw_m7 167 rfl
theorem q1689 : (Jvm.Cond.instanceMethod ({ cls := "PointsForAllModel", name := "pointsInAll", desc := "(I)I" } : Jvm.MethodName)) ∈ lw_all := lw_g (lw_at lw_m7 168 rfl) rfl
theorem q1690 : (Jvm.Cond.code ({ cls := "PointsForAllModel", name := "pointsInAll", desc := "(I)I" } : Jvm.MethodName) prog_32_method_17_code (2 : Nat) (Option.some Jvm.ClassFile.FieldType.int)) ∈ lw_all := lw_g (lw_at lw_m7 169 rfl) rfl
theorem q1692 : (Jvm.Cond.instanceMethod ({ cls := "PointsForAllModel", name := "feed", desc := "(II)I" } : Jvm.MethodName)) ∈ lw_all := lw_g (lw_at lw_m7 171 rfl) rfl
theorem q1693 : (Jvm.Cond.selects "PointsForAllModel" ({ cls := "PointsForAllModel", name := "feed", desc := "(II)I" } : Jvm.MethodName) ({ cls := "PointsForAllModel", name := "feed", desc := "(II)I" } : Jvm.MethodName)) ∈ lw_all := lw_g (lw_at lw_m7 172 rfl) rfl
theorem q1694 : (Jvm.Cond.code ({ cls := "PointsForAllModel", name := "feed", desc := "(II)I" } : Jvm.MethodName) prog_32_method_19_code (4 : Nat) (Option.some Jvm.ClassFile.FieldType.int)) ∈ lw_all := lw_g (lw_at lw_m7 173 rfl) rfl
theorem q1695 : (Jvm.Cond.constantLong "PointsForAllModel" (156 : Nat) (4 : Int64)) ∈ lw_all := lw_g (lw_at lw_m7 174 rfl) rfl
theorem q1697 : (Jvm.Cond.instanceMethod ({ cls := "PointsForAllModel", name := "want", desc := "()I" } : Jvm.MethodName)) ∈ lw_all := lw_g (lw_at lw_m7 176 rfl) rfl
theorem q1698 : (Jvm.Cond.selects "PointsForAllModel" ({ cls := "PointsForAllModel", name := "want", desc := "()I" } : Jvm.MethodName) ({ cls := "PointsForAllModel", name := "want", desc := "()I" } : Jvm.MethodName)) ∈ lw_all := lw_g (lw_at lw_m7 177 rfl) rfl
theorem q1699 : (Jvm.Cond.code ({ cls := "PointsForAllModel", name := "want", desc := "()I" } : Jvm.MethodName) prog_32_method_31_code (4 : Nat) (Option.some Jvm.ClassFile.FieldType.int)) ∈ lw_all := lw_g (lw_at lw_m7 178 rfl) rfl
theorem q1700 : (Jvm.Cond.methodLink "PointsForAllModel" (206 : Nat) ({ cls := "PointsForAllModel", name := "workOut", desc := "(II)I" } : Jvm.MethodName)) ∈ lw_all := lw_g (lw_at lw_m7 179 rfl) rfl
theorem q1701 : (Jvm.Cond.privateMethod ({ cls := "PointsForAllModel", name := "workOut", desc := "(II)I" } : Jvm.MethodName)) ∈ lw_tbl := lw_at lw_m7 180 rfl
theorem q1702 : (Jvm.Cond.instanceMethod ({ cls := "PointsForAllModel", name := "workOut", desc := "(II)I" } : Jvm.MethodName)) ∈ lw_all := lw_g (lw_at lw_m7 181 rfl) rfl
theorem q1703 : (Jvm.Cond.code ({ cls := "PointsForAllModel", name := "workOut", desc := "(II)I" } : Jvm.MethodName) prog_32_method_30_code (8 : Nat) (Option.some Jvm.ClassFile.FieldType.int)) ∈ lw_all := lw_g (lw_at lw_m7 182 rfl) rfl
theorem q1704 : (Jvm.Cond.methodLink "PointsForAllModel" (200 : Nat) ({ cls := "PointsForAllModel", name := "either", desc := "()I" } : Jvm.MethodName)) ∈ lw_all := lw_g (lw_at lw_m7 183 rfl) rfl
theorem q1705 : (Jvm.Cond.privateMethod ({ cls := "PointsForAllModel", name := "either", desc := "()I" } : Jvm.MethodName)) ∈ lw_tbl := lw_at lw_m7 184 rfl
theorem q1706 : (Jvm.Cond.instanceMethod ({ cls := "PointsForAllModel", name := "either", desc := "()I" } : Jvm.MethodName)) ∈ lw_all := lw_g (lw_at lw_m7 185 rfl) rfl
theorem q1707 : (Jvm.Cond.code ({ cls := "PointsForAllModel", name := "either", desc := "()I" } : Jvm.MethodName) prog_32_method_23_code (3 : Nat) (Option.some Jvm.ClassFile.FieldType.int)) ∈ lw_all := lw_g (lw_at lw_m7 186 rfl) rfl
theorem q1708 : (Jvm.Cond.methodLink "PointsForAllModel" (177 : Nat) ({ cls := "PointsForAllModel", name := "both", desc := "()I" } : Jvm.MethodName)) ∈ lw_all := lw_g (lw_at lw_m7 187 rfl) rfl
theorem q1709 : (Jvm.Cond.privateMethod ({ cls := "PointsForAllModel", name := "both", desc := "()I" } : Jvm.MethodName)) ∈ lw_tbl := lw_at lw_m7 188 rfl
theorem q1710 : (Jvm.Cond.instanceMethod ({ cls := "PointsForAllModel", name := "both", desc := "()I" } : Jvm.MethodName)) ∈ lw_all := lw_g (lw_at lw_m7 189 rfl) rfl
theorem q1711 : (Jvm.Cond.code ({ cls := "PointsForAllModel", name := "both", desc := "()I" } : Jvm.MethodName) prog_32_method_24_code (3 : Nat) (Option.some Jvm.ClassFile.FieldType.int)) ∈ lw_all := lw_g (lw_at lw_m7 190 rfl) rfl
theorem q1712 : (Jvm.Cond.methodLink "PointsForAllModel" (182 : Nat) ({ cls := "PointsForAllModel", name := "compared", desc := "()I" } : Jvm.MethodName)) ∈ lw_all := lw_g (lw_at lw_m7 191 rfl) rfl
theorem q1713 : (Jvm.Cond.privateMethod ({ cls := "PointsForAllModel", name := "compared", desc := "()I" } : Jvm.MethodName)) ∈ lw_tbl := lw_at lw_m7 192 rfl
theorem q1714 : (Jvm.Cond.instanceMethod ({ cls := "PointsForAllModel", name := "compared", desc := "()I" } : Jvm.MethodName)) ∈ lw_all := lw_g (lw_at lw_m7 193 rfl) rfl
theorem q1715 : (Jvm.Cond.code ({ cls := "PointsForAllModel", name := "compared", desc := "()I" } : Jvm.MethodName) prog_32_method_25_code (4 : Nat) (Option.some Jvm.ClassFile.FieldType.int)) ∈ lw_all := lw_g (lw_at lw_m7 194 rfl) rfl
theorem q1716 : (Jvm.Cond.methodLink "PointsForAllModel" (185 : Nat) ({ cls := "PointsForAllModel", name := "sums", desc := "()I" } : Jvm.MethodName)) ∈ lw_all := lw_g (lw_at lw_m7 195 rfl) rfl
theorem q1717 : (Jvm.Cond.privateMethod ({ cls := "PointsForAllModel", name := "sums", desc := "()I" } : Jvm.MethodName)) ∈ lw_tbl := lw_at lw_m7 196 rfl
theorem q1718 : (Jvm.Cond.instanceMethod ({ cls := "PointsForAllModel", name := "sums", desc := "()I" } : Jvm.MethodName)) ∈ lw_all := lw_g (lw_at lw_m7 197 rfl) rfl
theorem q1719 : (Jvm.Cond.code ({ cls := "PointsForAllModel", name := "sums", desc := "()I" } : Jvm.MethodName) prog_32_method_26_code (4 : Nat) (Option.some Jvm.ClassFile.FieldType.int)) ∈ lw_all := lw_g (lw_at lw_m7 198 rfl) rfl
theorem q1720 : (Jvm.Cond.methodLink "PointsForAllModel" (188 : Nat) ({ cls := "PointsForAllModel", name := "product", desc := "()I" } : Jvm.MethodName)) ∈ lw_all := lw_g (lw_at lw_m7 199 rfl) rfl
theorem q1721 : (Jvm.Cond.privateMethod ({ cls := "PointsForAllModel", name := "product", desc := "()I" } : Jvm.MethodName)) ∈ lw_tbl := lw_at lw_m7 200 rfl
theorem q1722 : (Jvm.Cond.instanceMethod ({ cls := "PointsForAllModel", name := "product", desc := "()I" } : Jvm.MethodName)) ∈ lw_all := lw_g (lw_at lw_m7 201 rfl) rfl
theorem q1723 : (Jvm.Cond.code ({ cls := "PointsForAllModel", name := "product", desc := "()I" } : Jvm.MethodName) prog_32_method_27_code (4 : Nat) (Option.some Jvm.ClassFile.FieldType.int)) ∈ lw_all := lw_g (lw_at lw_m7 202 rfl) rfl
theorem q1724 : (Jvm.Cond.methodLink "PointsForAllModel" (191 : Nat) ({ cls := "PointsForAllModel", name := "one", desc := "()I" } : Jvm.MethodName)) ∈ lw_all := lw_g (lw_at lw_m7 203 rfl) rfl
theorem q1725 : (Jvm.Cond.privateMethod ({ cls := "PointsForAllModel", name := "one", desc := "()I" } : Jvm.MethodName)) ∈ lw_tbl := lw_at lw_m7 204 rfl
theorem q1726 : (Jvm.Cond.instanceMethod ({ cls := "PointsForAllModel", name := "one", desc := "()I" } : Jvm.MethodName)) ∈ lw_all := lw_g (lw_at lw_m7 205 rfl) rfl
theorem q1727 : (Jvm.Cond.code ({ cls := "PointsForAllModel", name := "one", desc := "()I" } : Jvm.MethodName) prog_32_method_29_code (5 : Nat) (Option.some Jvm.ClassFile.FieldType.int)) ∈ lw_all := lw_g (lw_at lw_m7 206 rfl) rfl
theorem q1728 : (Jvm.Cond.methodLink "PointsForAllModel" (173 : Nat) ({ cls := "PointsForAllModel", name := "byteAt", desc := "()I" } : Jvm.MethodName)) ∈ lw_all := lw_g (lw_at lw_m7 207 rfl) rfl
theorem q1729 : (Jvm.Cond.privateMethod ({ cls := "PointsForAllModel", name := "byteAt", desc := "()I" } : Jvm.MethodName)) ∈ lw_tbl := lw_at lw_m7 208 rfl
theorem q1730 : (Jvm.Cond.instanceMethod ({ cls := "PointsForAllModel", name := "byteAt", desc := "()I" } : Jvm.MethodName)) ∈ lw_all := lw_g (lw_at lw_m7 209 rfl) rfl
theorem q1731 : (Jvm.Cond.code ({ cls := "PointsForAllModel", name := "byteAt", desc := "()I" } : Jvm.MethodName) prog_32_method_20_code (1 : Nat) (Option.some Jvm.ClassFile.FieldType.int)) ∈ lw_all := lw_g (lw_at lw_m7 210 rfl) rfl
theorem q1732 : (Jvm.Cond.methodLink "PointsForAllModel" (197 : Nat) ({ cls := "PointsForAllModel", name := "fails", desc := "()I" } : Jvm.MethodName)) ∈ lw_all := lw_g (lw_at lw_m7 211 rfl) rfl
theorem q1733 : (Jvm.Cond.privateMethod ({ cls := "PointsForAllModel", name := "fails", desc := "()I" } : Jvm.MethodName)) ∈ lw_tbl := lw_at lw_m7 212 rfl
theorem q1734 : (Jvm.Cond.instanceMethod ({ cls := "PointsForAllModel", name := "fails", desc := "()I" } : Jvm.MethodName)) ∈ lw_all := lw_g (lw_at lw_m7 213 rfl) rfl
theorem q1735 : (Jvm.Cond.code ({ cls := "PointsForAllModel", name := "fails", desc := "()I" } : Jvm.MethodName) prog_32_method_21_code (1 : Nat) (Option.some Jvm.ClassFile.FieldType.int)) ∈ lw_all := lw_g (lw_at lw_m7 214 rfl) rfl
theorem q1736 : (Jvm.Cond.methodLink "PointsForAllModel" (180 : Nat) ({ cls := "PointsForAllModel", name := "takes", desc := "(I)Z" } : Jvm.MethodName)) ∈ lw_all := lw_g (lw_at lw_m7 215 rfl) rfl
theorem q1737 : (Jvm.Cond.privateMethod ({ cls := "PointsForAllModel", name := "takes", desc := "(I)Z" } : Jvm.MethodName)) ∈ lw_tbl := lw_at lw_m7 216 rfl
theorem q1738 : (Jvm.Cond.instanceMethod ({ cls := "PointsForAllModel", name := "takes", desc := "(I)Z" } : Jvm.MethodName)) ∈ lw_all := lw_g (lw_at lw_m7 217 rfl) rfl
theorem q1739 : (Jvm.Cond.code ({ cls := "PointsForAllModel", name := "takes", desc := "(I)Z" } : Jvm.MethodName) prog_32_method_22_code (2 : Nat) (Option.some Jvm.ClassFile.FieldType.boolean)) ∈ lw_all := lw_g (lw_at lw_m7 218 rfl) rfl
theorem q1740 : (Jvm.Cond.methodLink "PointsForAllModel" (203 : Nat) ({ cls := "PointsForAllModel", name := "nameOf", desc := "(I)I" } : Jvm.MethodName)) ∈ lw_all := lw_g (lw_at lw_m7 219 rfl) rfl
theorem q1741 : (Jvm.Cond.static ({ cls := "PointsForAllModel", name := "nameOf", desc := "(I)I" } : Jvm.MethodName)) ∈ lw_all := lw_g (lw_at lw_m7 220 rfl) rfl
theorem q1742 : (Jvm.Cond.code ({ cls := "PointsForAllModel", name := "nameOf", desc := "(I)I" } : Jvm.MethodName) prog_32_method_28_code (1 : Nat) (Option.some Jvm.ClassFile.FieldType.int)) ∈ lw_all := lw_g (lw_at lw_m7 221 rfl) rfl
theorem q1744 : (Jvm.Cond.instanceMethod ({ cls := "PointsForAllModel", name := "worth", desc := "(II)I" } : Jvm.MethodName)) ∈ lw_all := lw_g (lw_at lw_m7 223 rfl) rfl
theorem q1745 : (Jvm.Cond.selects "PointsForAllModel" ({ cls := "PointsForAllModel", name := "worth", desc := "(II)I" } : Jvm.MethodName) ({ cls := "PointsForAllModel", name := "worth", desc := "(II)I" } : Jvm.MethodName)) ∈ lw_all := lw_g (lw_at lw_m7 224 rfl) rfl
theorem q1746 : (Jvm.Cond.code ({ cls := "PointsForAllModel", name := "worth", desc := "(II)I" } : Jvm.MethodName) prog_32_method_33_code (3 : Nat) (Option.some Jvm.ClassFile.FieldType.int)) ∈ lw_all := lw_g (lw_at lw_m7 225 rfl) rfl
theorem q1747 : (Jvm.Cond.methodLink "PointsForAllModel" (209 : Nat) ({ cls := "PointsForAllModel", name := "worthOf", desc := "(III)I" } : Jvm.MethodName)) ∈ lw_all := lw_g (lw_at lw_m7 226 rfl) rfl
theorem q1748 : (Jvm.Cond.privateMethod ({ cls := "PointsForAllModel", name := "worthOf", desc := "(III)I" } : Jvm.MethodName)) ∈ lw_tbl := lw_at lw_m7 227 rfl
theorem q1749 : (Jvm.Cond.instanceMethod ({ cls := "PointsForAllModel", name := "worthOf", desc := "(III)I" } : Jvm.MethodName)) ∈ lw_all := lw_g (lw_at lw_m7 228 rfl) rfl
theorem q1750 : (Jvm.Cond.code ({ cls := "PointsForAllModel", name := "worthOf", desc := "(III)I" } : Jvm.MethodName) prog_32_method_32_code (5 : Nat) (Option.some Jvm.ClassFile.FieldType.int)) ∈ lw_all := lw_g (lw_at lw_m7 229 rfl) rfl
theorem q1752 : (Jvm.Cond.instanceMethod ({ cls := "PointsForAllModel", name := "basket", desc := "(II)I" } : Jvm.MethodName)) ∈ lw_all := lw_g (lw_at lw_m7 231 rfl) rfl
theorem q1753 : (Jvm.Cond.selects "PointsForAllModel" ({ cls := "PointsForAllModel", name := "basket", desc := "(II)I" } : Jvm.MethodName) ({ cls := "PointsForAllModel", name := "basket", desc := "(II)I" } : Jvm.MethodName)) ∈ lw_all := lw_g (lw_at lw_m7 232 rfl) rfl
theorem q1754 : (Jvm.Cond.code ({ cls := "PointsForAllModel", name := "basket", desc := "(II)I" } : Jvm.MethodName) prog_32_method_40_code (4 : Nat) (Option.some Jvm.ClassFile.FieldType.int)) ∈ lw_all := lw_g (lw_at lw_m7 233 rfl) rfl
theorem q1755 : (Jvm.Cond.methodLink "PointsForAllModel" (244 : Nat) ({ cls := "PointsForAllModel", name := "bestOf", desc := "(I)I" } : Jvm.MethodName)) ∈ lw_all := lw_g (lw_at lw_m7 234 rfl) rfl
theorem q1756 : (Jvm.Cond.privateMethod ({ cls := "PointsForAllModel", name := "bestOf", desc := "(I)I" } : Jvm.MethodName)) ∈ lw_tbl := lw_at lw_m7 235 rfl
theorem q1757 : (Jvm.Cond.instanceMethod ({ cls := "PointsForAllModel", name := "bestOf", desc := "(I)I" } : Jvm.MethodName)) ∈ lw_all := lw_g (lw_at lw_m7 236 rfl) rfl
theorem q1758 : (Jvm.Cond.code ({ cls := "PointsForAllModel", name := "bestOf", desc := "(I)I" } : Jvm.MethodName) prog_32_method_38_code (2 : Nat) (Option.some Jvm.ClassFile.FieldType.int)) ∈ lw_all := lw_g (lw_at lw_m7 237 rfl) rfl
theorem q1759 : (Jvm.Cond.methodLink "PointsForAllModel" (241 : Nat) ({ cls := "PointsForAllModel", name := "findBest", desc := "(III)I" } : Jvm.MethodName)) ∈ lw_all := lw_g (lw_at lw_m7 238 rfl) rfl
theorem q1760 : (Jvm.Cond.privateMethod ({ cls := "PointsForAllModel", name := "findBest", desc := "(III)I" } : Jvm.MethodName)) ∈ lw_tbl := lw_at lw_m7 239 rfl
theorem q1761 : (Jvm.Cond.instanceMethod ({ cls := "PointsForAllModel", name := "findBest", desc := "(III)I" } : Jvm.MethodName)) ∈ lw_all := lw_g (lw_at lw_m8 0 rfl) rfl
theorem q1762 : (Jvm.Cond.code ({ cls := "PointsForAllModel", name := "findBest", desc := "(III)I" } : Jvm.MethodName) prog_32_method_37_code (7 : Nat) (Option.some Jvm.ClassFile.FieldType.int)) ∈ lw_all := lw_g (lw_at lw_m8 1 rfl) rfl
theorem q1763 : (Jvm.Cond.methodLink "PointsForAllModel" (222 : Nat) ({ cls := "PointsForAllModel", name := "layWorths", desc := "(I)V" } : Jvm.MethodName)) ∈ lw_all := lw_g (lw_at lw_m8 2 rfl) rfl
theorem q1764 : (Jvm.Cond.privateMethod ({ cls := "PointsForAllModel", name := "layWorths", desc := "(I)V" } : Jvm.MethodName)) ∈ lw_tbl := lw_at lw_m8 3 rfl
theorem q1765 : (Jvm.Cond.instanceMethod ({ cls := "PointsForAllModel", name := "layWorths", desc := "(I)V" } : Jvm.MethodName)) ∈ lw_all := lw_g (lw_at lw_m8 4 rfl) rfl
theorem q1766 : (Jvm.Cond.code ({ cls := "PointsForAllModel", name := "layWorths", desc := "(I)V" } : Jvm.MethodName) prog_32_method_34_code (4 : Nat) (Option.none : Option Jvm.ClassFile.FieldType)) ∈ lw_all := lw_g (lw_at lw_m8 5 rfl) rfl
theorem q1767 : (Jvm.Cond.methodLink "PointsForAllModel" (226 : Nat) ({ cls := "PointsForAllModel", name := "baskets", desc := "()I" } : Jvm.MethodName)) ∈ lw_all := lw_g (lw_at lw_m8 6 rfl) rfl
theorem q1768 : (Jvm.Cond.privateMethod ({ cls := "PointsForAllModel", name := "baskets", desc := "()I" } : Jvm.MethodName)) ∈ lw_tbl := lw_at lw_m8 7 rfl
theorem q1769 : (Jvm.Cond.instanceMethod ({ cls := "PointsForAllModel", name := "baskets", desc := "()I" } : Jvm.MethodName)) ∈ lw_all := lw_g (lw_at lw_m8 8 rfl) rfl
theorem q1770 : (Jvm.Cond.code ({ cls := "PointsForAllModel", name := "baskets", desc := "()I" } : Jvm.MethodName) prog_32_method_35_code (1 : Nat) (Option.some Jvm.ClassFile.FieldType.int)) ∈ lw_all := lw_g (lw_at lw_m8 9 rfl) rfl
theorem q1771 : (Jvm.Cond.methodLink "PointsForAllModel" (229 : Nat) ({ cls := "PointsForAllModel", name := "unpack", desc := "(I)V" } : Jvm.MethodName)) ∈ lw_all := lw_g (lw_at lw_m8 10 rfl) rfl
theorem q1772 : (Jvm.Cond.privateMethod ({ cls := "PointsForAllModel", name := "unpack", desc := "(I)V" } : Jvm.MethodName)) ∈ lw_tbl := lw_at lw_m8 11 rfl
theorem q1773 : (Jvm.Cond.instanceMethod ({ cls := "PointsForAllModel", name := "unpack", desc := "(I)V" } : Jvm.MethodName)) ∈ lw_all := lw_g (lw_at lw_m8 12 rfl) rfl
theorem q1774 : (Jvm.Cond.code ({ cls := "PointsForAllModel", name := "unpack", desc := "(I)V" } : Jvm.MethodName) prog_32_method_36_code (4 : Nat) (Option.none : Option Jvm.ClassFile.FieldType)) ∈ lw_all := lw_g (lw_at lw_m8 13 rfl) rfl
theorem q1775 : (Jvm.Cond.methodLink "PointsForAllModel" (247 : Nat) ({ cls := "PointsForAllModel", name := "digitsNow", desc := "()I" } : Jvm.MethodName)) ∈ lw_all := lw_g (lw_at lw_m8 14 rfl) rfl
theorem q1776 : (Jvm.Cond.privateMethod ({ cls := "PointsForAllModel", name := "digitsNow", desc := "()I" } : Jvm.MethodName)) ∈ lw_tbl := lw_at lw_m8 15 rfl
theorem q1777 : (Jvm.Cond.instanceMethod ({ cls := "PointsForAllModel", name := "digitsNow", desc := "()I" } : Jvm.MethodName)) ∈ lw_all := lw_g (lw_at lw_m8 16 rfl) rfl
theorem q1778 : (Jvm.Cond.code ({ cls := "PointsForAllModel", name := "digitsNow", desc := "()I" } : Jvm.MethodName) prog_32_method_39_code (3 : Nat) (Option.some Jvm.ClassFile.FieldType.int)) ∈ lw_all := lw_g (lw_at lw_m8 17 rfl) rfl
theorem q1780 : (Jvm.Cond.instanceMethod ({ cls := "PointsForAllModel", name := "wanted", desc := "(II)I" } : Jvm.MethodName)) ∈ lw_all := lw_g (lw_at lw_m8 19 rfl) rfl
theorem q1781 : (Jvm.Cond.selects "PointsForAllModel" ({ cls := "PointsForAllModel", name := "wanted", desc := "(II)I" } : Jvm.MethodName) ({ cls := "PointsForAllModel", name := "wanted", desc := "(II)I" } : Jvm.MethodName)) ∈ lw_all := lw_g (lw_at lw_m8 20 rfl) rfl
theorem q1782 : (Jvm.Cond.code ({ cls := "PointsForAllModel", name := "wanted", desc := "(II)I" } : Jvm.MethodName) prog_32_method_44_code (4 : Nat) (Option.some Jvm.ClassFile.FieldType.int)) ∈ lw_all := lw_g (lw_at lw_m8 21 rfl) rfl
theorem q1783 : (Jvm.Cond.constant "PointsForAllModel" (256 : Nat) (-2000000000 : Int32)) ∈ lw_all := lw_g (lw_at lw_m8 22 rfl) rfl
theorem q1784 : (Jvm.Cond.methodLink "PointsForAllModel" (257 : Nat) ({ cls := "PointsForAllModel", name := "findWanted", desc := "()V" } : Jvm.MethodName)) ∈ lw_all := lw_g (lw_at lw_m8 23 rfl) rfl
theorem q1785 : (Jvm.Cond.privateMethod ({ cls := "PointsForAllModel", name := "findWanted", desc := "()V" } : Jvm.MethodName)) ∈ lw_tbl := lw_at lw_m8 24 rfl
theorem q1786 : (Jvm.Cond.instanceMethod ({ cls := "PointsForAllModel", name := "findWanted", desc := "()V" } : Jvm.MethodName)) ∈ lw_all := lw_g (lw_at lw_m8 25 rfl) rfl
theorem q1787 : (Jvm.Cond.code ({ cls := "PointsForAllModel", name := "findWanted", desc := "()V" } : Jvm.MethodName) prog_32_method_41_code (4 : Nat) (Option.none : Option Jvm.ClassFile.FieldType)) ∈ lw_all := lw_g (lw_at lw_m8 26 rfl) rfl
theorem q1788 : (Jvm.Cond.methodLink "PointsForAllModel" (260 : Nat) ({ cls := "PointsForAllModel", name := "bothOver", desc := "()I" } : Jvm.MethodName)) ∈ lw_all := lw_g (lw_at lw_m8 27 rfl) rfl
theorem q1789 : (Jvm.Cond.privateMethod ({ cls := "PointsForAllModel", name := "bothOver", desc := "()I" } : Jvm.MethodName)) ∈ lw_tbl := lw_at lw_m8 28 rfl
theorem q1790 : (Jvm.Cond.instanceMethod ({ cls := "PointsForAllModel", name := "bothOver", desc := "()I" } : Jvm.MethodName)) ∈ lw_all := lw_g (lw_at lw_m8 29 rfl) rfl
theorem q1791 : (Jvm.Cond.code ({ cls := "PointsForAllModel", name := "bothOver", desc := "()I" } : Jvm.MethodName) prog_32_method_43_code (3 : Nat) (Option.some Jvm.ClassFile.FieldType.int)) ∈ lw_all := lw_g (lw_at lw_m8 30 rfl) rfl
theorem q1792 : (Jvm.Cond.methodLink "PointsForAllModel" (250 : Nat) ({ cls := "PointsForAllModel", name := "over", desc := "(I)I" } : Jvm.MethodName)) ∈ lw_all := lw_g (lw_at lw_m8 31 rfl) rfl
theorem q1793 : (Jvm.Cond.privateMethod ({ cls := "PointsForAllModel", name := "over", desc := "(I)I" } : Jvm.MethodName)) ∈ lw_tbl := lw_at lw_m8 32 rfl
theorem q1794 : (Jvm.Cond.instanceMethod ({ cls := "PointsForAllModel", name := "over", desc := "(I)I" } : Jvm.MethodName)) ∈ lw_all := lw_g (lw_at lw_m8 33 rfl) rfl
theorem q1795 : (Jvm.Cond.code ({ cls := "PointsForAllModel", name := "over", desc := "(I)I" } : Jvm.MethodName) prog_32_method_42_code (2 : Nat) (Option.some Jvm.ClassFile.FieldType.int)) ∈ lw_all := lw_g (lw_at lw_m8 34 rfl) rfl
theorem q1796 : (Jvm.Cond.methodLink "PointsForAllModel" (253 : Nat) ({ cls := "PointsForAllModel", name := "size", desc := "(I)I" } : Jvm.MethodName)) ∈ lw_all := lw_g (lw_at lw_m8 35 rfl) rfl
theorem q1797 : (Jvm.Cond.static ({ cls := "PointsForAllModel", name := "size", desc := "(I)I" } : Jvm.MethodName)) ∈ lw_all := lw_g (lw_at lw_m8 36 rfl) rfl
theorem q1798 : (Jvm.Cond.code ({ cls := "PointsForAllModel", name := "size", desc := "(I)I" } : Jvm.MethodName) prog_32_method_2_code (1 : Nat) (Option.some Jvm.ClassFile.FieldType.int)) ∈ lw_all := lw_g (lw_at lw_m8 37 rfl) rfl
theorem q1800 : (Jvm.Cond.instanceMethod ({ cls := "PointsForAllModel", name := "led", desc := "(II)I" } : Jvm.MethodName)) ∈ lw_all := lw_g (lw_at lw_m8 39 rfl) rfl
theorem q1801 : (Jvm.Cond.selects "PointsForAllModel" ({ cls := "PointsForAllModel", name := "led", desc := "(II)I" } : Jvm.MethodName) ({ cls := "PointsForAllModel", name := "led", desc := "(II)I" } : Jvm.MethodName)) ∈ lw_all := lw_g (lw_at lw_m8 40 rfl) rfl
theorem q1802 : (Jvm.Cond.code ({ cls := "PointsForAllModel", name := "led", desc := "(II)I" } : Jvm.MethodName) prog_32_method_45_code (3 : Nat) (Option.some Jvm.ClassFile.FieldType.int)) ∈ lw_all := lw_g (lw_at lw_m8 41 rfl) rfl
theorem q1804 : (Jvm.Cond.instanceMethod ({ cls := "PointsForAllModel", name := "found", desc := "(II)I" } : Jvm.MethodName)) ∈ lw_all := lw_g (lw_at lw_m8 43 rfl) rfl
theorem q1805 : (Jvm.Cond.selects "PointsForAllModel" ({ cls := "PointsForAllModel", name := "found", desc := "(II)I" } : Jvm.MethodName) ({ cls := "PointsForAllModel", name := "found", desc := "(II)I" } : Jvm.MethodName)) ∈ lw_all := lw_g (lw_at lw_m8 44 rfl) rfl
theorem q1806 : (Jvm.Cond.code ({ cls := "PointsForAllModel", name := "found", desc := "(II)I" } : Jvm.MethodName) prog_32_method_49_code (3 : Nat) (Option.some Jvm.ClassFile.FieldType.int)) ∈ lw_all := lw_g (lw_at lw_m8 45 rfl) rfl
theorem q1807 : (Jvm.Cond.methodLink "PointsForAllModel" (280 : Nat) ({ cls := "PointsForAllModel", name := "areRounds", desc := "(I)Z" } : Jvm.MethodName)) ∈ lw_all := lw_g (lw_at lw_m8 46 rfl) rfl
theorem q1808 : (Jvm.Cond.static ({ cls := "PointsForAllModel", name := "areRounds", desc := "(I)Z" } : Jvm.MethodName)) ∈ lw_all := lw_g (lw_at lw_m8 47 rfl) rfl
theorem q1809 : (Jvm.Cond.code ({ cls := "PointsForAllModel", name := "areRounds", desc := "(I)Z" } : Jvm.MethodName) prog_32_method_48_code (1 : Nat) (Option.some Jvm.ClassFile.FieldType.boolean)) ∈ lw_all := lw_g (lw_at lw_m8 48 rfl) rfl
theorem q1810 : (Jvm.Cond.constantLong "PointsForAllModel" (278 : Nat) (60 : Int64)) ∈ lw_all := lw_g (lw_at lw_m8 49 rfl) rfl
theorem q1811 : (Jvm.Cond.constantLong "PointsForAllModel" (283 : Nat) (-4 : Int64)) ∈ lw_all := lw_g (lw_at lw_m8 50 rfl) rfl
theorem q1812 : (Jvm.Cond.methodLink "PointsForAllModel" (285 : Nat) ({ cls := "PointsForAllModel", name := "goRounds", desc := "(I)V" } : Jvm.MethodName)) ∈ lw_all := lw_g (lw_at lw_m8 51 rfl) rfl
theorem q1813 : (Jvm.Cond.privateMethod ({ cls := "PointsForAllModel", name := "goRounds", desc := "(I)V" } : Jvm.MethodName)) ∈ lw_tbl := lw_at lw_m8 52 rfl
theorem q1814 : (Jvm.Cond.instanceMethod ({ cls := "PointsForAllModel", name := "goRounds", desc := "(I)V" } : Jvm.MethodName)) ∈ lw_all := lw_g (lw_at lw_m8 53 rfl) rfl
theorem q1815 : (Jvm.Cond.code ({ cls := "PointsForAllModel", name := "goRounds", desc := "(I)V" } : Jvm.MethodName) prog_32_method_46_code (7 : Nat) (Option.none : Option Jvm.ClassFile.FieldType)) ∈ lw_all := lw_g (lw_at lw_m8 54 rfl) rfl
theorem q1816 : (Jvm.Cond.methodLink "PointsForAllModel" (275 : Nat) ({ cls := "PointsForAllModel", name := "keepsLeast", desc := "(I)V" } : Jvm.MethodName)) ∈ lw_all := lw_g (lw_at lw_m8 55 rfl) rfl
theorem q1817 : (Jvm.Cond.privateMethod ({ cls := "PointsForAllModel", name := "keepsLeast", desc := "(I)V" } : Jvm.MethodName)) ∈ lw_tbl := lw_at lw_m8 56 rfl
theorem q1818 : (Jvm.Cond.instanceMethod ({ cls := "PointsForAllModel", name := "keepsLeast", desc := "(I)V" } : Jvm.MethodName)) ∈ lw_all := lw_g (lw_at lw_m8 57 rfl) rfl
theorem q1819 : (Jvm.Cond.code ({ cls := "PointsForAllModel", name := "keepsLeast", desc := "(I)V" } : Jvm.MethodName) prog_32_method_47_code (3 : Nat) (Option.none : Option Jvm.ClassFile.FieldType)) ∈ lw_all := lw_g (lw_at lw_m8 58 rfl) rfl
theorem q1821 : (Jvm.Cond.instanceMethod ({ cls := "PointsForAllModel", name := "set", desc := "(I)I" } : Jvm.MethodName)) ∈ lw_all := lw_g (lw_at lw_m8 60 rfl) rfl
theorem q1822 : (Jvm.Cond.selects "PointsForAllModel" ({ cls := "PointsForAllModel", name := "set", desc := "(I)I" } : Jvm.MethodName) ({ cls := "PointsForAllModel", name := "set", desc := "(I)I" } : Jvm.MethodName)) ∈ lw_all := lw_g (lw_at lw_m8 61 rfl) rfl
theorem q1823 : (Jvm.Cond.code ({ cls := "PointsForAllModel", name := "set", desc := "(I)I" } : Jvm.MethodName) prog_32_method_50_code (5 : Nat) (Option.some Jvm.ClassFile.FieldType.int)) ∈ lw_all := lw_g (lw_at lw_m8 62 rfl) rfl
theorem q1825 : (Jvm.Cond.instanceMethod ({ cls := "PointsForAllModel", name := "tell", desc := "(II)I" } : Jvm.MethodName)) ∈ lw_all := lw_g (lw_at lw_m8 64 rfl) rfl
theorem q1826 : (Jvm.Cond.selects "PointsForAllModel" ({ cls := "PointsForAllModel", name := "tell", desc := "(II)I" } : Jvm.MethodName) ({ cls := "PointsForAllModel", name := "tell", desc := "(II)I" } : Jvm.MethodName)) ∈ lw_all := lw_g (lw_at lw_m8 65 rfl) rfl
theorem q1827 : (Jvm.Cond.code ({ cls := "PointsForAllModel", name := "tell", desc := "(II)I" } : Jvm.MethodName) prog_32_method_52_code (4 : Nat) (Option.some Jvm.ClassFile.FieldType.int)) ∈ lw_all := lw_g (lw_at lw_m8 66 rfl) rfl
theorem q1828 : (Jvm.Cond.methodLink "PointsForAllModel" (288 : Nat) ({ cls := "PointsForAllModel", name := "areDigits", desc := "(I)Z" } : Jvm.MethodName)) ∈ lw_all := lw_g (lw_at lw_m8 67 rfl) rfl
theorem q1829 : (Jvm.Cond.privateMethod ({ cls := "PointsForAllModel", name := "areDigits", desc := "(I)Z" } : Jvm.MethodName)) ∈ lw_tbl := lw_at lw_m8 68 rfl
theorem q1830 : (Jvm.Cond.instanceMethod ({ cls := "PointsForAllModel", name := "areDigits", desc := "(I)Z" } : Jvm.MethodName)) ∈ lw_all := lw_g (lw_at lw_m8 69 rfl) rfl
theorem q1831 : (Jvm.Cond.code ({ cls := "PointsForAllModel", name := "areDigits", desc := "(I)Z" } : Jvm.MethodName) prog_32_method_51_code (4 : Nat) (Option.some Jvm.ClassFile.FieldType.boolean)) ∈ lw_all := lw_g (lw_at lw_m8 70 rfl) rfl
theorem q1833 : (Jvm.Cond.instanceMethod ({ cls := "PointsForAllModel", name := "judge", desc := "()I" } : Jvm.MethodName)) ∈ lw_all := lw_g (lw_at lw_m8 72 rfl) rfl
theorem q1834 : (Jvm.Cond.selects "PointsForAllModel" ({ cls := "PointsForAllModel", name := "judge", desc := "()I" } : Jvm.MethodName) ({ cls := "PointsForAllModel", name := "judge", desc := "()I" } : Jvm.MethodName)) ∈ lw_all := lw_g (lw_at lw_m8 73 rfl) rfl
theorem q1835 : (Jvm.Cond.code ({ cls := "PointsForAllModel", name := "judge", desc := "()I" } : Jvm.MethodName) prog_32_method_54_code (4 : Nat) (Option.some Jvm.ClassFile.FieldType.int)) ∈ lw_all := lw_g (lw_at lw_m8 74 rfl) rfl
theorem q1836 : (Jvm.Cond.methodLink "PointsForAllModel" (291 : Nat) ({ cls := "PointsForAllModel", name := "packed", desc := "(I)I" } : Jvm.MethodName)) ∈ lw_all := lw_g (lw_at lw_m8 75 rfl) rfl
theorem q1837 : (Jvm.Cond.privateMethod ({ cls := "PointsForAllModel", name := "packed", desc := "(I)I" } : Jvm.MethodName)) ∈ lw_tbl := lw_at lw_m8 76 rfl
theorem q1838 : (Jvm.Cond.instanceMethod ({ cls := "PointsForAllModel", name := "packed", desc := "(I)I" } : Jvm.MethodName)) ∈ lw_all := lw_g (lw_at lw_m8 77 rfl) rfl
theorem q1839 : (Jvm.Cond.code ({ cls := "PointsForAllModel", name := "packed", desc := "(I)I" } : Jvm.MethodName) prog_32_method_53_code (5 : Nat) (Option.some Jvm.ClassFile.FieldType.int)) ∈ lw_all := lw_g (lw_at lw_m8 78 rfl) rfl
theorem q1841 : (Jvm.Cond.instanceMethod ({ cls := "PointsForAllModel", name := "changed", desc := "(III)I" } : Jvm.MethodName)) ∈ lw_all := lw_g (lw_at lw_m8 80 rfl) rfl
theorem q1842 : (Jvm.Cond.selects "PointsForAllModel" ({ cls := "PointsForAllModel", name := "changed", desc := "(III)I" } : Jvm.MethodName) ({ cls := "PointsForAllModel", name := "changed", desc := "(III)I" } : Jvm.MethodName)) ∈ lw_all := lw_g (lw_at lw_m8 81 rfl) rfl
theorem q1843 : (Jvm.Cond.code ({ cls := "PointsForAllModel", name := "changed", desc := "(III)I" } : Jvm.MethodName) prog_32_method_57_code (5 : Nat) (Option.some Jvm.ClassFile.FieldType.int)) ∈ lw_all := lw_g (lw_at lw_m8 82 rfl) rfl
theorem q1844 : (Jvm.Cond.methodLink "PointsForAllModel" (300 : Nat) ({ cls := "PointsForAllModel", name := "isRate", desc := "(I)Z" } : Jvm.MethodName)) ∈ lw_all := lw_g (lw_at lw_m8 83 rfl) rfl
theorem q1845 : (Jvm.Cond.static ({ cls := "PointsForAllModel", name := "isRate", desc := "(I)Z" } : Jvm.MethodName)) ∈ lw_all := lw_g (lw_at lw_m8 84 rfl) rfl
theorem q1846 : (Jvm.Cond.code ({ cls := "PointsForAllModel", name := "isRate", desc := "(I)Z" } : Jvm.MethodName) prog_32_method_56_code (1 : Nat) (Option.some Jvm.ClassFile.FieldType.boolean)) ∈ lw_all := lw_g (lw_at lw_m8 85 rfl) rfl
theorem q1847 : (Jvm.Cond.methodLink "PointsForAllModel" (303 : Nat) ({ cls := "PointsForAllModel", name := "findChanged", desc := "(II)V" } : Jvm.MethodName)) ∈ lw_all := lw_g (lw_at lw_m8 86 rfl) rfl
theorem q1848 : (Jvm.Cond.privateMethod ({ cls := "PointsForAllModel", name := "findChanged", desc := "(II)V" } : Jvm.MethodName)) ∈ lw_tbl := lw_at lw_m8 87 rfl
theorem q1849 : (Jvm.Cond.instanceMethod ({ cls := "PointsForAllModel", name := "findChanged", desc := "(II)V" } : Jvm.MethodName)) ∈ lw_all := lw_g (lw_at lw_m8 88 rfl) rfl
theorem q1850 : (Jvm.Cond.code ({ cls := "PointsForAllModel", name := "findChanged", desc := "(II)V" } : Jvm.MethodName) prog_32_method_55_code (8 : Nat) (Option.none : Option Jvm.ClassFile.FieldType)) ∈ lw_all := lw_g (lw_at lw_m8 89 rfl) rfl
theorem q1852 : (Jvm.Cond.instanceMethod ({ cls := "PointsForAllModel", name := "free", desc := "()I" } : Jvm.MethodName)) ∈ lw_all := lw_g (lw_at lw_m8 91 rfl) rfl
theorem q1853 : (Jvm.Cond.selects "PointsForAllModel" ({ cls := "PointsForAllModel", name := "free", desc := "()I" } : Jvm.MethodName) ({ cls := "PointsForAllModel", name := "free", desc := "()I" } : Jvm.MethodName)) ∈ lw_all := lw_g (lw_at lw_m8 92 rfl) rfl
theorem q1854 : (Jvm.Cond.code ({ cls := "PointsForAllModel", name := "free", desc := "()I" } : Jvm.MethodName) prog_32_method_58_code (4 : Nat) (Option.some Jvm.ClassFile.FieldType.int)) ∈ lw_all := lw_g (lw_at lw_m8 93 rfl) rfl
theorem q1856 : (Jvm.Cond.instanceMethod ({ cls := "PointsForAllModel", name := "black", desc := "(III)I" } : Jvm.MethodName)) ∈ lw_all := lw_g (lw_at lw_m8 95 rfl) rfl
theorem q1857 : (Jvm.Cond.selects "PointsForAllModel" ({ cls := "PointsForAllModel", name := "black", desc := "(III)I" } : Jvm.MethodName) ({ cls := "PointsForAllModel", name := "black", desc := "(III)I" } : Jvm.MethodName)) ∈ lw_all := lw_g (lw_at lw_m8 96 rfl) rfl
theorem q1858 : (Jvm.Cond.code ({ cls := "PointsForAllModel", name := "black", desc := "(III)I" } : Jvm.MethodName) prog_32_method_59_code (8 : Nat) (Option.some Jvm.ClassFile.FieldType.int)) ∈ lw_all := lw_g (lw_at lw_m8 97 rfl) rfl
theorem q1859 : (Jvm.Cond.constantLong "PointsForAllModel" (307 : Nat) (100 : Int64)) ∈ lw_all := lw_g (lw_at lw_m8 98 rfl) rfl
theorem q1861 : (Jvm.Cond.instanceMethod ({ cls := "PointsForAllModel", name := "beside", desc := "(II)I" } : Jvm.MethodName)) ∈ lw_all := lw_g (lw_at lw_m8 100 rfl) rfl
theorem q1862 : (Jvm.Cond.selects "PointsForAllModel" ({ cls := "PointsForAllModel", name := "beside", desc := "(II)I" } : Jvm.MethodName) ({ cls := "PointsForAllModel", name := "beside", desc := "(II)I" } : Jvm.MethodName)) ∈ lw_all := lw_g (lw_at lw_m8 101 rfl) rfl
theorem q1863 : (Jvm.Cond.code ({ cls := "PointsForAllModel", name := "beside", desc := "(II)I" } : Jvm.MethodName) prog_32_method_62_code (3 : Nat) (Option.some Jvm.ClassFile.FieldType.int)) ∈ lw_all := lw_g (lw_at lw_m8 102 rfl) rfl
theorem q1864 : (Jvm.Cond.methodLink "PointsForAllModel" (312 : Nat) ({ cls := "PointsForAllModel", name := "isHow", desc := "(I)Z" } : Jvm.MethodName)) ∈ lw_all := lw_g (lw_at lw_m8 103 rfl) rfl
theorem q1865 : (Jvm.Cond.static ({ cls := "PointsForAllModel", name := "isHow", desc := "(I)Z" } : Jvm.MethodName)) ∈ lw_all := lw_g (lw_at lw_m8 104 rfl) rfl
theorem q1866 : (Jvm.Cond.code ({ cls := "PointsForAllModel", name := "isHow", desc := "(I)Z" } : Jvm.MethodName) prog_32_method_60_code (1 : Nat) (Option.some Jvm.ClassFile.FieldType.boolean)) ∈ lw_all := lw_g (lw_at lw_m8 105 rfl) rfl
theorem q1867 : (Jvm.Cond.constantLong "PointsForAllModel" (309 : Nat) (900 : Int64)) ∈ lw_all := lw_g (lw_at lw_m8 106 rfl) rfl
theorem q1868 : (Jvm.Cond.methodLink "PointsForAllModel" (315 : Nat) ({ cls := "PointsForAllModel", name := "besideOf", desc := "(II)I" } : Jvm.MethodName)) ∈ lw_all := lw_g (lw_at lw_m8 107 rfl) rfl
theorem q1869 : (Jvm.Cond.privateMethod ({ cls := "PointsForAllModel", name := "besideOf", desc := "(II)I" } : Jvm.MethodName)) ∈ lw_tbl := lw_at lw_m8 108 rfl
theorem q1870 : (Jvm.Cond.instanceMethod ({ cls := "PointsForAllModel", name := "besideOf", desc := "(II)I" } : Jvm.MethodName)) ∈ lw_all := lw_g (lw_at lw_m8 109 rfl) rfl
theorem q1871 : (Jvm.Cond.code ({ cls := "PointsForAllModel", name := "besideOf", desc := "(II)I" } : Jvm.MethodName) prog_32_method_61_code (7 : Nat) (Option.some Jvm.ClassFile.FieldType.int)) ∈ lw_all := lw_g (lw_at lw_m8 110 rfl) rfl
theorem q1872 : (Jvm.Cond.constant "PointsForAllModel" (311 : Nat) (1000000000 : Int32)) ∈ lw_all := lw_g (lw_at lw_m8 111 rfl) rfl
theorem q1874 : (Jvm.Cond.instanceMethod ({ cls := "PointsForAllModel", name := "loses", desc := "(I)I" } : Jvm.MethodName)) ∈ lw_all := lw_g (lw_at lw_m8 113 rfl) rfl
theorem q1875 : (Jvm.Cond.selects "PointsForAllModel" ({ cls := "PointsForAllModel", name := "loses", desc := "(I)I" } : Jvm.MethodName) ({ cls := "PointsForAllModel", name := "loses", desc := "(I)I" } : Jvm.MethodName)) ∈ lw_all := lw_g (lw_at lw_m8 114 rfl) rfl
theorem q1876 : (Jvm.Cond.code ({ cls := "PointsForAllModel", name := "loses", desc := "(I)I" } : Jvm.MethodName) prog_32_method_63_code (6 : Nat) (Option.some Jvm.ClassFile.FieldType.int)) ∈ lw_all := lw_g (lw_at lw_m8 115 rfl) rfl
theorem q1878 : (Jvm.Cond.instanceMethod ({ cls := "PointsForAllModel", name := "fewest", desc := "()I" } : Jvm.MethodName)) ∈ lw_all := lw_g (lw_at lw_m8 117 rfl) rfl
theorem q1879 : (Jvm.Cond.selects "PointsForAllModel" ({ cls := "PointsForAllModel", name := "fewest", desc := "()I" } : Jvm.MethodName) ({ cls := "PointsForAllModel", name := "fewest", desc := "()I" } : Jvm.MethodName)) ∈ lw_all := lw_g (lw_at lw_m8 118 rfl) rfl
theorem q1880 : (Jvm.Cond.code ({ cls := "PointsForAllModel", name := "fewest", desc := "()I" } : Jvm.MethodName) prog_32_method_66_code (4 : Nat) (Option.some Jvm.ClassFile.FieldType.int)) ∈ lw_all := lw_g (lw_at lw_m8 119 rfl) rfl
theorem q1881 : (Jvm.Cond.methodLink "PointsForAllModel" (318 : Nat) ({ cls := "PointsForAllModel", name := "bitsOf", desc := "(I)I" } : Jvm.MethodName)) ∈ lw_all := lw_g (lw_at lw_m8 120 rfl) rfl
theorem q1882 : (Jvm.Cond.static ({ cls := "PointsForAllModel", name := "bitsOf", desc := "(I)I" } : Jvm.MethodName)) ∈ lw_all := lw_g (lw_at lw_m8 121 rfl) rfl
theorem q1883 : (Jvm.Cond.code ({ cls := "PointsForAllModel", name := "bitsOf", desc := "(I)I" } : Jvm.MethodName) prog_32_method_64_code (3 : Nat) (Option.some Jvm.ClassFile.FieldType.int)) ∈ lw_all := lw_g (lw_at lw_m8 122 rfl) rfl
theorem q1884 : (Jvm.Cond.methodLink "PointsForAllModel" (321 : Nat) ({ cls := "PointsForAllModel", name := "isGone", desc := "()Z" } : Jvm.MethodName)) ∈ lw_all := lw_g (lw_at lw_m8 123 rfl) rfl
theorem q1885 : (Jvm.Cond.privateMethod ({ cls := "PointsForAllModel", name := "isGone", desc := "()Z" } : Jvm.MethodName)) ∈ lw_tbl := lw_at lw_m8 124 rfl
theorem q1886 : (Jvm.Cond.instanceMethod ({ cls := "PointsForAllModel", name := "isGone", desc := "()Z" } : Jvm.MethodName)) ∈ lw_all := lw_g (lw_at lw_m8 125 rfl) rfl
theorem q1887 : (Jvm.Cond.code ({ cls := "PointsForAllModel", name := "isGone", desc := "()Z" } : Jvm.MethodName) prog_32_method_65_code (2 : Nat) (Option.some Jvm.ClassFile.FieldType.boolean)) ∈ lw_all := lw_g (lw_at lw_m8 126 rfl) rfl
theorem q1889 : (Jvm.Cond.instanceMethod ({ cls := "PointsForAllModel", name := "least", desc := "(I)I" } : Jvm.MethodName)) ∈ lw_all := lw_g (lw_at lw_m8 128 rfl) rfl
theorem q1890 : (Jvm.Cond.selects "PointsForAllModel" ({ cls := "PointsForAllModel", name := "least", desc := "(I)I" } : Jvm.MethodName) ({ cls := "PointsForAllModel", name := "least", desc := "(I)I" } : Jvm.MethodName)) ∈ lw_all := lw_g (lw_at lw_m8 129 rfl) rfl
theorem q1891 : (Jvm.Cond.code ({ cls := "PointsForAllModel", name := "least", desc := "(I)I" } : Jvm.MethodName) prog_32_method_67_code (4 : Nat) (Option.some Jvm.ClassFile.FieldType.int)) ∈ lw_all := lw_g (lw_at lw_m8 130 rfl) rfl
theorem q1893 : (Jvm.Cond.instanceMethod ({ cls := "PointsForAllModel", name := "months", desc := "(IIII)I" } : Jvm.MethodName)) ∈ lw_all := lw_g (lw_at lw_m8 132 rfl) rfl
theorem q1894 : (Jvm.Cond.selects "PointsForAllModel" ({ cls := "PointsForAllModel", name := "months", desc := "(IIII)I" } : Jvm.MethodName) ({ cls := "PointsForAllModel", name := "months", desc := "(IIII)I" } : Jvm.MethodName)) ∈ lw_all := lw_g (lw_at lw_m8 133 rfl) rfl
theorem q1895 : (Jvm.Cond.code ({ cls := "PointsForAllModel", name := "months", desc := "(IIII)I" } : Jvm.MethodName) prog_32_method_68_code (12 : Nat) (Option.some Jvm.ClassFile.FieldType.int)) ∈ lw_all := lw_g (lw_at lw_m8 134 rfl) rfl
theorem q1896 : (Jvm.Cond.constantLong "PointsForAllModel" (325 : Nat) (12 : Int64)) ∈ lw_all := lw_g (lw_at lw_m8 135 rfl) rfl
theorem q1898 : (Jvm.Cond.instanceMethod ({ cls := "PointsForAllModel", name := "foresight", desc := "(I)I" } : Jvm.MethodName)) ∈ lw_all := lw_g (lw_at lw_m8 137 rfl) rfl
theorem q1899 : (Jvm.Cond.selects "PointsForAllModel" ({ cls := "PointsForAllModel", name := "foresight", desc := "(I)I" } : Jvm.MethodName) ({ cls := "PointsForAllModel", name := "foresight", desc := "(I)I" } : Jvm.MethodName)) ∈ lw_all := lw_g (lw_at lw_m8 138 rfl) rfl
theorem q1900 : (Jvm.Cond.code ({ cls := "PointsForAllModel", name := "foresight", desc := "(I)I" } : Jvm.MethodName) prog_32_method_69_code (9 : Nat) (Option.some Jvm.ClassFile.FieldType.int)) ∈ lw_all := lw_g (lw_at lw_m8 139 rfl) rfl
theorem q1902 : (Jvm.Cond.instanceMethod ({ cls := "PointsForAllModel", name := "cheap", desc := "(I)I" } : Jvm.MethodName)) ∈ lw_all := lw_g (lw_at lw_m8 141 rfl) rfl
theorem q1903 : (Jvm.Cond.selects "PointsForAllModel" ({ cls := "PointsForAllModel", name := "cheap", desc := "(I)I" } : Jvm.MethodName) ({ cls := "PointsForAllModel", name := "cheap", desc := "(I)I" } : Jvm.MethodName)) ∈ lw_all := lw_g (lw_at lw_m8 142 rfl) rfl
theorem q1904 : (Jvm.Cond.code ({ cls := "PointsForAllModel", name := "cheap", desc := "(I)I" } : Jvm.MethodName) prog_32_method_70_code (4 : Nat) (Option.some Jvm.ClassFile.FieldType.int)) ∈ lw_all := lw_g (lw_at lw_m8 143 rfl) rfl
theorem q1906 : (Jvm.Cond.instanceMethod ({ cls := "PointsForAllModel", name := "wrong", desc := "(I)I" } : Jvm.MethodName)) ∈ lw_all := lw_g (lw_at lw_m8 145 rfl) rfl
theorem q1907 : (Jvm.Cond.selects "PointsForAllModel" ({ cls := "PointsForAllModel", name := "wrong", desc := "(I)I" } : Jvm.MethodName) ({ cls := "PointsForAllModel", name := "wrong", desc := "(I)I" } : Jvm.MethodName)) ∈ lw_all := lw_g (lw_at lw_m8 146 rfl) rfl
theorem q1908 : (Jvm.Cond.code ({ cls := "PointsForAllModel", name := "wrong", desc := "(I)I" } : Jvm.MethodName) prog_32_method_71_code (6 : Nat) (Option.some Jvm.ClassFile.FieldType.int)) ∈ lw_all := lw_g (lw_at lw_m8 147 rfl) rfl
theorem q1910 : (Jvm.Cond.instanceMethod ({ cls := "PointsForAllModel", name := "body", desc := "(I)I" } : Jvm.MethodName)) ∈ lw_all := lw_g (lw_at lw_m8 149 rfl) rfl
theorem q1911 : (Jvm.Cond.selects "PointsForAllModel" ({ cls := "PointsForAllModel", name := "body", desc := "(I)I" } : Jvm.MethodName) ({ cls := "PointsForAllModel", name := "body", desc := "(I)I" } : Jvm.MethodName)) ∈ lw_all := lw_g (lw_at lw_m8 150 rfl) rfl
theorem q1912 : (Jvm.Cond.code ({ cls := "PointsForAllModel", name := "body", desc := "(I)I" } : Jvm.MethodName) prog_32_method_74_code (2 : Nat) (Option.some Jvm.ClassFile.FieldType.int)) ∈ lw_all := lw_g (lw_at lw_m8 151 rfl) rfl
theorem q1913 : (Jvm.Cond.constantLong "PointsForAllModel" (330 : Nat) (7 : Int64)) ∈ lw_all := lw_g (lw_at lw_m8 152 rfl) rfl
theorem q1915 : (Jvm.Cond.instanceMethod ({ cls := "PointsForAllModel", name := "act", desc := "(III)I" } : Jvm.MethodName)) ∈ lw_all := lw_g (lw_at lw_m8 154 rfl) rfl
theorem q1916 : (Jvm.Cond.selects "PointsForAllModel" ({ cls := "PointsForAllModel", name := "act", desc := "(III)I" } : Jvm.MethodName) ({ cls := "PointsForAllModel", name := "act", desc := "(III)I" } : Jvm.MethodName)) ∈ lw_all := lw_g (lw_at lw_m8 155 rfl) rfl
theorem q1917 : (Jvm.Cond.code ({ cls := "PointsForAllModel", name := "act", desc := "(III)I" } : Jvm.MethodName) prog_32_method_81_code (4 : Nat) (Option.some Jvm.ClassFile.FieldType.int)) ∈ lw_all := lw_g (lw_at lw_m8 156 rfl) rfl
theorem q1918 : (Jvm.Cond.methodLink "PointsForAllModel" (356 : Nat) ({ cls := "PointsForAllModel", name := "isBody", desc := "(I)Z" } : Jvm.MethodName)) ∈ lw_all := lw_g (lw_at lw_m8 157 rfl) rfl
theorem q1919 : (Jvm.Cond.privateMethod ({ cls := "PointsForAllModel", name := "isBody", desc := "(I)Z" } : Jvm.MethodName)) ∈ lw_tbl := lw_at lw_m8 158 rfl
theorem q1920 : (Jvm.Cond.instanceMethod ({ cls := "PointsForAllModel", name := "isBody", desc := "(I)Z" } : Jvm.MethodName)) ∈ lw_all := lw_g (lw_at lw_m8 159 rfl) rfl
theorem q1921 : (Jvm.Cond.code ({ cls := "PointsForAllModel", name := "isBody", desc := "(I)Z" } : Jvm.MethodName) prog_32_method_72_code (2 : Nat) (Option.some Jvm.ClassFile.FieldType.boolean)) ∈ lw_all := lw_g (lw_at lw_m8 160 rfl) rfl
theorem q1922 : (Jvm.Cond.methodLink "PointsForAllModel" (338 : Nat) ({ cls := "PointsForAllModel", name := "buysAs", desc := "(II)I" } : Jvm.MethodName)) ∈ lw_all := lw_g (lw_at lw_m8 161 rfl) rfl
theorem q1923 : (Jvm.Cond.privateMethod ({ cls := "PointsForAllModel", name := "buysAs", desc := "(II)I" } : Jvm.MethodName)) ∈ lw_tbl := lw_at lw_m8 162 rfl
theorem q1924 : (Jvm.Cond.instanceMethod ({ cls := "PointsForAllModel", name := "buysAs", desc := "(II)I" } : Jvm.MethodName)) ∈ lw_all := lw_g (lw_at lw_m8 163 rfl) rfl
theorem q1925 : (Jvm.Cond.code ({ cls := "PointsForAllModel", name := "buysAs", desc := "(II)I" } : Jvm.MethodName) prog_32_method_77_code (3 : Nat) (Option.some Jvm.ClassFile.FieldType.int)) ∈ lw_all := lw_g (lw_at lw_m8 164 rfl) rfl
theorem q1926 : (Jvm.Cond.methodLink "PointsForAllModel" (335 : Nat) ({ cls := "PointsForAllModel", name := "begins", desc := "(I)V" } : Jvm.MethodName)) ∈ lw_all := lw_g (lw_at lw_m8 165 rfl) rfl
theorem q1927 : (Jvm.Cond.privateMethod ({ cls := "PointsForAllModel", name := "begins", desc := "(I)V" } : Jvm.MethodName)) ∈ lw_tbl := lw_at lw_m8 166 rfl
theorem q1928 : (Jvm.Cond.instanceMethod ({ cls := "PointsForAllModel", name := "begins", desc := "(I)V" } : Jvm.MethodName)) ∈ lw_all := lw_g (lw_at lw_m8 167 rfl) rfl
theorem q1929 : (Jvm.Cond.code ({ cls := "PointsForAllModel", name := "begins", desc := "(I)V" } : Jvm.MethodName) prog_32_method_76_code (2 : Nat) (Option.none : Option Jvm.ClassFile.FieldType)) ∈ lw_all := lw_g (lw_at lw_m8 168 rfl) rfl
theorem q1930 : (Jvm.Cond.methodLink "PointsForAllModel" (344 : Nat) ({ cls := "PointsForAllModel", name := "keepsAs", desc := "(II)I" } : Jvm.MethodName)) ∈ lw_all := lw_g (lw_at lw_m8 169 rfl) rfl
theorem q1931 : (Jvm.Cond.privateMethod ({ cls := "PointsForAllModel", name := "keepsAs", desc := "(II)I" } : Jvm.MethodName)) ∈ lw_tbl := lw_at lw_m8 170 rfl
theorem q1932 : (Jvm.Cond.instanceMethod ({ cls := "PointsForAllModel", name := "keepsAs", desc := "(II)I" } : Jvm.MethodName)) ∈ lw_all := lw_g (lw_at lw_m8 171 rfl) rfl
theorem q1933 : (Jvm.Cond.code ({ cls := "PointsForAllModel", name := "keepsAs", desc := "(II)I" } : Jvm.MethodName) prog_32_method_78_code (4 : Nat) (Option.some Jvm.ClassFile.FieldType.int)) ∈ lw_all := lw_g (lw_at lw_m8 172 rfl) rfl
theorem q1934 : (Jvm.Cond.methodLink "PointsForAllModel" (350 : Nat) ({ cls := "PointsForAllModel", name := "lendsAs", desc := "(II)I" } : Jvm.MethodName)) ∈ lw_all := lw_g (lw_at lw_m8 173 rfl) rfl
theorem q1935 : (Jvm.Cond.privateMethod ({ cls := "PointsForAllModel", name := "lendsAs", desc := "(II)I" } : Jvm.MethodName)) ∈ lw_tbl := lw_at lw_m8 174 rfl
theorem q1936 : (Jvm.Cond.instanceMethod ({ cls := "PointsForAllModel", name := "lendsAs", desc := "(II)I" } : Jvm.MethodName)) ∈ lw_all := lw_g (lw_at lw_m8 175 rfl) rfl
theorem q1937 : (Jvm.Cond.code ({ cls := "PointsForAllModel", name := "lendsAs", desc := "(II)I" } : Jvm.MethodName) prog_32_method_79_code (4 : Nat) (Option.some Jvm.ClassFile.FieldType.int)) ∈ lw_all := lw_g (lw_at lw_m8 176 rfl) rfl
theorem q1938 : (Jvm.Cond.methodLink "PointsForAllModel" (353 : Nat) ({ cls := "PointsForAllModel", name := "tellsAs", desc := "(II)I" } : Jvm.MethodName)) ∈ lw_all := lw_g (lw_at lw_m8 177 rfl) rfl
theorem q1939 : (Jvm.Cond.privateMethod ({ cls := "PointsForAllModel", name := "tellsAs", desc := "(II)I" } : Jvm.MethodName)) ∈ lw_tbl := lw_at lw_m8 178 rfl
theorem q1940 : (Jvm.Cond.instanceMethod ({ cls := "PointsForAllModel", name := "tellsAs", desc := "(II)I" } : Jvm.MethodName)) ∈ lw_all := lw_g (lw_at lw_m8 179 rfl) rfl
theorem q1941 : (Jvm.Cond.code ({ cls := "PointsForAllModel", name := "tellsAs", desc := "(II)I" } : Jvm.MethodName) prog_32_method_80_code (4 : Nat) (Option.some Jvm.ClassFile.FieldType.int)) ∈ lw_all := lw_g (lw_at lw_m8 180 rfl) rfl
theorem q1943 : (Jvm.Cond.instanceMethod ({ cls := "PointsForAllModel", name := "trace", desc := "(I)I" } : Jvm.MethodName)) ∈ lw_all := lw_g (lw_at lw_m8 182 rfl) rfl
theorem q1944 : (Jvm.Cond.selects "PointsForAllModel" ({ cls := "PointsForAllModel", name := "trace", desc := "(I)I" } : Jvm.MethodName) ({ cls := "PointsForAllModel", name := "trace", desc := "(I)I" } : Jvm.MethodName)) ∈ lw_all := lw_g (lw_at lw_m8 183 rfl) rfl
theorem q1945 : (Jvm.Cond.code ({ cls := "PointsForAllModel", name := "trace", desc := "(I)I" } : Jvm.MethodName) prog_32_method_82_code (2 : Nat) (Option.some Jvm.ClassFile.FieldType.int)) ∈ lw_all := lw_g (lw_at lw_m8 184 rfl) rfl
theorem q1947 : (Jvm.Cond.instanceMethod ({ cls := "PointsForAllModel", name := "keep", desc := "(II)I" } : Jvm.MethodName)) ∈ lw_all := lw_g (lw_at lw_m8 186 rfl) rfl
theorem q1948 : (Jvm.Cond.selects "PointsForAllModel" ({ cls := "PointsForAllModel", name := "keep", desc := "(II)I" } : Jvm.MethodName) ({ cls := "PointsForAllModel", name := "keep", desc := "(II)I" } : Jvm.MethodName)) ∈ lw_all := lw_g (lw_at lw_m8 187 rfl) rfl
theorem q1949 : (Jvm.Cond.code ({ cls := "PointsForAllModel", name := "keep", desc := "(II)I" } : Jvm.MethodName) prog_32_method_84_code (3 : Nat) (Option.some Jvm.ClassFile.FieldType.int)) ∈ lw_all := lw_g (lw_at lw_m8 188 rfl) rfl
theorem q1951 : (Jvm.Cond.instanceMethod ({ cls := "PointsForAllModel", name := "row", desc := "(III)I" } : Jvm.MethodName)) ∈ lw_all := lw_g (lw_at lw_m8 190 rfl) rfl
theorem q1952 : (Jvm.Cond.selects "PointsForAllModel" ({ cls := "PointsForAllModel", name := "row", desc := "(III)I" } : Jvm.MethodName) ({ cls := "PointsForAllModel", name := "row", desc := "(III)I" } : Jvm.MethodName)) ∈ lw_all := lw_g (lw_at lw_m8 191 rfl) rfl
theorem q1953 : (Jvm.Cond.code ({ cls := "PointsForAllModel", name := "row", desc := "(III)I" } : Jvm.MethodName) prog_32_method_85_code (5 : Nat) (Option.some Jvm.ClassFile.FieldType.int)) ∈ lw_all := lw_g (lw_at lw_m8 192 rfl) rfl
theorem q1955 : (Jvm.Cond.instanceMethod ({ cls := "PointsForAllModel", name := "put", desc := "(IIJ)I" } : Jvm.MethodName)) ∈ lw_all := lw_g (lw_at lw_m8 194 rfl) rfl
theorem q1956 : (Jvm.Cond.selects "PointsForAllModel" ({ cls := "PointsForAllModel", name := "put", desc := "(IIJ)I" } : Jvm.MethodName) ({ cls := "PointsForAllModel", name := "put", desc := "(IIJ)I" } : Jvm.MethodName)) ∈ lw_all := lw_g (lw_at lw_m8 195 rfl) rfl
theorem q1957 : (Jvm.Cond.code ({ cls := "PointsForAllModel", name := "put", desc := "(IIJ)I" } : Jvm.MethodName) prog_32_method_88_code (6 : Nat) (Option.some Jvm.ClassFile.FieldType.int)) ∈ lw_all := lw_g (lw_at lw_m8 196 rfl) rfl
theorem q1958 : (Jvm.Cond.methodLink "PointsForAllModel" (361 : Nat) ({ cls := "PointsForAllModel", name := "refusal", desc := "(II)I" } : Jvm.MethodName)) ∈ lw_all := lw_g (lw_at lw_m8 197 rfl) rfl
theorem q1959 : (Jvm.Cond.privateMethod ({ cls := "PointsForAllModel", name := "refusal", desc := "(II)I" } : Jvm.MethodName)) ∈ lw_tbl := lw_at lw_m8 198 rfl
theorem q1960 : (Jvm.Cond.instanceMethod ({ cls := "PointsForAllModel", name := "refusal", desc := "(II)I" } : Jvm.MethodName)) ∈ lw_all := lw_g (lw_at lw_m8 199 rfl) rfl
theorem q1961 : (Jvm.Cond.code ({ cls := "PointsForAllModel", name := "refusal", desc := "(II)I" } : Jvm.MethodName) prog_32_method_86_code (3 : Nat) (Option.some Jvm.ClassFile.FieldType.int)) ∈ lw_all := lw_g (lw_at lw_m8 200 rfl) rfl
theorem q1962 : (Jvm.Cond.methodLink "PointsForAllModel" (364 : Nat) ({ cls := "PointsForAllModel", name := "asSort", desc := "(IJ)J" } : Jvm.MethodName)) ∈ lw_all := lw_g (lw_at lw_m8 201 rfl) rfl
theorem q1963 : (Jvm.Cond.static ({ cls := "PointsForAllModel", name := "asSort", desc := "(IJ)J" } : Jvm.MethodName)) ∈ lw_all := lw_g (lw_at lw_m8 202 rfl) rfl
theorem q1964 : (Jvm.Cond.code ({ cls := "PointsForAllModel", name := "asSort", desc := "(IJ)J" } : Jvm.MethodName) prog_32_method_87_code (3 : Nat) (Option.some Jvm.ClassFile.FieldType.long)) ∈ lw_all := lw_g (lw_at lw_m8 203 rfl) rfl
theorem q1966 : (Jvm.Cond.instanceMethod ({ cls := "PointsForAllModel", name := "element", desc := "(II)J" } : Jvm.MethodName)) ∈ lw_all := lw_g (lw_at lw_m8 205 rfl) rfl
theorem q1967 : (Jvm.Cond.selects "PointsForAllModel" ({ cls := "PointsForAllModel", name := "element", desc := "(II)J" } : Jvm.MethodName) ({ cls := "PointsForAllModel", name := "element", desc := "(II)J" } : Jvm.MethodName)) ∈ lw_all := lw_g (lw_at lw_m8 206 rfl) rfl
theorem q1968 : (Jvm.Cond.code ({ cls := "PointsForAllModel", name := "element", desc := "(II)J" } : Jvm.MethodName) prog_32_method_89_code (3 : Nat) (Option.some Jvm.ClassFile.FieldType.long)) ∈ lw_all := lw_g (lw_at lw_m8 207 rfl) rfl
theorem q1969 : (Jvm.Cond.constantLong "PointsForAllModel" (370 : Nat) (-9223372036854775808 : Int64)) ∈ lw_all := lw_g (lw_at lw_m8 208 rfl) rfl
theorem q1971 : (Jvm.Cond.instanceMethod ({ cls := "PointsForAllModel", name := "shift", desc := "(IIIII)I" } : Jvm.MethodName)) ∈ lw_all := lw_g (lw_at lw_m8 210 rfl) rfl
theorem q1972 : (Jvm.Cond.selects "PointsForAllModel" ({ cls := "PointsForAllModel", name := "shift", desc := "(IIIII)I" } : Jvm.MethodName) ({ cls := "PointsForAllModel", name := "shift", desc := "(IIIII)I" } : Jvm.MethodName)) ∈ lw_all := lw_g (lw_at lw_m8 211 rfl) rfl
theorem q1973 : (Jvm.Cond.code ({ cls := "PointsForAllModel", name := "shift", desc := "(IIIII)I" } : Jvm.MethodName) prog_32_method_90_code (7 : Nat) (Option.some Jvm.ClassFile.FieldType.int)) ∈ lw_all := lw_g (lw_at lw_m8 212 rfl) rfl
theorem q1975 : (Jvm.Cond.instanceMethod ({ cls := "PointsForAllModel", name := "taken", desc := "(II)I" } : Jvm.MethodName)) ∈ lw_all := lw_g (lw_at lw_m8 214 rfl) rfl
theorem q1976 : (Jvm.Cond.selects "PointsForAllModel" ({ cls := "PointsForAllModel", name := "taken", desc := "(II)I" } : Jvm.MethodName) ({ cls := "PointsForAllModel", name := "taken", desc := "(II)I" } : Jvm.MethodName)) ∈ lw_all := lw_g (lw_at lw_m8 215 rfl) rfl
theorem q1977 : (Jvm.Cond.code ({ cls := "PointsForAllModel", name := "taken", desc := "(II)I" } : Jvm.MethodName) prog_32_method_91_code (4 : Nat) (Option.some Jvm.ClassFile.FieldType.int)) ∈ lw_all := lw_g (lw_at lw_m8 216 rfl) rfl
theorem q1978 : (Jvm.Cond.methodLink "PointsForAllModel" (372 : Nat) ({ cls := "PointsForAllModel", name := "kindOf", desc := "(I)I" } : Jvm.MethodName)) ∈ lw_all := lw_g (lw_at lw_m8 217 rfl) rfl
theorem q1979 : (Jvm.Cond.privateMethod ({ cls := "PointsForAllModel", name := "kindOf", desc := "(I)I" } : Jvm.MethodName)) ∈ lw_tbl := lw_at lw_m8 218 rfl
theorem q1980 : (Jvm.Cond.instanceMethod ({ cls := "PointsForAllModel", name := "kindOf", desc := "(I)I" } : Jvm.MethodName)) ∈ lw_all := lw_g (lw_at lw_m8 219 rfl) rfl
theorem q1981 : (Jvm.Cond.code ({ cls := "PointsForAllModel", name := "kindOf", desc := "(I)I" } : Jvm.MethodName) prog_32_method_73_code (2 : Nat) (Option.some Jvm.ClassFile.FieldType.int)) ∈ lw_all := lw_g (lw_at lw_m8 220 rfl) rfl
theorem q1982 : (Jvm.Cond.methodLink "PointsForAllModel" (375 : Nat) ({ cls := "PointsForAllModel", name := "above", desc := "(I)I" } : Jvm.MethodName)) ∈ lw_all := lw_g (lw_at lw_m8 221 rfl) rfl
theorem q1983 : (Jvm.Cond.static ({ cls := "PointsForAllModel", name := "above", desc := "(I)I" } : Jvm.MethodName)) ∈ lw_all := lw_g (lw_at lw_m8 222 rfl) rfl
theorem q1984 : (Jvm.Cond.code ({ cls := "PointsForAllModel", name := "above", desc := "(I)I" } : Jvm.MethodName) prog_32_method_75_code (1 : Nat) (Option.some Jvm.ClassFile.FieldType.int)) ∈ lw_all := lw_g (lw_at lw_m8 223 rfl) rfl
theorem q1986 : (Jvm.Cond.instanceMethod ({ cls := "PointsForAllModel", name := "count", desc := "(I)I" } : Jvm.MethodName)) ∈ lw_all := lw_g (lw_at lw_m8 225 rfl) rfl
theorem q1987 : (Jvm.Cond.selects "PointsForAllModel" ({ cls := "PointsForAllModel", name := "count", desc := "(I)I" } : Jvm.MethodName) ({ cls := "PointsForAllModel", name := "count", desc := "(I)I" } : Jvm.MethodName)) ∈ lw_all := lw_g (lw_at lw_m8 226 rfl) rfl
theorem q1988 : (Jvm.Cond.code ({ cls := "PointsForAllModel", name := "count", desc := "(I)I" } : Jvm.MethodName) prog_32_method_92_code (2 : Nat) (Option.some Jvm.ClassFile.FieldType.int)) ∈ lw_all := lw_g (lw_at lw_m8 227 rfl) rfl
theorem in_X2 : ∀ w ∈ wsX20, w ∈ lw_all := lw_in wsX20 [1508, 1510, 1512, 1514, 1516, 1518, 1520, 1522, 1524, 1526, 1528, 1530, 1532, 1534, 1536, 1538, 1540, 1542, 1544, 1546, 1548, 1550, 1552, 1554, 1556, 1558, 1560, 1562, 1564, 1566, 1568, 1570, 1572, 1574, 1576, 1578, 1580, 1582, 1584, 1586, 1588, 1590, 1592, 1594, 1596, 1598, 1600, 1602, 1604, 1606, 1608, 1610, 1612, 1614, 1616] (by decide +kernel) (by decide +kernel)
