/-! PointsForAll -/
set_option maxRecDepth 100000
def RX0 : String := "PointsForAll"
def TX0 : u_T := fun k => match k with
  | 0 => ("PointsForAll", "things", "[LPointsForAll$Thing;", true)
  | 1 => ("PointsForAll", "sorts", "[LPointsForAll$Sort;", true)
  | 2 => ("PointsForAll", "thingMany", "I", false)
  | 3 => ("PointsForAll", "sortMany", "I", false)
  | 4 => ("PointsForAll", "changes", "[LPointsForAll$Change;", true)
  | 5 => ("PointsForAll", "doneMany", "I", false)
  | 6 => ("PointsForAll", "undoneMany", "I", false)
  | 7 => ("PointsForAll", "tape", "[B", true)
  | 8 => ("PointsForAll", "taped", "I", false)
  | 9 => ("PointsForAll", "wants", "[LPointsForAll$Line;", true)
  | 10 => ("PointsForAll", "wantMany", "I", false)
  | 11 => ("PointsForAll", "facts", "LPointsForAll$Facts;", true)
  | 12 => ("PointsForAll", "worths", "[I", true)
  | 13 => ("PointsForAll", "coins", "[I", true)
  | 14 => ("PointsForAll", "pointed", "[I", true)
  | 15 => ("PointsForAll", "one", "[I", true)
  | 16 => ("PointsForAll", "wanted", "[I", true)
  | 17 => ("PointsForAll", "pointsBefore", "[I", true)
  | 18 => ("PointsForAll", "leastPoints", "[I", true)
  | 19 => ("PointsForAll", "lastPoints", "[I", true)
  | 20 => ("PointsForAll", "moved", "I", false)
  | 21 => ("PointsForAll", "bothThen", "I", false)
  | 22 => ("PointsForAll", "leastBoth", "I", false)
  | 23 => ("PointsForAll", "leastRound", "I", false)
  | 24 => ("PointsForAll", "worthBy", "[I", true)
  | 25 => ("PointsForAll", "traces", "I", false)
  | 26 => ("PointsForAll", "traced", "[B", true)
  | 27 => ("PointsForAll", "bodies", "[LPointsForAll$Purse;", true)
  | 28 => ("PointsForAll", "bodyMany", "I", false)
  | _ => ("PointsForAll", "shelves", "[LPointsForAll$Held;", true)
def tyX0 : Nat → FieldType := fun k => match k with
  | 0 => .array (.object "PointsForAll$Thing")
  | 1 => .array (.object "PointsForAll$Sort")
  | 2 => .int
  | 3 => .int
  | 4 => .array (.object "PointsForAll$Change")
  | 5 => .int
  | 6 => .int
  | 7 => .array .byte
  | 8 => .int
  | 9 => .array (.object "PointsForAll$Line")
  | 10 => .int
  | 11 => .object "PointsForAll$Facts"
  | 12 => .array .int
  | 13 => .array .int
  | 14 => .array .int
  | 15 => .array .int
  | 16 => .array .int
  | 17 => .array .int
  | 18 => .array .int
  | 19 => .array .int
  | 20 => .int
  | 21 => .int
  | 22 => .int
  | 23 => .int
  | 24 => .array .int
  | 25 => .int
  | 26 => .array .byte
  | 27 => .array (.object "PointsForAll$Purse")
  | 28 => .int
  | _ => .array (.object "PointsForAll$Held")
abbrev wsX00 : List Cond := u_ws RX0 TX0 30
set_option maxRecDepth 100000 in
theorem nmX0 : ∀ a, a < 30 → ∀ b, b < 30 → a ≠ b → (TX0 a).2.1 ≠ (TX0 b).2.1 := by decide +kernel
set_option maxRecDepth 100000 in
theorem tyX0_ok : ∀ k, k < 30 → parseFieldDescriptor (TX0 k).2.2.1 = some (tyX0 k) := by decide +kernel
abbrev cX0_init : ByteArray := prog_1_method_1_code
def yX0_init : MethodName := ⟨RX0, "<init>", "()V"⟩
def dkwX0_init_6 : List UInt8 := [42, 16, 50, 189, 0, 75, 181, 0, 77, 42, 16, 6, 189, 0, 81, 181, 0, 83, 177]
abbrev dktX0_init_6 : List UInt8 := dkwX0_init_6 ++ []
def dkwX0_init_5 : List UInt8 := [16, 6, 188, 10, 181, 0, 66, 42, 17, 1, 3, 188, 10, 181, 0, 69, 42, 16, 24, 188, 8, 181, 0, 72]
abbrev dktX0_init_5 : List UInt8 := dkwX0_init_5 ++ dktX0_init_6
def dkwX0_init_4 : List UInt8 := [16, 6, 188, 10, 181, 0, 57, 42, 16, 6, 188, 10, 181, 0, 60, 42, 16, 6, 188, 10, 181, 0, 63, 42]
abbrev dktX0_init_4 : List UInt8 := dkwX0_init_4 ++ dktX0_init_5
def dkwX0_init_3 : List UInt8 := [188, 10, 181, 0, 48, 42, 17, 16, 0, 188, 10, 181, 0, 51, 42, 16, 24, 188, 10, 181, 0, 54, 42]
abbrev dktX0_init_3 : List UInt8 := dkwX0_init_3 ++ dktX0_init_4
def dkwX0_init_2 : List UInt8 := [187, 0, 37, 89, 183, 0, 39, 181, 0, 40, 42, 17, 16, 0, 188, 10, 181, 0, 44, 42, 17, 16, 0]
abbrev dktX0_init_2 : List UInt8 := dkwX0_init_2 ++ dktX0_init_3
def dkwX0_init_1 : List UInt8 := [189, 0, 21, 181, 0, 23, 42, 16, 120, 188, 8, 181, 0, 27, 42, 7, 189, 0, 31, 181, 0, 33, 42]
abbrev dktX0_init_1 : List UInt8 := dkwX0_init_1 ++ dktX0_init_2
def dkwX0_init_0 : List UInt8 := [42, 183, 0, 1, 42, 16, 6, 189, 0, 9, 181, 0, 11, 42, 8, 189, 0, 15, 181, 0, 17, 42, 16, 40]
abbrev dktX0_init_0 : List UInt8 := dkwX0_init_0 ++ dktX0_init_1
theorem dksX0_init_0 : cX0_init.data.toList.drop 0 = dktX0_init_0 := by decide +kernel
theorem dksX0_init_1 : cX0_init.data.toList.drop 24 = dktX0_init_1 := dk_seg dksX0_init_0 24 rfl rfl
theorem dksX0_init_2 : cX0_init.data.toList.drop 47 = dktX0_init_2 := dk_seg dksX0_init_1 23 rfl rfl
theorem dksX0_init_3 : cX0_init.data.toList.drop 70 = dktX0_init_3 := dk_seg dksX0_init_2 23 rfl rfl
theorem dksX0_init_4 : cX0_init.data.toList.drop 93 = dktX0_init_4 := dk_seg dksX0_init_3 23 rfl rfl
theorem dksX0_init_5 : cX0_init.data.toList.drop 117 = dktX0_init_5 := dk_seg dksX0_init_4 24 rfl rfl
theorem dksX0_init_6 : cX0_init.data.toList.drop 141 = dktX0_init_6 := dk_seg dksX0_init_5 24 rfl rfl
theorem dX0_init_0 : decode cX0_init 0 = .ok (.aload_n 0, 1) := dk_42 (dk_at dksX0_init_0 0 rfl rfl)
theorem dX0_init_1 : decode cX0_init 1 = .ok (.invokespecial 1, 3) := dk_183 0 1 (dk_at dksX0_init_0 1 rfl rfl)
theorem dX0_init_4 : decode cX0_init 4 = .ok (.aload_n 0, 1) := dk_42 (dk_at dksX0_init_0 4 rfl rfl)
theorem dX0_init_5 : decode cX0_init 5 = .ok (.bipush 6, 2) := dk_16 6 (dk_at dksX0_init_0 5 rfl rfl)
theorem dX0_init_7 : decode cX0_init 7 = .ok (.anewarray 9, 3) := dk_189 0 9 (dk_at dksX0_init_0 7 rfl rfl)
theorem dX0_init_10 : decode cX0_init 10 = .ok (.putfield 11, 3) := dk_181 0 11 (dk_at dksX0_init_0 10 rfl rfl)
theorem dX0_init_13 : decode cX0_init 13 = .ok (.aload_n 0, 1) := dk_42 (dk_at dksX0_init_0 13 rfl rfl)
theorem dX0_init_14 : decode cX0_init 14 = .ok (.iconst 5, 1) := dk_8 (dk_at dksX0_init_0 14 rfl rfl)
theorem dX0_init_15 : decode cX0_init 15 = .ok (.anewarray 15, 3) := dk_189 0 15 (dk_at dksX0_init_0 15 rfl rfl)
theorem dX0_init_18 : decode cX0_init 18 = .ok (.putfield 17, 3) := dk_181 0 17 (dk_at dksX0_init_0 18 rfl rfl)
theorem dX0_init_21 : decode cX0_init 21 = .ok (.aload_n 0, 1) := dk_42 (dk_at dksX0_init_0 21 rfl rfl)
theorem dX0_init_22 : decode cX0_init 22 = .ok (.bipush 40, 2) := dk_16 40 (dk_at dksX0_init_0 22 rfl rfl)
theorem dX0_init_24 : decode cX0_init 24 = .ok (.anewarray 21, 3) := dk_189 0 21 (dk_at dksX0_init_1 0 rfl rfl)
theorem dX0_init_27 : decode cX0_init 27 = .ok (.putfield 23, 3) := dk_181 0 23 (dk_at dksX0_init_1 3 rfl rfl)
theorem dX0_init_30 : decode cX0_init 30 = .ok (.aload_n 0, 1) := dk_42 (dk_at dksX0_init_1 6 rfl rfl)
theorem dX0_init_31 : decode cX0_init 31 = .ok (.bipush 120, 2) := dk_16 120 (dk_at dksX0_init_1 7 rfl rfl)
theorem dX0_init_33 : decode cX0_init 33 = .ok (.newarray .byte, 2) := dk_188_8 (dk_at dksX0_init_1 9 rfl rfl)
theorem dX0_init_35 : decode cX0_init 35 = .ok (.putfield 27, 3) := dk_181 0 27 (dk_at dksX0_init_1 11 rfl rfl)
theorem dX0_init_38 : decode cX0_init 38 = .ok (.aload_n 0, 1) := dk_42 (dk_at dksX0_init_1 14 rfl rfl)
theorem dX0_init_39 : decode cX0_init 39 = .ok (.iconst 4, 1) := dk_7 (dk_at dksX0_init_1 15 rfl rfl)
theorem dX0_init_40 : decode cX0_init 40 = .ok (.anewarray 31, 3) := dk_189 0 31 (dk_at dksX0_init_1 16 rfl rfl)
theorem dX0_init_43 : decode cX0_init 43 = .ok (.putfield 33, 3) := dk_181 0 33 (dk_at dksX0_init_1 19 rfl rfl)
theorem dX0_init_46 : decode cX0_init 46 = .ok (.aload_n 0, 1) := dk_42 (dk_at dksX0_init_1 22 rfl rfl)
theorem dX0_init_47 : decode cX0_init 47 = .ok (.new 37, 3) := dk_187 0 37 (dk_at dksX0_init_2 0 rfl rfl)
theorem dX0_init_50 : decode cX0_init 50 = .ok (.dup, 1) := dk_89 (dk_at dksX0_init_2 3 rfl rfl)
theorem dX0_init_51 : decode cX0_init 51 = .ok (.invokespecial 39, 3) := dk_183 0 39 (dk_at dksX0_init_2 4 rfl rfl)
theorem dX0_init_54 : decode cX0_init 54 = .ok (.putfield 40, 3) := dk_181 0 40 (dk_at dksX0_init_2 7 rfl rfl)
theorem dX0_init_57 : decode cX0_init 57 = .ok (.aload_n 0, 1) := dk_42 (dk_at dksX0_init_2 10 rfl rfl)
theorem dX0_init_58 : decode cX0_init 58 = .ok (.sipush 4096, 3) := dk_17 16 0 (dk_at dksX0_init_2 11 rfl rfl)
theorem dX0_init_61 : decode cX0_init 61 = .ok (.newarray .int, 2) := dk_188_10 (dk_at dksX0_init_2 14 rfl rfl)
theorem dX0_init_63 : decode cX0_init 63 = .ok (.putfield 44, 3) := dk_181 0 44 (dk_at dksX0_init_2 16 rfl rfl)
theorem dX0_init_66 : decode cX0_init 66 = .ok (.aload_n 0, 1) := dk_42 (dk_at dksX0_init_2 19 rfl rfl)
theorem dX0_init_67 : decode cX0_init 67 = .ok (.sipush 4096, 3) := dk_17 16 0 (dk_at dksX0_init_2 20 rfl rfl)
theorem dX0_init_70 : decode cX0_init 70 = .ok (.newarray .int, 2) := dk_188_10 (dk_at dksX0_init_3 0 rfl rfl)
theorem dX0_init_72 : decode cX0_init 72 = .ok (.putfield 48, 3) := dk_181 0 48 (dk_at dksX0_init_3 2 rfl rfl)
theorem dX0_init_75 : decode cX0_init 75 = .ok (.aload_n 0, 1) := dk_42 (dk_at dksX0_init_3 5 rfl rfl)
theorem dX0_init_76 : decode cX0_init 76 = .ok (.sipush 4096, 3) := dk_17 16 0 (dk_at dksX0_init_3 6 rfl rfl)
theorem dX0_init_79 : decode cX0_init 79 = .ok (.newarray .int, 2) := dk_188_10 (dk_at dksX0_init_3 9 rfl rfl)
theorem dX0_init_81 : decode cX0_init 81 = .ok (.putfield 51, 3) := dk_181 0 51 (dk_at dksX0_init_3 11 rfl rfl)
theorem dX0_init_84 : decode cX0_init 84 = .ok (.aload_n 0, 1) := dk_42 (dk_at dksX0_init_3 14 rfl rfl)
theorem dX0_init_85 : decode cX0_init 85 = .ok (.bipush 24, 2) := dk_16 24 (dk_at dksX0_init_3 15 rfl rfl)
theorem dX0_init_87 : decode cX0_init 87 = .ok (.newarray .int, 2) := dk_188_10 (dk_at dksX0_init_3 17 rfl rfl)
theorem dX0_init_89 : decode cX0_init 89 = .ok (.putfield 54, 3) := dk_181 0 54 (dk_at dksX0_init_3 19 rfl rfl)
theorem dX0_init_92 : decode cX0_init 92 = .ok (.aload_n 0, 1) := dk_42 (dk_at dksX0_init_3 22 rfl rfl)
theorem dX0_init_93 : decode cX0_init 93 = .ok (.bipush 6, 2) := dk_16 6 (dk_at dksX0_init_4 0 rfl rfl)
theorem dX0_init_95 : decode cX0_init 95 = .ok (.newarray .int, 2) := dk_188_10 (dk_at dksX0_init_4 2 rfl rfl)
theorem dX0_init_97 : decode cX0_init 97 = .ok (.putfield 57, 3) := dk_181 0 57 (dk_at dksX0_init_4 4 rfl rfl)
theorem dX0_init_100 : decode cX0_init 100 = .ok (.aload_n 0, 1) := dk_42 (dk_at dksX0_init_4 7 rfl rfl)
theorem dX0_init_101 : decode cX0_init 101 = .ok (.bipush 6, 2) := dk_16 6 (dk_at dksX0_init_4 8 rfl rfl)
theorem dX0_init_103 : decode cX0_init 103 = .ok (.newarray .int, 2) := dk_188_10 (dk_at dksX0_init_4 10 rfl rfl)
theorem dX0_init_105 : decode cX0_init 105 = .ok (.putfield 60, 3) := dk_181 0 60 (dk_at dksX0_init_4 12 rfl rfl)
theorem dX0_init_108 : decode cX0_init 108 = .ok (.aload_n 0, 1) := dk_42 (dk_at dksX0_init_4 15 rfl rfl)
theorem dX0_init_109 : decode cX0_init 109 = .ok (.bipush 6, 2) := dk_16 6 (dk_at dksX0_init_4 16 rfl rfl)
theorem dX0_init_111 : decode cX0_init 111 = .ok (.newarray .int, 2) := dk_188_10 (dk_at dksX0_init_4 18 rfl rfl)
theorem dX0_init_113 : decode cX0_init 113 = .ok (.putfield 63, 3) := dk_181 0 63 (dk_at dksX0_init_4 20 rfl rfl)
theorem dX0_init_116 : decode cX0_init 116 = .ok (.aload_n 0, 1) := dk_42 (dk_at dksX0_init_4 23 rfl rfl)
theorem dX0_init_117 : decode cX0_init 117 = .ok (.bipush 6, 2) := dk_16 6 (dk_at dksX0_init_5 0 rfl rfl)
theorem dX0_init_119 : decode cX0_init 119 = .ok (.newarray .int, 2) := dk_188_10 (dk_at dksX0_init_5 2 rfl rfl)
theorem dX0_init_121 : decode cX0_init 121 = .ok (.putfield 66, 3) := dk_181 0 66 (dk_at dksX0_init_5 4 rfl rfl)
theorem dX0_init_124 : decode cX0_init 124 = .ok (.aload_n 0, 1) := dk_42 (dk_at dksX0_init_5 7 rfl rfl)
theorem dX0_init_125 : decode cX0_init 125 = .ok (.sipush 259, 3) := dk_17 1 3 (dk_at dksX0_init_5 8 rfl rfl)
theorem dX0_init_128 : decode cX0_init 128 = .ok (.newarray .int, 2) := dk_188_10 (dk_at dksX0_init_5 11 rfl rfl)
theorem dX0_init_130 : decode cX0_init 130 = .ok (.putfield 69, 3) := dk_181 0 69 (dk_at dksX0_init_5 13 rfl rfl)
theorem dX0_init_133 : decode cX0_init 133 = .ok (.aload_n 0, 1) := dk_42 (dk_at dksX0_init_5 16 rfl rfl)
theorem dX0_init_134 : decode cX0_init 134 = .ok (.bipush 24, 2) := dk_16 24 (dk_at dksX0_init_5 17 rfl rfl)
theorem dX0_init_136 : decode cX0_init 136 = .ok (.newarray .byte, 2) := dk_188_8 (dk_at dksX0_init_5 19 rfl rfl)
theorem dX0_init_138 : decode cX0_init 138 = .ok (.putfield 72, 3) := dk_181 0 72 (dk_at dksX0_init_5 21 rfl rfl)
theorem dX0_init_141 : decode cX0_init 141 = .ok (.aload_n 0, 1) := dk_42 (dk_at dksX0_init_6 0 rfl rfl)
theorem dX0_init_142 : decode cX0_init 142 = .ok (.bipush 50, 2) := dk_16 50 (dk_at dksX0_init_6 1 rfl rfl)
theorem dX0_init_144 : decode cX0_init 144 = .ok (.anewarray 75, 3) := dk_189 0 75 (dk_at dksX0_init_6 3 rfl rfl)
theorem dX0_init_147 : decode cX0_init 147 = .ok (.putfield 77, 3) := dk_181 0 77 (dk_at dksX0_init_6 6 rfl rfl)
theorem dX0_init_150 : decode cX0_init 150 = .ok (.aload_n 0, 1) := dk_42 (dk_at dksX0_init_6 9 rfl rfl)
theorem dX0_init_151 : decode cX0_init 151 = .ok (.bipush 6, 2) := dk_16 6 (dk_at dksX0_init_6 10 rfl rfl)
theorem dX0_init_153 : decode cX0_init 153 = .ok (.anewarray 81, 3) := dk_189 0 81 (dk_at dksX0_init_6 12 rfl rfl)
theorem dX0_init_156 : decode cX0_init 156 = .ok (.putfield 83, 3) := dk_181 0 83 (dk_at dksX0_init_6 15 rfl rfl)
theorem dX0_init_159 : decode cX0_init 159 = .ok (.return_, 1) := dk_177 (dk_at dksX0_init_6 18 rfl rfl)
abbrev cX0_thing : ByteArray := prog_1_method_6_code
def yX0_thing : MethodName := ⟨RX0, "thing", "(III)I"⟩
def dkwX0_thing_3 : List UInt8 := [180, 0, 87, 4, 100, 172]
abbrev dktX0_thing_3 : List UInt8 := dkwX0_thing_3 ++ []
def dkwX0_thing_2 : List UInt8 := [28, 16, 100, 108, 28, 16, 100, 112, 29, 183, 0, 102, 83, 42, 89, 180, 0, 87, 4, 96, 181, 0, 87, 42]
abbrev dktX0_thing_2 : List UInt8 := dkwX0_thing_2 ++ dktX0_thing_3
def dkwX0_thing_1 : List UInt8 := [180, 0, 87, 16, 6, 160, 0, 6, 16, 253, 172, 42, 180, 0, 11, 42, 180, 0, 87, 187, 0, 9, 89, 27]
abbrev dktX0_thing_1 : List UInt8 := dkwX0_thing_1 ++ dktX0_thing_2
def dkwX0_thing_0 : List UInt8 := [28, 155, 0, 19, 27, 28, 16, 100, 108, 28, 16, 100, 112, 29, 184, 0, 98, 154, 0, 5, 2, 172, 42]
abbrev dktX0_thing_0 : List UInt8 := dkwX0_thing_0 ++ dktX0_thing_1
theorem dksX0_thing_0 : cX0_thing.data.toList.drop 0 = dktX0_thing_0 := by decide +kernel
theorem dksX0_thing_1 : cX0_thing.data.toList.drop 23 = dktX0_thing_1 := dk_seg dksX0_thing_0 23 rfl rfl
theorem dksX0_thing_2 : cX0_thing.data.toList.drop 47 = dktX0_thing_2 := dk_seg dksX0_thing_1 24 rfl rfl
theorem dksX0_thing_3 : cX0_thing.data.toList.drop 71 = dktX0_thing_3 := dk_seg dksX0_thing_2 24 rfl rfl
theorem dX0_thing_0 : decode cX0_thing 0 = .ok (.iload_n 2, 1) := dk_28 (dk_at dksX0_thing_0 0 rfl rfl)
theorem dX0_thing_1 : decode cX0_thing 1 = .ok (.ifCond .lt 19, 3) := dk_155 0 19 (dk_at dksX0_thing_0 1 rfl rfl)
theorem dX0_thing_4 : decode cX0_thing 4 = .ok (.iload_n 1, 1) := dk_27 (dk_at dksX0_thing_0 4 rfl rfl)
theorem dX0_thing_5 : decode cX0_thing 5 = .ok (.iload_n 2, 1) := dk_28 (dk_at dksX0_thing_0 5 rfl rfl)
theorem dX0_thing_6 : decode cX0_thing 6 = .ok (.bipush 100, 2) := dk_16 100 (dk_at dksX0_thing_0 6 rfl rfl)
theorem dX0_thing_8 : decode cX0_thing 8 = .ok (.idiv, 1) := dk_108 (dk_at dksX0_thing_0 8 rfl rfl)
theorem dX0_thing_9 : decode cX0_thing 9 = .ok (.iload_n 2, 1) := dk_28 (dk_at dksX0_thing_0 9 rfl rfl)
theorem dX0_thing_10 : decode cX0_thing 10 = .ok (.bipush 100, 2) := dk_16 100 (dk_at dksX0_thing_0 10 rfl rfl)
theorem dX0_thing_12 : decode cX0_thing 12 = .ok (.irem, 1) := dk_112 (dk_at dksX0_thing_0 12 rfl rfl)
theorem dX0_thing_13 : decode cX0_thing 13 = .ok (.iload_n 3, 1) := dk_29 (dk_at dksX0_thing_0 13 rfl rfl)
theorem dX0_thing_14 : decode cX0_thing 14 = .ok (.invokestatic 98, 3) := dk_184 0 98 (dk_at dksX0_thing_0 14 rfl rfl)
theorem dX0_thing_17 : decode cX0_thing 17 = .ok (.ifCond .ne 5, 3) := dk_154 0 5 (dk_at dksX0_thing_0 17 rfl rfl)
theorem dX0_thing_20 : decode cX0_thing 20 = .ok (.iconst (-1), 1) := dk_2 (dk_at dksX0_thing_0 20 rfl rfl)
theorem dX0_thing_21 : decode cX0_thing 21 = .ok (.ireturn, 1) := dk_172 (dk_at dksX0_thing_0 21 rfl rfl)
theorem dX0_thing_22 : decode cX0_thing 22 = .ok (.aload_n 0, 1) := dk_42 (dk_at dksX0_thing_0 22 rfl rfl)
theorem dX0_thing_23 : decode cX0_thing 23 = .ok (.getfield 87, 3) := dk_180 0 87 (dk_at dksX0_thing_1 0 rfl rfl)
theorem dX0_thing_26 : decode cX0_thing 26 = .ok (.bipush 6, 2) := dk_16 6 (dk_at dksX0_thing_1 3 rfl rfl)
theorem dX0_thing_28 : decode cX0_thing 28 = .ok (.if_icmp .ne 6, 3) := dk_160 0 6 (dk_at dksX0_thing_1 5 rfl rfl)
theorem dX0_thing_31 : decode cX0_thing 31 = .ok (.bipush (-3), 2) := dk_16 253 (dk_at dksX0_thing_1 8 rfl rfl)
theorem dX0_thing_33 : decode cX0_thing 33 = .ok (.ireturn, 1) := dk_172 (dk_at dksX0_thing_1 10 rfl rfl)
theorem dX0_thing_34 : decode cX0_thing 34 = .ok (.aload_n 0, 1) := dk_42 (dk_at dksX0_thing_1 11 rfl rfl)
theorem dX0_thing_35 : decode cX0_thing 35 = .ok (.getfield 11, 3) := dk_180 0 11 (dk_at dksX0_thing_1 12 rfl rfl)
theorem dX0_thing_38 : decode cX0_thing 38 = .ok (.aload_n 0, 1) := dk_42 (dk_at dksX0_thing_1 15 rfl rfl)
theorem dX0_thing_39 : decode cX0_thing 39 = .ok (.getfield 87, 3) := dk_180 0 87 (dk_at dksX0_thing_1 16 rfl rfl)
theorem dX0_thing_42 : decode cX0_thing 42 = .ok (.new 9, 3) := dk_187 0 9 (dk_at dksX0_thing_1 19 rfl rfl)
theorem dX0_thing_45 : decode cX0_thing 45 = .ok (.dup, 1) := dk_89 (dk_at dksX0_thing_1 22 rfl rfl)
theorem dX0_thing_46 : decode cX0_thing 46 = .ok (.iload_n 1, 1) := dk_27 (dk_at dksX0_thing_1 23 rfl rfl)
theorem dX0_thing_47 : decode cX0_thing 47 = .ok (.iload_n 2, 1) := dk_28 (dk_at dksX0_thing_2 0 rfl rfl)
theorem dX0_thing_48 : decode cX0_thing 48 = .ok (.bipush 100, 2) := dk_16 100 (dk_at dksX0_thing_2 1 rfl rfl)
theorem dX0_thing_50 : decode cX0_thing 50 = .ok (.idiv, 1) := dk_108 (dk_at dksX0_thing_2 3 rfl rfl)
theorem dX0_thing_51 : decode cX0_thing 51 = .ok (.iload_n 2, 1) := dk_28 (dk_at dksX0_thing_2 4 rfl rfl)
theorem dX0_thing_52 : decode cX0_thing 52 = .ok (.bipush 100, 2) := dk_16 100 (dk_at dksX0_thing_2 5 rfl rfl)
theorem dX0_thing_54 : decode cX0_thing 54 = .ok (.irem, 1) := dk_112 (dk_at dksX0_thing_2 7 rfl rfl)
theorem dX0_thing_55 : decode cX0_thing 55 = .ok (.iload_n 3, 1) := dk_29 (dk_at dksX0_thing_2 8 rfl rfl)
theorem dX0_thing_56 : decode cX0_thing 56 = .ok (.invokespecial 102, 3) := dk_183 0 102 (dk_at dksX0_thing_2 9 rfl rfl)
theorem dX0_thing_59 : decode cX0_thing 59 = .ok (.aastore, 1) := dk_83 (dk_at dksX0_thing_2 12 rfl rfl)
theorem dX0_thing_60 : decode cX0_thing 60 = .ok (.aload_n 0, 1) := dk_42 (dk_at dksX0_thing_2 13 rfl rfl)
theorem dX0_thing_61 : decode cX0_thing 61 = .ok (.dup, 1) := dk_89 (dk_at dksX0_thing_2 14 rfl rfl)
theorem dX0_thing_62 : decode cX0_thing 62 = .ok (.getfield 87, 3) := dk_180 0 87 (dk_at dksX0_thing_2 15 rfl rfl)
theorem dX0_thing_65 : decode cX0_thing 65 = .ok (.iconst 1, 1) := dk_4 (dk_at dksX0_thing_2 18 rfl rfl)
theorem dX0_thing_66 : decode cX0_thing 66 = .ok (.iadd, 1) := dk_96 (dk_at dksX0_thing_2 19 rfl rfl)
theorem dX0_thing_67 : decode cX0_thing 67 = .ok (.putfield 87, 3) := dk_181 0 87 (dk_at dksX0_thing_2 20 rfl rfl)
theorem dX0_thing_70 : decode cX0_thing 70 = .ok (.aload_n 0, 1) := dk_42 (dk_at dksX0_thing_2 23 rfl rfl)
theorem dX0_thing_71 : decode cX0_thing 71 = .ok (.getfield 87, 3) := dk_180 0 87 (dk_at dksX0_thing_3 0 rfl rfl)
theorem dX0_thing_74 : decode cX0_thing 74 = .ok (.iconst 1, 1) := dk_4 (dk_at dksX0_thing_3 3 rfl rfl)
theorem dX0_thing_75 : decode cX0_thing 75 = .ok (.isub, 1) := dk_100 (dk_at dksX0_thing_3 4 rfl rfl)
theorem dX0_thing_76 : decode cX0_thing 76 = .ok (.ireturn, 1) := dk_172 (dk_at dksX0_thing_3 5 rfl rfl)
abbrev cX0_isThingSo : ByteArray := prog_1_method_5_code
def yX0_isThingSo : MethodName := ⟨RX0, "isThingSo", "(IIII)Z"⟩
def dkwX0_isThingSo_1 : List UInt8 := [16, 99, 184, 0, 91, 153, 0, 17, 29, 3, 16, 99, 184, 0, 91, 153, 0, 7, 4, 167, 0, 4, 3, 172]
abbrev dktX0_isThingSo_1 : List UInt8 := dkwX0_isThingSo_1 ++ []
def dkwX0_isThingSo_0 : List UInt8 := [26, 3, 17, 3, 231, 184, 0, 91, 153, 0, 37, 27, 3, 16, 99, 184, 0, 91, 153, 0, 27, 28, 3]
abbrev dktX0_isThingSo_0 : List UInt8 := dkwX0_isThingSo_0 ++ dktX0_isThingSo_1
theorem dksX0_isThingSo_0 : cX0_isThingSo.data.toList.drop 0 = dktX0_isThingSo_0 := by decide +kernel
theorem dksX0_isThingSo_1 : cX0_isThingSo.data.toList.drop 23 = dktX0_isThingSo_1 := dk_seg dksX0_isThingSo_0 23 rfl rfl
theorem dX0_isThingSo_0 : decode cX0_isThingSo 0 = .ok (.iload_n 0, 1) := dk_26 (dk_at dksX0_isThingSo_0 0 rfl rfl)
theorem dX0_isThingSo_1 : decode cX0_isThingSo 1 = .ok (.iconst 0, 1) := dk_3 (dk_at dksX0_isThingSo_0 1 rfl rfl)
theorem dX0_isThingSo_2 : decode cX0_isThingSo 2 = .ok (.sipush 999, 3) := dk_17 3 231 (dk_at dksX0_isThingSo_0 2 rfl rfl)
theorem dX0_isThingSo_5 : decode cX0_isThingSo 5 = .ok (.invokestatic 91, 3) := dk_184 0 91 (dk_at dksX0_isThingSo_0 5 rfl rfl)
theorem dX0_isThingSo_8 : decode cX0_isThingSo 8 = .ok (.ifCond .eq 37, 3) := dk_153 0 37 (dk_at dksX0_isThingSo_0 8 rfl rfl)
theorem dX0_isThingSo_11 : decode cX0_isThingSo 11 = .ok (.iload_n 1, 1) := dk_27 (dk_at dksX0_isThingSo_0 11 rfl rfl)
theorem dX0_isThingSo_12 : decode cX0_isThingSo 12 = .ok (.iconst 0, 1) := dk_3 (dk_at dksX0_isThingSo_0 12 rfl rfl)
theorem dX0_isThingSo_13 : decode cX0_isThingSo 13 = .ok (.bipush 99, 2) := dk_16 99 (dk_at dksX0_isThingSo_0 13 rfl rfl)
theorem dX0_isThingSo_15 : decode cX0_isThingSo 15 = .ok (.invokestatic 91, 3) := dk_184 0 91 (dk_at dksX0_isThingSo_0 15 rfl rfl)
theorem dX0_isThingSo_18 : decode cX0_isThingSo 18 = .ok (.ifCond .eq 27, 3) := dk_153 0 27 (dk_at dksX0_isThingSo_0 18 rfl rfl)
theorem dX0_isThingSo_21 : decode cX0_isThingSo 21 = .ok (.iload_n 2, 1) := dk_28 (dk_at dksX0_isThingSo_0 21 rfl rfl)
theorem dX0_isThingSo_22 : decode cX0_isThingSo 22 = .ok (.iconst 0, 1) := dk_3 (dk_at dksX0_isThingSo_0 22 rfl rfl)
theorem dX0_isThingSo_23 : decode cX0_isThingSo 23 = .ok (.bipush 99, 2) := dk_16 99 (dk_at dksX0_isThingSo_1 0 rfl rfl)
theorem dX0_isThingSo_25 : decode cX0_isThingSo 25 = .ok (.invokestatic 91, 3) := dk_184 0 91 (dk_at dksX0_isThingSo_1 2 rfl rfl)
theorem dX0_isThingSo_28 : decode cX0_isThingSo 28 = .ok (.ifCond .eq 17, 3) := dk_153 0 17 (dk_at dksX0_isThingSo_1 5 rfl rfl)
theorem dX0_isThingSo_31 : decode cX0_isThingSo 31 = .ok (.iload_n 3, 1) := dk_29 (dk_at dksX0_isThingSo_1 8 rfl rfl)
theorem dX0_isThingSo_32 : decode cX0_isThingSo 32 = .ok (.iconst 0, 1) := dk_3 (dk_at dksX0_isThingSo_1 9 rfl rfl)
theorem dX0_isThingSo_33 : decode cX0_isThingSo 33 = .ok (.bipush 99, 2) := dk_16 99 (dk_at dksX0_isThingSo_1 10 rfl rfl)
theorem dX0_isThingSo_35 : decode cX0_isThingSo 35 = .ok (.invokestatic 91, 3) := dk_184 0 91 (dk_at dksX0_isThingSo_1 12 rfl rfl)
theorem dX0_isThingSo_38 : decode cX0_isThingSo 38 = .ok (.ifCond .eq 7, 3) := dk_153 0 7 (dk_at dksX0_isThingSo_1 15 rfl rfl)
theorem dX0_isThingSo_41 : decode cX0_isThingSo 41 = .ok (.iconst 1, 1) := dk_4 (dk_at dksX0_isThingSo_1 18 rfl rfl)
theorem dX0_isThingSo_42 : decode cX0_isThingSo 42 = .ok (.goto 4, 3) := dk_167 0 4 (dk_at dksX0_isThingSo_1 19 rfl rfl)
theorem dX0_isThingSo_45 : decode cX0_isThingSo 45 = .ok (.iconst 0, 1) := dk_3 (dk_at dksX0_isThingSo_1 22 rfl rfl)
theorem dX0_isThingSo_46 : decode cX0_isThingSo 46 = .ok (.ireturn, 1) := dk_172 (dk_at dksX0_isThingSo_1 23 rfl rfl)
abbrev cX0_in : ByteArray := prog_1_method_2_code
def yX0_in : MethodName := ⟨RX0, "in", "(III)Z"⟩
def dkwX0_in_0 : List UInt8 := [26, 27, 161, 0, 12, 26, 28, 163, 0, 7, 4, 167, 0, 4, 3, 172]
abbrev dktX0_in_0 : List UInt8 := dkwX0_in_0 ++ []
theorem dksX0_in_0 : cX0_in.data.toList.drop 0 = dktX0_in_0 := by decide +kernel
theorem dX0_in_0 : decode cX0_in 0 = .ok (.iload_n 0, 1) := dk_26 (dk_at dksX0_in_0 0 rfl rfl)
theorem dX0_in_1 : decode cX0_in 1 = .ok (.iload_n 1, 1) := dk_27 (dk_at dksX0_in_0 1 rfl rfl)
theorem dX0_in_2 : decode cX0_in 2 = .ok (.if_icmp .lt 12, 3) := dk_161 0 12 (dk_at dksX0_in_0 2 rfl rfl)
theorem dX0_in_5 : decode cX0_in 5 = .ok (.iload_n 0, 1) := dk_26 (dk_at dksX0_in_0 5 rfl rfl)
theorem dX0_in_6 : decode cX0_in 6 = .ok (.iload_n 2, 1) := dk_28 (dk_at dksX0_in_0 6 rfl rfl)
theorem dX0_in_7 : decode cX0_in 7 = .ok (.if_icmp .gt 7, 3) := dk_163 0 7 (dk_at dksX0_in_0 7 rfl rfl)
theorem dX0_in_10 : decode cX0_in 10 = .ok (.iconst 1, 1) := dk_4 (dk_at dksX0_in_0 10 rfl rfl)
theorem dX0_in_11 : decode cX0_in 11 = .ok (.goto 4, 3) := dk_167 0 4 (dk_at dksX0_in_0 11 rfl rfl)
theorem dX0_in_14 : decode cX0_in 14 = .ok (.iconst 0, 1) := dk_3 (dk_at dksX0_in_0 14 rfl rfl)
theorem dX0_in_15 : decode cX0_in 15 = .ok (.ireturn, 1) := dk_172 (dk_at dksX0_in_0 15 rfl rfl)
abbrev cX0_things : ByteArray := prog_1_method_7_code
def yX0_things : MethodName := ⟨RX0, "things", "(III)I"⟩
def dkwX0_things_7 : List UInt8 := [167, 255, 130, 167, 0, 18, 58, 5, 16, 244, 172, 58, 5, 21, 4, 172, 58, 5, 21, 4, 172, 21, 4, 172]
abbrev dktX0_things_7 : List UInt8 := dkwX0_things_7 ++ []
def dkwX0_things_6 : List UInt8 := [21, 11, 183, 0, 102, 83, 42, 89, 180, 0, 87, 4, 96, 181, 0, 87, 132, 4, 1, 132, 6, 1]
abbrev dktX0_things_6 : List UInt8 := dkwX0_things_6 ++ dktX0_things_7
def dkwX0_things_5 : List UInt8 := [154, 0, 6, 21, 4, 172, 42, 180, 0, 11, 42, 180, 0, 87, 187, 0, 9, 89, 21, 8, 21, 9, 21, 10]
abbrev dktX0_things_5 : List UInt8 := dkwX0_things_5 ++ dktX0_things_6
def dkwX0_things_4 : List UInt8 := [25, 5, 21, 7, 6, 96, 182, 0, 111, 136, 54, 11, 21, 8, 21, 9, 21, 10, 21, 11, 184, 0, 98]
abbrev dktX0_things_4 : List UInt8 := dkwX0_things_4 ++ dktX0_things_5
def dkwX0_things_3 : List UInt8 := [25, 5, 21, 7, 4, 96, 182, 0, 111, 136, 54, 9, 25, 5, 21, 7, 5, 96, 182, 0, 111, 136, 54, 10]
abbrev dktX0_things_3 : List UInt8 := dkwX0_things_3 ++ dktX0_things_4
def dkwX0_things_2 : List UInt8 := [16, 6, 162, 0, 117, 28, 7, 21, 6, 104, 96, 54, 7, 25, 5, 21, 7, 182, 0, 111, 136, 54, 8]
abbrev dktX0_things_2 : List UInt8 := dkwX0_things_2 ++ dktX0_things_3
def dkwX0_things_1 : List UInt8 := [180, 0, 83, 27, 50, 192, 0, 109, 58, 5, 3, 54, 6, 21, 6, 29, 162, 0, 126, 42, 180, 0, 87]
abbrev dktX0_things_1 : List UInt8 := dkwX0_things_1 ++ dktX0_things_2
def dkwX0_things_0 : List UInt8 := [27, 184, 0, 105, 153, 0, 13, 29, 4, 16, 6, 184, 0, 91, 154, 0, 5, 2, 172, 3, 54, 4, 42]
abbrev dktX0_things_0 : List UInt8 := dkwX0_things_0 ++ dktX0_things_1
theorem dksX0_things_0 : cX0_things.data.toList.drop 0 = dktX0_things_0 := by decide +kernel
theorem dksX0_things_1 : cX0_things.data.toList.drop 23 = dktX0_things_1 := dk_seg dksX0_things_0 23 rfl rfl
theorem dksX0_things_2 : cX0_things.data.toList.drop 46 = dktX0_things_2 := dk_seg dksX0_things_1 23 rfl rfl
theorem dksX0_things_3 : cX0_things.data.toList.drop 69 = dktX0_things_3 := dk_seg dksX0_things_2 23 rfl rfl
theorem dksX0_things_4 : cX0_things.data.toList.drop 93 = dktX0_things_4 := dk_seg dksX0_things_3 24 rfl rfl
theorem dksX0_things_5 : cX0_things.data.toList.drop 116 = dktX0_things_5 := dk_seg dksX0_things_4 23 rfl rfl
theorem dksX0_things_6 : cX0_things.data.toList.drop 140 = dktX0_things_6 := dk_seg dksX0_things_5 24 rfl rfl
theorem dksX0_things_7 : cX0_things.data.toList.drop 162 = dktX0_things_7 := dk_seg dksX0_things_6 22 rfl rfl
theorem dX0_things_0 : decode cX0_things 0 = .ok (.iload_n 1, 1) := dk_27 (dk_at dksX0_things_0 0 rfl rfl)
theorem dX0_things_1 : decode cX0_things 1 = .ok (.invokestatic 105, 3) := dk_184 0 105 (dk_at dksX0_things_0 1 rfl rfl)
theorem dX0_things_4 : decode cX0_things 4 = .ok (.ifCond .eq 13, 3) := dk_153 0 13 (dk_at dksX0_things_0 4 rfl rfl)
theorem dX0_things_7 : decode cX0_things 7 = .ok (.iload_n 3, 1) := dk_29 (dk_at dksX0_things_0 7 rfl rfl)
theorem dX0_things_8 : decode cX0_things 8 = .ok (.iconst 1, 1) := dk_4 (dk_at dksX0_things_0 8 rfl rfl)
theorem dX0_things_9 : decode cX0_things 9 = .ok (.bipush 6, 2) := dk_16 6 (dk_at dksX0_things_0 9 rfl rfl)
theorem dX0_things_11 : decode cX0_things 11 = .ok (.invokestatic 91, 3) := dk_184 0 91 (dk_at dksX0_things_0 11 rfl rfl)
theorem dX0_things_14 : decode cX0_things 14 = .ok (.ifCond .ne 5, 3) := dk_154 0 5 (dk_at dksX0_things_0 14 rfl rfl)
theorem dX0_things_17 : decode cX0_things 17 = .ok (.iconst (-1), 1) := dk_2 (dk_at dksX0_things_0 17 rfl rfl)
theorem dX0_things_18 : decode cX0_things 18 = .ok (.ireturn, 1) := dk_172 (dk_at dksX0_things_0 18 rfl rfl)
theorem dX0_things_19 : decode cX0_things 19 = .ok (.iconst 0, 1) := dk_3 (dk_at dksX0_things_0 19 rfl rfl)
theorem dX0_things_20 : decode cX0_things 20 = .ok (.istore 4, 2) := dk_54 4 (dk_at dksX0_things_0 20 rfl rfl)
theorem dX0_things_22 : decode cX0_things 22 = .ok (.aload_n 0, 1) := dk_42 (dk_at dksX0_things_0 22 rfl rfl)
theorem dX0_things_23 : decode cX0_things 23 = .ok (.getfield 83, 3) := dk_180 0 83 (dk_at dksX0_things_1 0 rfl rfl)
theorem dX0_things_26 : decode cX0_things 26 = .ok (.iload_n 1, 1) := dk_27 (dk_at dksX0_things_1 3 rfl rfl)
theorem dX0_things_27 : decode cX0_things 27 = .ok (.aaload, 1) := dk_50 (dk_at dksX0_things_1 4 rfl rfl)
theorem dX0_things_28 : decode cX0_things 28 = .ok (.checkcast 109, 3) := dk_192 0 109 (dk_at dksX0_things_1 5 rfl rfl)
theorem dX0_things_31 : decode cX0_things 31 = .ok (.astore 5, 2) := dk_58 5 (dk_at dksX0_things_1 8 rfl rfl)
theorem dX0_things_33 : decode cX0_things 33 = .ok (.iconst 0, 1) := dk_3 (dk_at dksX0_things_1 10 rfl rfl)
theorem dX0_things_34 : decode cX0_things 34 = .ok (.istore 6, 2) := dk_54 6 (dk_at dksX0_things_1 11 rfl rfl)
theorem dX0_things_36 : decode cX0_things 36 = .ok (.iload 6, 2) := dk_21 6 (dk_at dksX0_things_1 13 rfl rfl)
theorem dX0_things_38 : decode cX0_things 38 = .ok (.iload_n 3, 1) := dk_29 (dk_at dksX0_things_1 15 rfl rfl)
theorem dX0_things_39 : decode cX0_things 39 = .ok (.if_icmp .ge 126, 3) := dk_162 0 126 (dk_at dksX0_things_1 16 rfl rfl)
theorem dX0_things_42 : decode cX0_things 42 = .ok (.aload_n 0, 1) := dk_42 (dk_at dksX0_things_1 19 rfl rfl)
theorem dX0_things_43 : decode cX0_things 43 = .ok (.getfield 87, 3) := dk_180 0 87 (dk_at dksX0_things_1 20 rfl rfl)
theorem dX0_things_46 : decode cX0_things 46 = .ok (.bipush 6, 2) := dk_16 6 (dk_at dksX0_things_2 0 rfl rfl)
theorem dX0_things_48 : decode cX0_things 48 = .ok (.if_icmp .ge 117, 3) := dk_162 0 117 (dk_at dksX0_things_2 2 rfl rfl)
theorem dX0_things_51 : decode cX0_things 51 = .ok (.iload_n 2, 1) := dk_28 (dk_at dksX0_things_2 5 rfl rfl)
theorem dX0_things_52 : decode cX0_things 52 = .ok (.iconst 4, 1) := dk_7 (dk_at dksX0_things_2 6 rfl rfl)
theorem dX0_things_53 : decode cX0_things 53 = .ok (.iload 6, 2) := dk_21 6 (dk_at dksX0_things_2 7 rfl rfl)
theorem dX0_things_55 : decode cX0_things 55 = .ok (.imul, 1) := dk_104 (dk_at dksX0_things_2 9 rfl rfl)
theorem dX0_things_56 : decode cX0_things 56 = .ok (.iadd, 1) := dk_96 (dk_at dksX0_things_2 10 rfl rfl)
theorem dX0_things_57 : decode cX0_things 57 = .ok (.istore 7, 2) := dk_54 7 (dk_at dksX0_things_2 11 rfl rfl)
theorem dX0_things_59 : decode cX0_things 59 = .ok (.aload 5, 2) := dk_25 5 (dk_at dksX0_things_2 13 rfl rfl)
theorem dX0_things_61 : decode cX0_things 61 = .ok (.iload 7, 2) := dk_21 7 (dk_at dksX0_things_2 15 rfl rfl)
theorem dX0_things_63 : decode cX0_things 63 = .ok (.invokevirtual 111, 3) := dk_182 0 111 (dk_at dksX0_things_2 17 rfl rfl)
theorem dX0_things_66 : decode cX0_things 66 = .ok (.l2i, 1) := dk_136 (dk_at dksX0_things_2 20 rfl rfl)
theorem dX0_things_67 : decode cX0_things 67 = .ok (.istore 8, 2) := dk_54 8 (dk_at dksX0_things_2 21 rfl rfl)
theorem dX0_things_69 : decode cX0_things 69 = .ok (.aload 5, 2) := dk_25 5 (dk_at dksX0_things_3 0 rfl rfl)
theorem dX0_things_71 : decode cX0_things 71 = .ok (.iload 7, 2) := dk_21 7 (dk_at dksX0_things_3 2 rfl rfl)
theorem dX0_things_73 : decode cX0_things 73 = .ok (.iconst 1, 1) := dk_4 (dk_at dksX0_things_3 4 rfl rfl)
theorem dX0_things_74 : decode cX0_things 74 = .ok (.iadd, 1) := dk_96 (dk_at dksX0_things_3 5 rfl rfl)
theorem dX0_things_75 : decode cX0_things 75 = .ok (.invokevirtual 111, 3) := dk_182 0 111 (dk_at dksX0_things_3 6 rfl rfl)
theorem dX0_things_78 : decode cX0_things 78 = .ok (.l2i, 1) := dk_136 (dk_at dksX0_things_3 9 rfl rfl)
theorem dX0_things_79 : decode cX0_things 79 = .ok (.istore 9, 2) := dk_54 9 (dk_at dksX0_things_3 10 rfl rfl)
theorem dX0_things_81 : decode cX0_things 81 = .ok (.aload 5, 2) := dk_25 5 (dk_at dksX0_things_3 12 rfl rfl)
theorem dX0_things_83 : decode cX0_things 83 = .ok (.iload 7, 2) := dk_21 7 (dk_at dksX0_things_3 14 rfl rfl)
theorem dX0_things_85 : decode cX0_things 85 = .ok (.iconst 2, 1) := dk_5 (dk_at dksX0_things_3 16 rfl rfl)
theorem dX0_things_86 : decode cX0_things 86 = .ok (.iadd, 1) := dk_96 (dk_at dksX0_things_3 17 rfl rfl)
theorem dX0_things_87 : decode cX0_things 87 = .ok (.invokevirtual 111, 3) := dk_182 0 111 (dk_at dksX0_things_3 18 rfl rfl)
theorem dX0_things_90 : decode cX0_things 90 = .ok (.l2i, 1) := dk_136 (dk_at dksX0_things_3 21 rfl rfl)
theorem dX0_things_91 : decode cX0_things 91 = .ok (.istore 10, 2) := dk_54 10 (dk_at dksX0_things_3 22 rfl rfl)
theorem dX0_things_93 : decode cX0_things 93 = .ok (.aload 5, 2) := dk_25 5 (dk_at dksX0_things_4 0 rfl rfl)
theorem dX0_things_95 : decode cX0_things 95 = .ok (.iload 7, 2) := dk_21 7 (dk_at dksX0_things_4 2 rfl rfl)
theorem dX0_things_97 : decode cX0_things 97 = .ok (.iconst 3, 1) := dk_6 (dk_at dksX0_things_4 4 rfl rfl)
theorem dX0_things_98 : decode cX0_things 98 = .ok (.iadd, 1) := dk_96 (dk_at dksX0_things_4 5 rfl rfl)
theorem dX0_things_99 : decode cX0_things 99 = .ok (.invokevirtual 111, 3) := dk_182 0 111 (dk_at dksX0_things_4 6 rfl rfl)
theorem dX0_things_102 : decode cX0_things 102 = .ok (.l2i, 1) := dk_136 (dk_at dksX0_things_4 9 rfl rfl)
theorem dX0_things_103 : decode cX0_things 103 = .ok (.istore 11, 2) := dk_54 11 (dk_at dksX0_things_4 10 rfl rfl)
theorem dX0_things_105 : decode cX0_things 105 = .ok (.iload 8, 2) := dk_21 8 (dk_at dksX0_things_4 12 rfl rfl)
theorem dX0_things_107 : decode cX0_things 107 = .ok (.iload 9, 2) := dk_21 9 (dk_at dksX0_things_4 14 rfl rfl)
theorem dX0_things_109 : decode cX0_things 109 = .ok (.iload 10, 2) := dk_21 10 (dk_at dksX0_things_4 16 rfl rfl)
theorem dX0_things_111 : decode cX0_things 111 = .ok (.iload 11, 2) := dk_21 11 (dk_at dksX0_things_4 18 rfl rfl)
theorem dX0_things_113 : decode cX0_things 113 = .ok (.invokestatic 98, 3) := dk_184 0 98 (dk_at dksX0_things_4 20 rfl rfl)
theorem dX0_things_116 : decode cX0_things 116 = .ok (.ifCond .ne 6, 3) := dk_154 0 6 (dk_at dksX0_things_5 0 rfl rfl)
theorem dX0_things_119 : decode cX0_things 119 = .ok (.iload 4, 2) := dk_21 4 (dk_at dksX0_things_5 3 rfl rfl)
theorem dX0_things_121 : decode cX0_things 121 = .ok (.ireturn, 1) := dk_172 (dk_at dksX0_things_5 5 rfl rfl)
theorem dX0_things_122 : decode cX0_things 122 = .ok (.aload_n 0, 1) := dk_42 (dk_at dksX0_things_5 6 rfl rfl)
theorem dX0_things_123 : decode cX0_things 123 = .ok (.getfield 11, 3) := dk_180 0 11 (dk_at dksX0_things_5 7 rfl rfl)
theorem dX0_things_126 : decode cX0_things 126 = .ok (.aload_n 0, 1) := dk_42 (dk_at dksX0_things_5 10 rfl rfl)
theorem dX0_things_127 : decode cX0_things 127 = .ok (.getfield 87, 3) := dk_180 0 87 (dk_at dksX0_things_5 11 rfl rfl)
theorem dX0_things_130 : decode cX0_things 130 = .ok (.new 9, 3) := dk_187 0 9 (dk_at dksX0_things_5 14 rfl rfl)
theorem dX0_things_133 : decode cX0_things 133 = .ok (.dup, 1) := dk_89 (dk_at dksX0_things_5 17 rfl rfl)
theorem dX0_things_134 : decode cX0_things 134 = .ok (.iload 8, 2) := dk_21 8 (dk_at dksX0_things_5 18 rfl rfl)
theorem dX0_things_136 : decode cX0_things 136 = .ok (.iload 9, 2) := dk_21 9 (dk_at dksX0_things_5 20 rfl rfl)
theorem dX0_things_138 : decode cX0_things 138 = .ok (.iload 10, 2) := dk_21 10 (dk_at dksX0_things_5 22 rfl rfl)
theorem dX0_things_140 : decode cX0_things 140 = .ok (.iload 11, 2) := dk_21 11 (dk_at dksX0_things_6 0 rfl rfl)
theorem dX0_things_142 : decode cX0_things 142 = .ok (.invokespecial 102, 3) := dk_183 0 102 (dk_at dksX0_things_6 2 rfl rfl)
theorem dX0_things_145 : decode cX0_things 145 = .ok (.aastore, 1) := dk_83 (dk_at dksX0_things_6 5 rfl rfl)
theorem dX0_things_146 : decode cX0_things 146 = .ok (.aload_n 0, 1) := dk_42 (dk_at dksX0_things_6 6 rfl rfl)
theorem dX0_things_147 : decode cX0_things 147 = .ok (.dup, 1) := dk_89 (dk_at dksX0_things_6 7 rfl rfl)
theorem dX0_things_148 : decode cX0_things 148 = .ok (.getfield 87, 3) := dk_180 0 87 (dk_at dksX0_things_6 8 rfl rfl)
theorem dX0_things_151 : decode cX0_things 151 = .ok (.iconst 1, 1) := dk_4 (dk_at dksX0_things_6 11 rfl rfl)
theorem dX0_things_152 : decode cX0_things 152 = .ok (.iadd, 1) := dk_96 (dk_at dksX0_things_6 12 rfl rfl)
theorem dX0_things_153 : decode cX0_things 153 = .ok (.putfield 87, 3) := dk_181 0 87 (dk_at dksX0_things_6 13 rfl rfl)
theorem dX0_things_156 : decode cX0_things 156 = .ok (.iinc 4 1, 3) := dk_132 4 1 (dk_at dksX0_things_6 16 rfl rfl)
theorem dX0_things_159 : decode cX0_things 159 = .ok (.iinc 6 1, 3) := dk_132 6 1 (dk_at dksX0_things_6 19 rfl rfl)
theorem dX0_things_162 : decode cX0_things 162 = .ok (.goto (-126), 3) := dk_167 255 130 (dk_at dksX0_things_7 0 rfl rfl)
theorem dX0_things_165 : decode cX0_things 165 = .ok (.goto 18, 3) := dk_167 0 18 (dk_at dksX0_things_7 3 rfl rfl)
theorem dX0_things_168 : decode cX0_things 168 = .ok (.astore 5, 2) := dk_58 5 (dk_at dksX0_things_7 6 rfl rfl)
theorem dX0_things_170 : decode cX0_things 170 = .ok (.bipush (-12), 2) := dk_16 244 (dk_at dksX0_things_7 8 rfl rfl)
theorem dX0_things_172 : decode cX0_things 172 = .ok (.ireturn, 1) := dk_172 (dk_at dksX0_things_7 10 rfl rfl)
theorem dX0_things_173 : decode cX0_things 173 = .ok (.astore 5, 2) := dk_58 5 (dk_at dksX0_things_7 11 rfl rfl)
theorem dX0_things_175 : decode cX0_things 175 = .ok (.iload 4, 2) := dk_21 4 (dk_at dksX0_things_7 13 rfl rfl)
theorem dX0_things_177 : decode cX0_things 177 = .ok (.ireturn, 1) := dk_172 (dk_at dksX0_things_7 15 rfl rfl)
theorem dX0_things_178 : decode cX0_things 178 = .ok (.astore 5, 2) := dk_58 5 (dk_at dksX0_things_7 16 rfl rfl)
theorem dX0_things_180 : decode cX0_things 180 = .ok (.iload 4, 2) := dk_21 4 (dk_at dksX0_things_7 18 rfl rfl)
theorem dX0_things_182 : decode cX0_things 182 = .ok (.ireturn, 1) := dk_172 (dk_at dksX0_things_7 20 rfl rfl)
theorem dX0_things_183 : decode cX0_things 183 = .ok (.iload 4, 2) := dk_21 4 (dk_at dksX0_things_7 21 rfl rfl)
theorem dX0_things_185 : decode cX0_things 185 = .ok (.ireturn, 1) := dk_172 (dk_at dksX0_things_7 23 rfl rfl)
abbrev cX0_isShelf : ByteArray := prog_1_method_61_code
def yX0_isShelf : MethodName := ⟨RX0, "isShelf", "(I)Z"⟩
def dkwX0_isShelf_0 : List UInt8 := [26, 3, 8, 184, 0, 91, 172]
abbrev dktX0_isShelf_0 : List UInt8 := dkwX0_isShelf_0 ++ []
theorem dksX0_isShelf_0 : cX0_isShelf.data.toList.drop 0 = dktX0_isShelf_0 := by decide +kernel
theorem dX0_isShelf_0 : decode cX0_isShelf 0 = .ok (.iload_n 0, 1) := dk_26 (dk_at dksX0_isShelf_0 0 rfl rfl)
theorem dX0_isShelf_1 : decode cX0_isShelf 1 = .ok (.iconst 0, 1) := dk_3 (dk_at dksX0_isShelf_0 1 rfl rfl)
theorem dX0_isShelf_2 : decode cX0_isShelf 2 = .ok (.iconst 5, 1) := dk_8 (dk_at dksX0_isShelf_0 2 rfl rfl)
theorem dX0_isShelf_3 : decode cX0_isShelf 3 = .ok (.invokestatic 91, 3) := dk_184 0 91 (dk_at dksX0_isShelf_0 3 rfl rfl)
theorem dX0_isShelf_6 : decode cX0_isShelf 6 = .ok (.ireturn, 1) := dk_172 (dk_at dksX0_isShelf_0 6 rfl rfl)
abbrev cX0_sort : ByteArray := prog_1_method_8_code
def yX0_sort : MethodName := ⟨RX0, "sort", "(III)I"⟩
def dkwX0_sort_4 : List UInt8 := [180, 0, 95, 4, 96, 181, 0, 95, 42, 180, 0, 95, 4, 100, 172]
abbrev dktX0_sort_4 : List UInt8 := dkwX0_sort_4 ++ []
def dkwX0_sort_3 : List UInt8 := [28, 16, 100, 108, 28, 16, 100, 112, 29, 16, 10, 108, 29, 16, 10, 112, 183, 0, 124, 83, 42, 89]
abbrev dktX0_sort_3 : List UInt8 := dkwX0_sort_3 ++ dktX0_sort_4
def dkwX0_sort_2 : List UInt8 := [42, 180, 0, 95, 8, 160, 0, 6, 16, 253, 172, 42, 180, 0, 17, 42, 180, 0, 95, 187, 0, 15, 89, 27]
abbrev dktX0_sort_2 : List UInt8 := dkwX0_sort_2 ++ dktX0_sort_3
def dkwX0_sort_1 : List UInt8 := [155, 0, 22, 29, 16, 10, 108, 6, 163, 0, 14, 29, 16, 10, 112, 42, 180, 0, 121, 161, 0, 5, 2, 172]
abbrev dktX0_sort_1 : List UInt8 := dkwX0_sort_1 ++ dktX0_sort_2
def dkwX0_sort_0 : List UInt8 := [27, 4, 16, 99, 184, 0, 91, 153, 0, 37, 28, 3, 17, 39, 15, 184, 0, 91, 153, 0, 26, 29]
abbrev dktX0_sort_0 : List UInt8 := dkwX0_sort_0 ++ dktX0_sort_1
theorem dksX0_sort_0 : cX0_sort.data.toList.drop 0 = dktX0_sort_0 := by decide +kernel
theorem dksX0_sort_1 : cX0_sort.data.toList.drop 22 = dktX0_sort_1 := dk_seg dksX0_sort_0 22 rfl rfl
theorem dksX0_sort_2 : cX0_sort.data.toList.drop 46 = dktX0_sort_2 := dk_seg dksX0_sort_1 24 rfl rfl
theorem dksX0_sort_3 : cX0_sort.data.toList.drop 70 = dktX0_sort_3 := dk_seg dksX0_sort_2 24 rfl rfl
theorem dksX0_sort_4 : cX0_sort.data.toList.drop 92 = dktX0_sort_4 := dk_seg dksX0_sort_3 22 rfl rfl
theorem dX0_sort_0 : decode cX0_sort 0 = .ok (.iload_n 1, 1) := dk_27 (dk_at dksX0_sort_0 0 rfl rfl)
theorem dX0_sort_1 : decode cX0_sort 1 = .ok (.iconst 1, 1) := dk_4 (dk_at dksX0_sort_0 1 rfl rfl)
theorem dX0_sort_2 : decode cX0_sort 2 = .ok (.bipush 99, 2) := dk_16 99 (dk_at dksX0_sort_0 2 rfl rfl)
theorem dX0_sort_4 : decode cX0_sort 4 = .ok (.invokestatic 91, 3) := dk_184 0 91 (dk_at dksX0_sort_0 4 rfl rfl)
theorem dX0_sort_7 : decode cX0_sort 7 = .ok (.ifCond .eq 37, 3) := dk_153 0 37 (dk_at dksX0_sort_0 7 rfl rfl)
theorem dX0_sort_10 : decode cX0_sort 10 = .ok (.iload_n 2, 1) := dk_28 (dk_at dksX0_sort_0 10 rfl rfl)
theorem dX0_sort_11 : decode cX0_sort 11 = .ok (.iconst 0, 1) := dk_3 (dk_at dksX0_sort_0 11 rfl rfl)
theorem dX0_sort_12 : decode cX0_sort 12 = .ok (.sipush 9999, 3) := dk_17 39 15 (dk_at dksX0_sort_0 12 rfl rfl)
theorem dX0_sort_15 : decode cX0_sort 15 = .ok (.invokestatic 91, 3) := dk_184 0 91 (dk_at dksX0_sort_0 15 rfl rfl)
theorem dX0_sort_18 : decode cX0_sort 18 = .ok (.ifCond .eq 26, 3) := dk_153 0 26 (dk_at dksX0_sort_0 18 rfl rfl)
theorem dX0_sort_21 : decode cX0_sort 21 = .ok (.iload_n 3, 1) := dk_29 (dk_at dksX0_sort_0 21 rfl rfl)
theorem dX0_sort_22 : decode cX0_sort 22 = .ok (.ifCond .lt 22, 3) := dk_155 0 22 (dk_at dksX0_sort_1 0 rfl rfl)
theorem dX0_sort_25 : decode cX0_sort 25 = .ok (.iload_n 3, 1) := dk_29 (dk_at dksX0_sort_1 3 rfl rfl)
theorem dX0_sort_26 : decode cX0_sort 26 = .ok (.bipush 10, 2) := dk_16 10 (dk_at dksX0_sort_1 4 rfl rfl)
theorem dX0_sort_28 : decode cX0_sort 28 = .ok (.idiv, 1) := dk_108 (dk_at dksX0_sort_1 6 rfl rfl)
theorem dX0_sort_29 : decode cX0_sort 29 = .ok (.iconst 3, 1) := dk_6 (dk_at dksX0_sort_1 7 rfl rfl)
theorem dX0_sort_30 : decode cX0_sort 30 = .ok (.if_icmp .gt 14, 3) := dk_163 0 14 (dk_at dksX0_sort_1 8 rfl rfl)
theorem dX0_sort_33 : decode cX0_sort 33 = .ok (.iload_n 3, 1) := dk_29 (dk_at dksX0_sort_1 11 rfl rfl)
theorem dX0_sort_34 : decode cX0_sort 34 = .ok (.bipush 10, 2) := dk_16 10 (dk_at dksX0_sort_1 12 rfl rfl)
theorem dX0_sort_36 : decode cX0_sort 36 = .ok (.irem, 1) := dk_112 (dk_at dksX0_sort_1 14 rfl rfl)
theorem dX0_sort_37 : decode cX0_sort 37 = .ok (.aload_n 0, 1) := dk_42 (dk_at dksX0_sort_1 15 rfl rfl)
theorem dX0_sort_38 : decode cX0_sort 38 = .ok (.getfield 121, 3) := dk_180 0 121 (dk_at dksX0_sort_1 16 rfl rfl)
theorem dX0_sort_41 : decode cX0_sort 41 = .ok (.if_icmp .lt 5, 3) := dk_161 0 5 (dk_at dksX0_sort_1 19 rfl rfl)
theorem dX0_sort_44 : decode cX0_sort 44 = .ok (.iconst (-1), 1) := dk_2 (dk_at dksX0_sort_1 22 rfl rfl)
theorem dX0_sort_45 : decode cX0_sort 45 = .ok (.ireturn, 1) := dk_172 (dk_at dksX0_sort_1 23 rfl rfl)
theorem dX0_sort_46 : decode cX0_sort 46 = .ok (.aload_n 0, 1) := dk_42 (dk_at dksX0_sort_2 0 rfl rfl)
theorem dX0_sort_47 : decode cX0_sort 47 = .ok (.getfield 95, 3) := dk_180 0 95 (dk_at dksX0_sort_2 1 rfl rfl)
theorem dX0_sort_50 : decode cX0_sort 50 = .ok (.iconst 5, 1) := dk_8 (dk_at dksX0_sort_2 4 rfl rfl)
theorem dX0_sort_51 : decode cX0_sort 51 = .ok (.if_icmp .ne 6, 3) := dk_160 0 6 (dk_at dksX0_sort_2 5 rfl rfl)
theorem dX0_sort_54 : decode cX0_sort 54 = .ok (.bipush (-3), 2) := dk_16 253 (dk_at dksX0_sort_2 8 rfl rfl)
theorem dX0_sort_56 : decode cX0_sort 56 = .ok (.ireturn, 1) := dk_172 (dk_at dksX0_sort_2 10 rfl rfl)
theorem dX0_sort_57 : decode cX0_sort 57 = .ok (.aload_n 0, 1) := dk_42 (dk_at dksX0_sort_2 11 rfl rfl)
theorem dX0_sort_58 : decode cX0_sort 58 = .ok (.getfield 17, 3) := dk_180 0 17 (dk_at dksX0_sort_2 12 rfl rfl)
theorem dX0_sort_61 : decode cX0_sort 61 = .ok (.aload_n 0, 1) := dk_42 (dk_at dksX0_sort_2 15 rfl rfl)
theorem dX0_sort_62 : decode cX0_sort 62 = .ok (.getfield 95, 3) := dk_180 0 95 (dk_at dksX0_sort_2 16 rfl rfl)
theorem dX0_sort_65 : decode cX0_sort 65 = .ok (.new 15, 3) := dk_187 0 15 (dk_at dksX0_sort_2 19 rfl rfl)
theorem dX0_sort_68 : decode cX0_sort 68 = .ok (.dup, 1) := dk_89 (dk_at dksX0_sort_2 22 rfl rfl)
theorem dX0_sort_69 : decode cX0_sort 69 = .ok (.iload_n 1, 1) := dk_27 (dk_at dksX0_sort_2 23 rfl rfl)
theorem dX0_sort_70 : decode cX0_sort 70 = .ok (.iload_n 2, 1) := dk_28 (dk_at dksX0_sort_3 0 rfl rfl)
theorem dX0_sort_71 : decode cX0_sort 71 = .ok (.bipush 100, 2) := dk_16 100 (dk_at dksX0_sort_3 1 rfl rfl)
theorem dX0_sort_73 : decode cX0_sort 73 = .ok (.idiv, 1) := dk_108 (dk_at dksX0_sort_3 3 rfl rfl)
theorem dX0_sort_74 : decode cX0_sort 74 = .ok (.iload_n 2, 1) := dk_28 (dk_at dksX0_sort_3 4 rfl rfl)
theorem dX0_sort_75 : decode cX0_sort 75 = .ok (.bipush 100, 2) := dk_16 100 (dk_at dksX0_sort_3 5 rfl rfl)
theorem dX0_sort_77 : decode cX0_sort 77 = .ok (.irem, 1) := dk_112 (dk_at dksX0_sort_3 7 rfl rfl)
theorem dX0_sort_78 : decode cX0_sort 78 = .ok (.iload_n 3, 1) := dk_29 (dk_at dksX0_sort_3 8 rfl rfl)
theorem dX0_sort_79 : decode cX0_sort 79 = .ok (.bipush 10, 2) := dk_16 10 (dk_at dksX0_sort_3 9 rfl rfl)
theorem dX0_sort_81 : decode cX0_sort 81 = .ok (.idiv, 1) := dk_108 (dk_at dksX0_sort_3 11 rfl rfl)
theorem dX0_sort_82 : decode cX0_sort 82 = .ok (.iload_n 3, 1) := dk_29 (dk_at dksX0_sort_3 12 rfl rfl)
theorem dX0_sort_83 : decode cX0_sort 83 = .ok (.bipush 10, 2) := dk_16 10 (dk_at dksX0_sort_3 13 rfl rfl)
theorem dX0_sort_85 : decode cX0_sort 85 = .ok (.irem, 1) := dk_112 (dk_at dksX0_sort_3 15 rfl rfl)
theorem dX0_sort_86 : decode cX0_sort 86 = .ok (.invokespecial 124, 3) := dk_183 0 124 (dk_at dksX0_sort_3 16 rfl rfl)
theorem dX0_sort_89 : decode cX0_sort 89 = .ok (.aastore, 1) := dk_83 (dk_at dksX0_sort_3 19 rfl rfl)
theorem dX0_sort_90 : decode cX0_sort 90 = .ok (.aload_n 0, 1) := dk_42 (dk_at dksX0_sort_3 20 rfl rfl)
theorem dX0_sort_91 : decode cX0_sort 91 = .ok (.dup, 1) := dk_89 (dk_at dksX0_sort_3 21 rfl rfl)
theorem dX0_sort_92 : decode cX0_sort 92 = .ok (.getfield 95, 3) := dk_180 0 95 (dk_at dksX0_sort_4 0 rfl rfl)
theorem dX0_sort_95 : decode cX0_sort 95 = .ok (.iconst 1, 1) := dk_4 (dk_at dksX0_sort_4 3 rfl rfl)
theorem dX0_sort_96 : decode cX0_sort 96 = .ok (.iadd, 1) := dk_96 (dk_at dksX0_sort_4 4 rfl rfl)
theorem dX0_sort_97 : decode cX0_sort 97 = .ok (.putfield 95, 3) := dk_181 0 95 (dk_at dksX0_sort_4 5 rfl rfl)
theorem dX0_sort_100 : decode cX0_sort 100 = .ok (.aload_n 0, 1) := dk_42 (dk_at dksX0_sort_4 8 rfl rfl)
theorem dX0_sort_101 : decode cX0_sort 101 = .ok (.getfield 95, 3) := dk_180 0 95 (dk_at dksX0_sort_4 9 rfl rfl)
theorem dX0_sort_104 : decode cX0_sort 104 = .ok (.iconst 1, 1) := dk_4 (dk_at dksX0_sort_4 12 rfl rfl)
theorem dX0_sort_105 : decode cX0_sort 105 = .ok (.isub, 1) := dk_100 (dk_at dksX0_sort_4 13 rfl rfl)
theorem dX0_sort_106 : decode cX0_sort 106 = .ok (.ireturn, 1) := dk_172 (dk_at dksX0_sort_4 14 rfl rfl)
abbrev cX0_of : ByteArray := prog_1_method_9_code
def yX0_of : MethodName := ⟨RX0, "of", "(II)I"⟩
def dkwX0_of_5 : List UInt8 := [45, 180, 0, 149, 172, 45, 180, 0, 152, 172, 45, 180, 0, 155, 172, 45, 180, 0, 157, 172, 2, 172]
abbrev dktX0_of_5 : List UInt8 := dkwX0_of_5 ++ []
def dkwX0_of_4 : List UInt8 := [170, 0, 0, 0, 0, 0, 51, 0, 0, 0, 0, 0, 0, 0, 3, 0, 0, 0, 31, 0, 0, 0, 36, 0, 0, 0, 41, 0, 0, 0, 46]
abbrev dktX0_of_4 : List UInt8 := dkwX0_of_4 ++ dktX0_of_5
def dkwX0_of_3 : List UInt8 := [172, 2, 172, 42, 27, 182, 0, 146, 154, 0, 5, 2, 172, 42, 180, 0, 11, 27, 50, 78, 28]
abbrev dktX0_of_3 : List UInt8 := dkwX0_of_3 ++ dktX0_of_4
def dkwX0_of_2 : List UInt8 := [45, 180, 0, 130, 172, 45, 180, 0, 133, 172, 45, 182, 0, 136, 172, 45, 180, 0, 140, 172, 45, 180, 0, 143]
abbrev dktX0_of_2 : List UInt8 := dkwX0_of_2 ++ dktX0_of_3
def dkwX0_of_1 : List UInt8 := [170, 0, 0, 0, 0, 0, 0, 61, 0, 0, 0, 10, 0, 0, 0, 14, 0, 0, 0, 36, 0, 0, 0, 41, 0, 0, 0, 46, 0, 0, 0, 51, 0, 0, 0, 56]
abbrev dktX0_of_1 : List UInt8 := dkwX0_of_1 ++ dktX0_of_2
def dkwX0_of_0 : List UInt8 := [28, 16, 10, 161, 0, 84, 42, 27, 182, 0, 127, 154, 0, 5, 2, 172, 42, 180, 0, 17, 27, 50, 78, 28]
abbrev dktX0_of_0 : List UInt8 := dkwX0_of_0 ++ dktX0_of_1
theorem dksX0_of_0 : cX0_of.data.toList.drop 0 = dktX0_of_0 := by decide +kernel
theorem dksX0_of_1 : cX0_of.data.toList.drop 24 = dktX0_of_1 := dk_seg dksX0_of_0 24 rfl rfl
theorem dksX0_of_2 : cX0_of.data.toList.drop 60 = dktX0_of_2 := dk_seg dksX0_of_1 36 rfl rfl
theorem dksX0_of_3 : cX0_of.data.toList.drop 84 = dktX0_of_3 := dk_seg dksX0_of_2 24 rfl rfl
theorem dksX0_of_4 : cX0_of.data.toList.drop 105 = dktX0_of_4 := dk_seg dksX0_of_3 21 rfl rfl
theorem dksX0_of_5 : cX0_of.data.toList.drop 136 = dktX0_of_5 := dk_seg dksX0_of_4 31 rfl rfl
theorem dX0_of_0 : decode cX0_of 0 = .ok (.iload_n 2, 1) := dk_28 (dk_at dksX0_of_0 0 rfl rfl)
theorem dX0_of_1 : decode cX0_of 1 = .ok (.bipush 10, 2) := dk_16 10 (dk_at dksX0_of_0 1 rfl rfl)
theorem dX0_of_3 : decode cX0_of 3 = .ok (.if_icmp .lt 84, 3) := dk_161 0 84 (dk_at dksX0_of_0 3 rfl rfl)
theorem dX0_of_6 : decode cX0_of 6 = .ok (.aload_n 0, 1) := dk_42 (dk_at dksX0_of_0 6 rfl rfl)
theorem dX0_of_7 : decode cX0_of 7 = .ok (.iload_n 1, 1) := dk_27 (dk_at dksX0_of_0 7 rfl rfl)
theorem dX0_of_8 : decode cX0_of 8 = .ok (.invokevirtual 127, 3) := dk_182 0 127 (dk_at dksX0_of_0 8 rfl rfl)
theorem dX0_of_11 : decode cX0_of 11 = .ok (.ifCond .ne 5, 3) := dk_154 0 5 (dk_at dksX0_of_0 11 rfl rfl)
theorem dX0_of_14 : decode cX0_of 14 = .ok (.iconst (-1), 1) := dk_2 (dk_at dksX0_of_0 14 rfl rfl)
theorem dX0_of_15 : decode cX0_of 15 = .ok (.ireturn, 1) := dk_172 (dk_at dksX0_of_0 15 rfl rfl)
theorem dX0_of_16 : decode cX0_of 16 = .ok (.aload_n 0, 1) := dk_42 (dk_at dksX0_of_0 16 rfl rfl)
theorem dX0_of_17 : decode cX0_of 17 = .ok (.getfield 17, 3) := dk_180 0 17 (dk_at dksX0_of_0 17 rfl rfl)
theorem dX0_of_20 : decode cX0_of 20 = .ok (.iload_n 1, 1) := dk_27 (dk_at dksX0_of_0 20 rfl rfl)
theorem dX0_of_21 : decode cX0_of 21 = .ok (.aaload, 1) := dk_50 (dk_at dksX0_of_0 21 rfl rfl)
theorem dX0_of_22 : decode cX0_of 22 = .ok (.astore_n 3, 1) := dk_78 (dk_at dksX0_of_0 22 rfl rfl)
theorem dX0_of_23 : decode cX0_of 23 = .ok (.iload_n 2, 1) := dk_28 (dk_at dksX0_of_0 23 rfl rfl)
theorem dX0_of_24 : decode cX0_of 24 = .ok (.tableswitch 61 10 14 #[36, 41, 46, 51, 56], 36) := by decide +kernel
theorem dX0_of_60 : decode cX0_of 60 = .ok (.aload_n 3, 1) := dk_45 (dk_at dksX0_of_2 0 rfl rfl)
theorem dX0_of_61 : decode cX0_of 61 = .ok (.getfield 130, 3) := dk_180 0 130 (dk_at dksX0_of_2 1 rfl rfl)
theorem dX0_of_64 : decode cX0_of 64 = .ok (.ireturn, 1) := dk_172 (dk_at dksX0_of_2 4 rfl rfl)
theorem dX0_of_65 : decode cX0_of 65 = .ok (.aload_n 3, 1) := dk_45 (dk_at dksX0_of_2 5 rfl rfl)
theorem dX0_of_66 : decode cX0_of 66 = .ok (.getfield 133, 3) := dk_180 0 133 (dk_at dksX0_of_2 6 rfl rfl)
theorem dX0_of_69 : decode cX0_of 69 = .ok (.ireturn, 1) := dk_172 (dk_at dksX0_of_2 9 rfl rfl)
theorem dX0_of_70 : decode cX0_of 70 = .ok (.aload_n 3, 1) := dk_45 (dk_at dksX0_of_2 10 rfl rfl)
theorem dX0_of_71 : decode cX0_of 71 = .ok (.invokevirtual 136, 3) := dk_182 0 136 (dk_at dksX0_of_2 11 rfl rfl)
theorem dX0_of_74 : decode cX0_of 74 = .ok (.ireturn, 1) := dk_172 (dk_at dksX0_of_2 14 rfl rfl)
theorem dX0_of_75 : decode cX0_of 75 = .ok (.aload_n 3, 1) := dk_45 (dk_at dksX0_of_2 15 rfl rfl)
theorem dX0_of_76 : decode cX0_of 76 = .ok (.getfield 140, 3) := dk_180 0 140 (dk_at dksX0_of_2 16 rfl rfl)
theorem dX0_of_79 : decode cX0_of 79 = .ok (.ireturn, 1) := dk_172 (dk_at dksX0_of_2 19 rfl rfl)
theorem dX0_of_80 : decode cX0_of 80 = .ok (.aload_n 3, 1) := dk_45 (dk_at dksX0_of_2 20 rfl rfl)
theorem dX0_of_81 : decode cX0_of 81 = .ok (.getfield 143, 3) := dk_180 0 143 (dk_at dksX0_of_2 21 rfl rfl)
theorem dX0_of_84 : decode cX0_of 84 = .ok (.ireturn, 1) := dk_172 (dk_at dksX0_of_3 0 rfl rfl)
theorem dX0_of_85 : decode cX0_of 85 = .ok (.iconst (-1), 1) := dk_2 (dk_at dksX0_of_3 1 rfl rfl)
theorem dX0_of_86 : decode cX0_of 86 = .ok (.ireturn, 1) := dk_172 (dk_at dksX0_of_3 2 rfl rfl)
theorem dX0_of_87 : decode cX0_of 87 = .ok (.aload_n 0, 1) := dk_42 (dk_at dksX0_of_3 3 rfl rfl)
theorem dX0_of_88 : decode cX0_of 88 = .ok (.iload_n 1, 1) := dk_27 (dk_at dksX0_of_3 4 rfl rfl)
theorem dX0_of_89 : decode cX0_of 89 = .ok (.invokevirtual 146, 3) := dk_182 0 146 (dk_at dksX0_of_3 5 rfl rfl)
theorem dX0_of_92 : decode cX0_of 92 = .ok (.ifCond .ne 5, 3) := dk_154 0 5 (dk_at dksX0_of_3 8 rfl rfl)
theorem dX0_of_95 : decode cX0_of 95 = .ok (.iconst (-1), 1) := dk_2 (dk_at dksX0_of_3 11 rfl rfl)
theorem dX0_of_96 : decode cX0_of 96 = .ok (.ireturn, 1) := dk_172 (dk_at dksX0_of_3 12 rfl rfl)
theorem dX0_of_97 : decode cX0_of 97 = .ok (.aload_n 0, 1) := dk_42 (dk_at dksX0_of_3 13 rfl rfl)
theorem dX0_of_98 : decode cX0_of 98 = .ok (.getfield 11, 3) := dk_180 0 11 (dk_at dksX0_of_3 14 rfl rfl)
theorem dX0_of_101 : decode cX0_of 101 = .ok (.iload_n 1, 1) := dk_27 (dk_at dksX0_of_3 17 rfl rfl)
theorem dX0_of_102 : decode cX0_of 102 = .ok (.aaload, 1) := dk_50 (dk_at dksX0_of_3 18 rfl rfl)
theorem dX0_of_103 : decode cX0_of 103 = .ok (.astore_n 3, 1) := dk_78 (dk_at dksX0_of_3 19 rfl rfl)
theorem dX0_of_104 : decode cX0_of 104 = .ok (.iload_n 2, 1) := dk_28 (dk_at dksX0_of_3 20 rfl rfl)
theorem dX0_of_105 : decode cX0_of 105 = .ok (.tableswitch 51 0 3 #[31, 36, 41, 46], 31) := by decide +kernel
theorem dX0_of_136 : decode cX0_of 136 = .ok (.aload_n 3, 1) := dk_45 (dk_at dksX0_of_5 0 rfl rfl)
theorem dX0_of_137 : decode cX0_of 137 = .ok (.getfield 149, 3) := dk_180 0 149 (dk_at dksX0_of_5 1 rfl rfl)
theorem dX0_of_140 : decode cX0_of 140 = .ok (.ireturn, 1) := dk_172 (dk_at dksX0_of_5 4 rfl rfl)
theorem dX0_of_141 : decode cX0_of 141 = .ok (.aload_n 3, 1) := dk_45 (dk_at dksX0_of_5 5 rfl rfl)
theorem dX0_of_142 : decode cX0_of 142 = .ok (.getfield 152, 3) := dk_180 0 152 (dk_at dksX0_of_5 6 rfl rfl)
theorem dX0_of_145 : decode cX0_of 145 = .ok (.ireturn, 1) := dk_172 (dk_at dksX0_of_5 9 rfl rfl)
theorem dX0_of_146 : decode cX0_of 146 = .ok (.aload_n 3, 1) := dk_45 (dk_at dksX0_of_5 10 rfl rfl)
theorem dX0_of_147 : decode cX0_of 147 = .ok (.getfield 155, 3) := dk_180 0 155 (dk_at dksX0_of_5 11 rfl rfl)
theorem dX0_of_150 : decode cX0_of 150 = .ok (.ireturn, 1) := dk_172 (dk_at dksX0_of_5 14 rfl rfl)
theorem dX0_of_151 : decode cX0_of 151 = .ok (.aload_n 3, 1) := dk_45 (dk_at dksX0_of_5 15 rfl rfl)
theorem dX0_of_152 : decode cX0_of 152 = .ok (.getfield 157, 3) := dk_180 0 157 (dk_at dksX0_of_5 16 rfl rfl)
theorem dX0_of_155 : decode cX0_of 155 = .ok (.ireturn, 1) := dk_172 (dk_at dksX0_of_5 19 rfl rfl)
theorem dX0_of_156 : decode cX0_of 156 = .ok (.iconst (-1), 1) := dk_2 (dk_at dksX0_of_5 20 rfl rfl)
theorem dX0_of_157 : decode cX0_of 157 = .ok (.ireturn, 1) := dk_172 (dk_at dksX0_of_5 21 rfl rfl)
abbrev cX0_isSort : ByteArray := prog_1_method_4_code
def yX0_isSort : MethodName := ⟨RX0, "isSort", "(I)Z"⟩
def dkwX0_isSort_0 : List UInt8 := [27, 3, 42, 180, 0, 95, 4, 100, 184, 0, 91, 172]
abbrev dktX0_isSort_0 : List UInt8 := dkwX0_isSort_0 ++ []
theorem dksX0_isSort_0 : cX0_isSort.data.toList.drop 0 = dktX0_isSort_0 := by decide +kernel
theorem dX0_isSort_0 : decode cX0_isSort 0 = .ok (.iload_n 1, 1) := dk_27 (dk_at dksX0_isSort_0 0 rfl rfl)
theorem dX0_isSort_1 : decode cX0_isSort 1 = .ok (.iconst 0, 1) := dk_3 (dk_at dksX0_isSort_0 1 rfl rfl)
theorem dX0_isSort_2 : decode cX0_isSort 2 = .ok (.aload_n 0, 1) := dk_42 (dk_at dksX0_isSort_0 2 rfl rfl)
theorem dX0_isSort_3 : decode cX0_isSort 3 = .ok (.getfield 95, 3) := dk_180 0 95 (dk_at dksX0_isSort_0 3 rfl rfl)
theorem dX0_isSort_6 : decode cX0_isSort 6 = .ok (.iconst 1, 1) := dk_4 (dk_at dksX0_isSort_0 6 rfl rfl)
theorem dX0_isSort_7 : decode cX0_isSort 7 = .ok (.isub, 1) := dk_100 (dk_at dksX0_isSort_0 7 rfl rfl)
theorem dX0_isSort_8 : decode cX0_isSort 8 = .ok (.invokestatic 91, 3) := dk_184 0 91 (dk_at dksX0_isSort_0 8 rfl rfl)
theorem dX0_isSort_11 : decode cX0_isSort 11 = .ok (.ireturn, 1) := dk_172 (dk_at dksX0_isSort_0 11 rfl rfl)
abbrev cX0_isThing : ByteArray := prog_1_method_3_code
def yX0_isThing : MethodName := ⟨RX0, "isThing", "(I)Z"⟩
def dkwX0_isThing_0 : List UInt8 := [27, 3, 42, 180, 0, 87, 4, 100, 184, 0, 91, 172]
abbrev dktX0_isThing_0 : List UInt8 := dkwX0_isThing_0 ++ []
theorem dksX0_isThing_0 : cX0_isThing.data.toList.drop 0 = dktX0_isThing_0 := by decide +kernel
theorem dX0_isThing_0 : decode cX0_isThing 0 = .ok (.iload_n 1, 1) := dk_27 (dk_at dksX0_isThing_0 0 rfl rfl)
theorem dX0_isThing_1 : decode cX0_isThing 1 = .ok (.iconst 0, 1) := dk_3 (dk_at dksX0_isThing_0 1 rfl rfl)
theorem dX0_isThing_2 : decode cX0_isThing 2 = .ok (.aload_n 0, 1) := dk_42 (dk_at dksX0_isThing_0 2 rfl rfl)
theorem dX0_isThing_3 : decode cX0_isThing 3 = .ok (.getfield 87, 3) := dk_180 0 87 (dk_at dksX0_isThing_0 3 rfl rfl)
theorem dX0_isThing_6 : decode cX0_isThing 6 = .ok (.iconst 1, 1) := dk_4 (dk_at dksX0_isThing_0 6 rfl rfl)
theorem dX0_isThing_7 : decode cX0_isThing 7 = .ok (.isub, 1) := dk_100 (dk_at dksX0_isThing_0 7 rfl rfl)
theorem dX0_isThing_8 : decode cX0_isThing 8 = .ok (.invokestatic 91, 3) := dk_184 0 91 (dk_at dksX0_isThing_0 8 rfl rfl)
theorem dX0_isThing_11 : decode cX0_isThing 11 = .ok (.ireturn, 1) := dk_172 (dk_at dksX0_isThing_0 11 rfl rfl)
abbrev cX0_undo : ByteArray := prog_1_method_13_code
def yX0_undo : MethodName := ⟨RX0, "undo", "()I"⟩
def dkwX0_undo_3 : List UInt8 := [182, 0, 174, 42, 180, 0, 170, 172]
abbrev dktX0_undo_3 : List UInt8 := dkwX0_undo_3 ++ []
def dkwX0_undo_2 : List UInt8 := [180, 0, 23, 42, 180, 0, 170, 50, 180, 0, 181, 42, 180, 0, 23, 42, 180, 0, 170, 50, 180, 0, 183]
abbrev dktX0_undo_2 : List UInt8 := dkwX0_undo_2 ++ dktX0_undo_3
def dkwX0_undo_1 : List UInt8 := [180, 0, 167, 4, 96, 181, 0, 167, 42, 42, 180, 0, 23, 42, 180, 0, 170, 50, 180, 0, 178, 42]
abbrev dktX0_undo_1 : List UInt8 := dkwX0_undo_1 ++ dktX0_undo_2
def dkwX0_undo_0 : List UInt8 := [42, 180, 0, 170, 154, 0, 6, 16, 251, 172, 42, 89, 180, 0, 170, 4, 100, 181, 0, 170, 42, 89]
abbrev dktX0_undo_0 : List UInt8 := dkwX0_undo_0 ++ dktX0_undo_1
theorem dksX0_undo_0 : cX0_undo.data.toList.drop 0 = dktX0_undo_0 := by decide +kernel
theorem dksX0_undo_1 : cX0_undo.data.toList.drop 22 = dktX0_undo_1 := dk_seg dksX0_undo_0 22 rfl rfl
theorem dksX0_undo_2 : cX0_undo.data.toList.drop 44 = dktX0_undo_2 := dk_seg dksX0_undo_1 22 rfl rfl
theorem dksX0_undo_3 : cX0_undo.data.toList.drop 67 = dktX0_undo_3 := dk_seg dksX0_undo_2 23 rfl rfl
theorem dX0_undo_0 : decode cX0_undo 0 = .ok (.aload_n 0, 1) := dk_42 (dk_at dksX0_undo_0 0 rfl rfl)
theorem dX0_undo_1 : decode cX0_undo 1 = .ok (.getfield 170, 3) := dk_180 0 170 (dk_at dksX0_undo_0 1 rfl rfl)
theorem dX0_undo_4 : decode cX0_undo 4 = .ok (.ifCond .ne 6, 3) := dk_154 0 6 (dk_at dksX0_undo_0 4 rfl rfl)
theorem dX0_undo_7 : decode cX0_undo 7 = .ok (.bipush (-5), 2) := dk_16 251 (dk_at dksX0_undo_0 7 rfl rfl)
theorem dX0_undo_9 : decode cX0_undo 9 = .ok (.ireturn, 1) := dk_172 (dk_at dksX0_undo_0 9 rfl rfl)
theorem dX0_undo_10 : decode cX0_undo 10 = .ok (.aload_n 0, 1) := dk_42 (dk_at dksX0_undo_0 10 rfl rfl)
theorem dX0_undo_11 : decode cX0_undo 11 = .ok (.dup, 1) := dk_89 (dk_at dksX0_undo_0 11 rfl rfl)
theorem dX0_undo_12 : decode cX0_undo 12 = .ok (.getfield 170, 3) := dk_180 0 170 (dk_at dksX0_undo_0 12 rfl rfl)
theorem dX0_undo_15 : decode cX0_undo 15 = .ok (.iconst 1, 1) := dk_4 (dk_at dksX0_undo_0 15 rfl rfl)
theorem dX0_undo_16 : decode cX0_undo 16 = .ok (.isub, 1) := dk_100 (dk_at dksX0_undo_0 16 rfl rfl)
theorem dX0_undo_17 : decode cX0_undo 17 = .ok (.putfield 170, 3) := dk_181 0 170 (dk_at dksX0_undo_0 17 rfl rfl)
theorem dX0_undo_20 : decode cX0_undo 20 = .ok (.aload_n 0, 1) := dk_42 (dk_at dksX0_undo_0 20 rfl rfl)
theorem dX0_undo_21 : decode cX0_undo 21 = .ok (.dup, 1) := dk_89 (dk_at dksX0_undo_0 21 rfl rfl)
theorem dX0_undo_22 : decode cX0_undo 22 = .ok (.getfield 167, 3) := dk_180 0 167 (dk_at dksX0_undo_1 0 rfl rfl)
theorem dX0_undo_25 : decode cX0_undo 25 = .ok (.iconst 1, 1) := dk_4 (dk_at dksX0_undo_1 3 rfl rfl)
theorem dX0_undo_26 : decode cX0_undo 26 = .ok (.iadd, 1) := dk_96 (dk_at dksX0_undo_1 4 rfl rfl)
theorem dX0_undo_27 : decode cX0_undo 27 = .ok (.putfield 167, 3) := dk_181 0 167 (dk_at dksX0_undo_1 5 rfl rfl)
theorem dX0_undo_30 : decode cX0_undo 30 = .ok (.aload_n 0, 1) := dk_42 (dk_at dksX0_undo_1 8 rfl rfl)
theorem dX0_undo_31 : decode cX0_undo 31 = .ok (.aload_n 0, 1) := dk_42 (dk_at dksX0_undo_1 9 rfl rfl)
theorem dX0_undo_32 : decode cX0_undo 32 = .ok (.getfield 23, 3) := dk_180 0 23 (dk_at dksX0_undo_1 10 rfl rfl)
theorem dX0_undo_35 : decode cX0_undo 35 = .ok (.aload_n 0, 1) := dk_42 (dk_at dksX0_undo_1 13 rfl rfl)
theorem dX0_undo_36 : decode cX0_undo 36 = .ok (.getfield 170, 3) := dk_180 0 170 (dk_at dksX0_undo_1 14 rfl rfl)
theorem dX0_undo_39 : decode cX0_undo 39 = .ok (.aaload, 1) := dk_50 (dk_at dksX0_undo_1 17 rfl rfl)
theorem dX0_undo_40 : decode cX0_undo 40 = .ok (.getfield 178, 3) := dk_180 0 178 (dk_at dksX0_undo_1 18 rfl rfl)
theorem dX0_undo_43 : decode cX0_undo 43 = .ok (.aload_n 0, 1) := dk_42 (dk_at dksX0_undo_1 21 rfl rfl)
theorem dX0_undo_44 : decode cX0_undo 44 = .ok (.getfield 23, 3) := dk_180 0 23 (dk_at dksX0_undo_2 0 rfl rfl)
theorem dX0_undo_47 : decode cX0_undo 47 = .ok (.aload_n 0, 1) := dk_42 (dk_at dksX0_undo_2 3 rfl rfl)
theorem dX0_undo_48 : decode cX0_undo 48 = .ok (.getfield 170, 3) := dk_180 0 170 (dk_at dksX0_undo_2 4 rfl rfl)
theorem dX0_undo_51 : decode cX0_undo 51 = .ok (.aaload, 1) := dk_50 (dk_at dksX0_undo_2 7 rfl rfl)
theorem dX0_undo_52 : decode cX0_undo 52 = .ok (.getfield 181, 3) := dk_180 0 181 (dk_at dksX0_undo_2 8 rfl rfl)
theorem dX0_undo_55 : decode cX0_undo 55 = .ok (.aload_n 0, 1) := dk_42 (dk_at dksX0_undo_2 11 rfl rfl)
theorem dX0_undo_56 : decode cX0_undo 56 = .ok (.getfield 23, 3) := dk_180 0 23 (dk_at dksX0_undo_2 12 rfl rfl)
theorem dX0_undo_59 : decode cX0_undo 59 = .ok (.aload_n 0, 1) := dk_42 (dk_at dksX0_undo_2 15 rfl rfl)
theorem dX0_undo_60 : decode cX0_undo 60 = .ok (.getfield 170, 3) := dk_180 0 170 (dk_at dksX0_undo_2 16 rfl rfl)
theorem dX0_undo_63 : decode cX0_undo 63 = .ok (.aaload, 1) := dk_50 (dk_at dksX0_undo_2 19 rfl rfl)
theorem dX0_undo_64 : decode cX0_undo 64 = .ok (.getfield 183, 3) := dk_180 0 183 (dk_at dksX0_undo_2 20 rfl rfl)
theorem dX0_undo_67 : decode cX0_undo 67 = .ok (.invokevirtual 174, 3) := dk_182 0 174 (dk_at dksX0_undo_3 0 rfl rfl)
theorem dX0_undo_70 : decode cX0_undo 70 = .ok (.aload_n 0, 1) := dk_42 (dk_at dksX0_undo_3 3 rfl rfl)
theorem dX0_undo_71 : decode cX0_undo 71 = .ok (.getfield 170, 3) := dk_180 0 170 (dk_at dksX0_undo_3 4 rfl rfl)
theorem dX0_undo_74 : decode cX0_undo 74 = .ok (.ireturn, 1) := dk_172 (dk_at dksX0_undo_3 7 rfl rfl)
abbrev cX0_setTo : ByteArray := prog_1_method_11_code
def yX0_setTo : MethodName := ⟨RX0, "setTo", "(III)V"⟩
def dkwX0_setTo_4 : List UInt8 := [181, 0, 133, 167, 0, 13, 42, 180, 0, 17, 28, 50, 29, 181, 0, 160, 177]
abbrev dktX0_setTo_4 : List UInt8 := dkwX0_setTo_4 ++ []
def dkwX0_setTo_3 : List UInt8 := [167, 0, 39, 42, 180, 0, 11, 28, 50, 29, 181, 0, 155, 167, 0, 26, 42, 180, 0, 17, 28, 50, 29]
abbrev dktX0_setTo_3 : List UInt8 := dkwX0_setTo_3 ++ dktX0_setTo_4
def dkwX0_setTo_2 : List UInt8 := [42, 180, 0, 11, 28, 50, 29, 181, 0, 149, 167, 0, 52, 42, 180, 0, 11, 28, 50, 29, 181, 0, 152]
abbrev dktX0_setTo_2 : List UInt8 := dkwX0_setTo_2 ++ dktX0_setTo_3
def dkwX0_setTo_1 : List UInt8 := [170, 0, 0, 0, 0, 0, 83, 0, 0, 0, 0, 0, 0, 0, 3, 0, 0, 0, 31, 0, 0, 0, 44, 0, 0, 0, 57, 0, 0, 0, 70]
abbrev dktX0_setTo_1 : List UInt8 := dkwX0_setTo_1 ++ dktX0_setTo_2
def dkwX0_setTo_0 : List UInt8 := [27]
abbrev dktX0_setTo_0 : List UInt8 := dkwX0_setTo_0 ++ dktX0_setTo_1
theorem dksX0_setTo_0 : cX0_setTo.data.toList.drop 0 = dktX0_setTo_0 := by decide +kernel
theorem dksX0_setTo_1 : cX0_setTo.data.toList.drop 1 = dktX0_setTo_1 := dk_seg dksX0_setTo_0 1 rfl rfl
theorem dksX0_setTo_2 : cX0_setTo.data.toList.drop 32 = dktX0_setTo_2 := dk_seg dksX0_setTo_1 31 rfl rfl
theorem dksX0_setTo_3 : cX0_setTo.data.toList.drop 55 = dktX0_setTo_3 := dk_seg dksX0_setTo_2 23 rfl rfl
theorem dksX0_setTo_4 : cX0_setTo.data.toList.drop 78 = dktX0_setTo_4 := dk_seg dksX0_setTo_3 23 rfl rfl
theorem dX0_setTo_0 : decode cX0_setTo 0 = .ok (.iload_n 1, 1) := dk_27 (dk_at dksX0_setTo_0 0 rfl rfl)
theorem dX0_setTo_1 : decode cX0_setTo 1 = .ok (.tableswitch 83 0 3 #[31, 44, 57, 70], 31) := by decide +kernel
theorem dX0_setTo_32 : decode cX0_setTo 32 = .ok (.aload_n 0, 1) := dk_42 (dk_at dksX0_setTo_2 0 rfl rfl)
theorem dX0_setTo_33 : decode cX0_setTo 33 = .ok (.getfield 11, 3) := dk_180 0 11 (dk_at dksX0_setTo_2 1 rfl rfl)
theorem dX0_setTo_36 : decode cX0_setTo 36 = .ok (.iload_n 2, 1) := dk_28 (dk_at dksX0_setTo_2 4 rfl rfl)
theorem dX0_setTo_37 : decode cX0_setTo 37 = .ok (.aaload, 1) := dk_50 (dk_at dksX0_setTo_2 5 rfl rfl)
theorem dX0_setTo_38 : decode cX0_setTo 38 = .ok (.iload_n 3, 1) := dk_29 (dk_at dksX0_setTo_2 6 rfl rfl)
theorem dX0_setTo_39 : decode cX0_setTo 39 = .ok (.putfield 149, 3) := dk_181 0 149 (dk_at dksX0_setTo_2 7 rfl rfl)
theorem dX0_setTo_42 : decode cX0_setTo 42 = .ok (.goto 52, 3) := dk_167 0 52 (dk_at dksX0_setTo_2 10 rfl rfl)
theorem dX0_setTo_45 : decode cX0_setTo 45 = .ok (.aload_n 0, 1) := dk_42 (dk_at dksX0_setTo_2 13 rfl rfl)
theorem dX0_setTo_46 : decode cX0_setTo 46 = .ok (.getfield 11, 3) := dk_180 0 11 (dk_at dksX0_setTo_2 14 rfl rfl)
theorem dX0_setTo_49 : decode cX0_setTo 49 = .ok (.iload_n 2, 1) := dk_28 (dk_at dksX0_setTo_2 17 rfl rfl)
theorem dX0_setTo_50 : decode cX0_setTo 50 = .ok (.aaload, 1) := dk_50 (dk_at dksX0_setTo_2 18 rfl rfl)
theorem dX0_setTo_51 : decode cX0_setTo 51 = .ok (.iload_n 3, 1) := dk_29 (dk_at dksX0_setTo_2 19 rfl rfl)
theorem dX0_setTo_52 : decode cX0_setTo 52 = .ok (.putfield 152, 3) := dk_181 0 152 (dk_at dksX0_setTo_2 20 rfl rfl)
theorem dX0_setTo_55 : decode cX0_setTo 55 = .ok (.goto 39, 3) := dk_167 0 39 (dk_at dksX0_setTo_3 0 rfl rfl)
theorem dX0_setTo_58 : decode cX0_setTo 58 = .ok (.aload_n 0, 1) := dk_42 (dk_at dksX0_setTo_3 3 rfl rfl)
theorem dX0_setTo_59 : decode cX0_setTo 59 = .ok (.getfield 11, 3) := dk_180 0 11 (dk_at dksX0_setTo_3 4 rfl rfl)
theorem dX0_setTo_62 : decode cX0_setTo 62 = .ok (.iload_n 2, 1) := dk_28 (dk_at dksX0_setTo_3 7 rfl rfl)
theorem dX0_setTo_63 : decode cX0_setTo 63 = .ok (.aaload, 1) := dk_50 (dk_at dksX0_setTo_3 8 rfl rfl)
theorem dX0_setTo_64 : decode cX0_setTo 64 = .ok (.iload_n 3, 1) := dk_29 (dk_at dksX0_setTo_3 9 rfl rfl)
theorem dX0_setTo_65 : decode cX0_setTo 65 = .ok (.putfield 155, 3) := dk_181 0 155 (dk_at dksX0_setTo_3 10 rfl rfl)
theorem dX0_setTo_68 : decode cX0_setTo 68 = .ok (.goto 26, 3) := dk_167 0 26 (dk_at dksX0_setTo_3 13 rfl rfl)
theorem dX0_setTo_71 : decode cX0_setTo 71 = .ok (.aload_n 0, 1) := dk_42 (dk_at dksX0_setTo_3 16 rfl rfl)
theorem dX0_setTo_72 : decode cX0_setTo 72 = .ok (.getfield 17, 3) := dk_180 0 17 (dk_at dksX0_setTo_3 17 rfl rfl)
theorem dX0_setTo_75 : decode cX0_setTo 75 = .ok (.iload_n 2, 1) := dk_28 (dk_at dksX0_setTo_3 20 rfl rfl)
theorem dX0_setTo_76 : decode cX0_setTo 76 = .ok (.aaload, 1) := dk_50 (dk_at dksX0_setTo_3 21 rfl rfl)
theorem dX0_setTo_77 : decode cX0_setTo 77 = .ok (.iload_n 3, 1) := dk_29 (dk_at dksX0_setTo_3 22 rfl rfl)
theorem dX0_setTo_78 : decode cX0_setTo 78 = .ok (.putfield 133, 3) := dk_181 0 133 (dk_at dksX0_setTo_4 0 rfl rfl)
theorem dX0_setTo_81 : decode cX0_setTo 81 = .ok (.goto 13, 3) := dk_167 0 13 (dk_at dksX0_setTo_4 3 rfl rfl)
theorem dX0_setTo_84 : decode cX0_setTo 84 = .ok (.aload_n 0, 1) := dk_42 (dk_at dksX0_setTo_4 6 rfl rfl)
theorem dX0_setTo_85 : decode cX0_setTo 85 = .ok (.getfield 17, 3) := dk_180 0 17 (dk_at dksX0_setTo_4 7 rfl rfl)
theorem dX0_setTo_88 : decode cX0_setTo 88 = .ok (.iload_n 2, 1) := dk_28 (dk_at dksX0_setTo_4 10 rfl rfl)
theorem dX0_setTo_89 : decode cX0_setTo 89 = .ok (.aaload, 1) := dk_50 (dk_at dksX0_setTo_4 11 rfl rfl)
theorem dX0_setTo_90 : decode cX0_setTo 90 = .ok (.iload_n 3, 1) := dk_29 (dk_at dksX0_setTo_4 12 rfl rfl)
theorem dX0_setTo_91 : decode cX0_setTo 91 = .ok (.putfield 160, 3) := dk_181 0 160 (dk_at dksX0_setTo_4 13 rfl rfl)
theorem dX0_setTo_94 : decode cX0_setTo 94 = .ok (.return_, 1) := dk_177 (dk_at dksX0_setTo_4 16 rfl rfl)
abbrev cX0_redo : ByteArray := prog_1_method_14_code
def yX0_redo : MethodName := ⟨RX0, "redo", "()I"⟩
def dkwX0_redo_3 : List UInt8 := [180, 0, 167, 172]
abbrev dktX0_redo_3 : List UInt8 := dkwX0_redo_3 ++ []
def dkwX0_redo_2 : List UInt8 := [182, 0, 174, 42, 89, 180, 0, 170, 4, 96, 181, 0, 170, 42, 89, 180, 0, 167, 4, 100, 181, 0, 167, 42]
abbrev dktX0_redo_2 : List UInt8 := dkwX0_redo_2 ++ dktX0_redo_3
def dkwX0_redo_1 : List UInt8 := [180, 0, 23, 42, 180, 0, 170, 50, 180, 0, 181, 42, 180, 0, 23, 42, 180, 0, 170, 50, 180, 0, 186]
abbrev dktX0_redo_1 : List UInt8 := dkwX0_redo_1 ++ dktX0_redo_2
def dkwX0_redo_0 : List UInt8 := [42, 180, 0, 167, 154, 0, 6, 16, 251, 172, 42, 42, 180, 0, 23, 42, 180, 0, 170, 50, 180, 0, 178, 42]
abbrev dktX0_redo_0 : List UInt8 := dkwX0_redo_0 ++ dktX0_redo_1
theorem dksX0_redo_0 : cX0_redo.data.toList.drop 0 = dktX0_redo_0 := by decide +kernel
theorem dksX0_redo_1 : cX0_redo.data.toList.drop 24 = dktX0_redo_1 := dk_seg dksX0_redo_0 24 rfl rfl
theorem dksX0_redo_2 : cX0_redo.data.toList.drop 47 = dktX0_redo_2 := dk_seg dksX0_redo_1 23 rfl rfl
theorem dksX0_redo_3 : cX0_redo.data.toList.drop 71 = dktX0_redo_3 := dk_seg dksX0_redo_2 24 rfl rfl
theorem dX0_redo_0 : decode cX0_redo 0 = .ok (.aload_n 0, 1) := dk_42 (dk_at dksX0_redo_0 0 rfl rfl)
theorem dX0_redo_1 : decode cX0_redo 1 = .ok (.getfield 167, 3) := dk_180 0 167 (dk_at dksX0_redo_0 1 rfl rfl)
theorem dX0_redo_4 : decode cX0_redo 4 = .ok (.ifCond .ne 6, 3) := dk_154 0 6 (dk_at dksX0_redo_0 4 rfl rfl)
theorem dX0_redo_7 : decode cX0_redo 7 = .ok (.bipush (-5), 2) := dk_16 251 (dk_at dksX0_redo_0 7 rfl rfl)
theorem dX0_redo_9 : decode cX0_redo 9 = .ok (.ireturn, 1) := dk_172 (dk_at dksX0_redo_0 9 rfl rfl)
theorem dX0_redo_10 : decode cX0_redo 10 = .ok (.aload_n 0, 1) := dk_42 (dk_at dksX0_redo_0 10 rfl rfl)
theorem dX0_redo_11 : decode cX0_redo 11 = .ok (.aload_n 0, 1) := dk_42 (dk_at dksX0_redo_0 11 rfl rfl)
theorem dX0_redo_12 : decode cX0_redo 12 = .ok (.getfield 23, 3) := dk_180 0 23 (dk_at dksX0_redo_0 12 rfl rfl)
theorem dX0_redo_15 : decode cX0_redo 15 = .ok (.aload_n 0, 1) := dk_42 (dk_at dksX0_redo_0 15 rfl rfl)
theorem dX0_redo_16 : decode cX0_redo 16 = .ok (.getfield 170, 3) := dk_180 0 170 (dk_at dksX0_redo_0 16 rfl rfl)
theorem dX0_redo_19 : decode cX0_redo 19 = .ok (.aaload, 1) := dk_50 (dk_at dksX0_redo_0 19 rfl rfl)
theorem dX0_redo_20 : decode cX0_redo 20 = .ok (.getfield 178, 3) := dk_180 0 178 (dk_at dksX0_redo_0 20 rfl rfl)
theorem dX0_redo_23 : decode cX0_redo 23 = .ok (.aload_n 0, 1) := dk_42 (dk_at dksX0_redo_0 23 rfl rfl)
theorem dX0_redo_24 : decode cX0_redo 24 = .ok (.getfield 23, 3) := dk_180 0 23 (dk_at dksX0_redo_1 0 rfl rfl)
theorem dX0_redo_27 : decode cX0_redo 27 = .ok (.aload_n 0, 1) := dk_42 (dk_at dksX0_redo_1 3 rfl rfl)
theorem dX0_redo_28 : decode cX0_redo 28 = .ok (.getfield 170, 3) := dk_180 0 170 (dk_at dksX0_redo_1 4 rfl rfl)
theorem dX0_redo_31 : decode cX0_redo 31 = .ok (.aaload, 1) := dk_50 (dk_at dksX0_redo_1 7 rfl rfl)
theorem dX0_redo_32 : decode cX0_redo 32 = .ok (.getfield 181, 3) := dk_180 0 181 (dk_at dksX0_redo_1 8 rfl rfl)
theorem dX0_redo_35 : decode cX0_redo 35 = .ok (.aload_n 0, 1) := dk_42 (dk_at dksX0_redo_1 11 rfl rfl)
theorem dX0_redo_36 : decode cX0_redo 36 = .ok (.getfield 23, 3) := dk_180 0 23 (dk_at dksX0_redo_1 12 rfl rfl)
theorem dX0_redo_39 : decode cX0_redo 39 = .ok (.aload_n 0, 1) := dk_42 (dk_at dksX0_redo_1 15 rfl rfl)
theorem dX0_redo_40 : decode cX0_redo 40 = .ok (.getfield 170, 3) := dk_180 0 170 (dk_at dksX0_redo_1 16 rfl rfl)
theorem dX0_redo_43 : decode cX0_redo 43 = .ok (.aaload, 1) := dk_50 (dk_at dksX0_redo_1 19 rfl rfl)
theorem dX0_redo_44 : decode cX0_redo 44 = .ok (.getfield 186, 3) := dk_180 0 186 (dk_at dksX0_redo_1 20 rfl rfl)
theorem dX0_redo_47 : decode cX0_redo 47 = .ok (.invokevirtual 174, 3) := dk_182 0 174 (dk_at dksX0_redo_2 0 rfl rfl)
theorem dX0_redo_50 : decode cX0_redo 50 = .ok (.aload_n 0, 1) := dk_42 (dk_at dksX0_redo_2 3 rfl rfl)
theorem dX0_redo_51 : decode cX0_redo 51 = .ok (.dup, 1) := dk_89 (dk_at dksX0_redo_2 4 rfl rfl)
theorem dX0_redo_52 : decode cX0_redo 52 = .ok (.getfield 170, 3) := dk_180 0 170 (dk_at dksX0_redo_2 5 rfl rfl)
theorem dX0_redo_55 : decode cX0_redo 55 = .ok (.iconst 1, 1) := dk_4 (dk_at dksX0_redo_2 8 rfl rfl)
theorem dX0_redo_56 : decode cX0_redo 56 = .ok (.iadd, 1) := dk_96 (dk_at dksX0_redo_2 9 rfl rfl)
theorem dX0_redo_57 : decode cX0_redo 57 = .ok (.putfield 170, 3) := dk_181 0 170 (dk_at dksX0_redo_2 10 rfl rfl)
theorem dX0_redo_60 : decode cX0_redo 60 = .ok (.aload_n 0, 1) := dk_42 (dk_at dksX0_redo_2 13 rfl rfl)
theorem dX0_redo_61 : decode cX0_redo 61 = .ok (.dup, 1) := dk_89 (dk_at dksX0_redo_2 14 rfl rfl)
theorem dX0_redo_62 : decode cX0_redo 62 = .ok (.getfield 167, 3) := dk_180 0 167 (dk_at dksX0_redo_2 15 rfl rfl)
theorem dX0_redo_65 : decode cX0_redo 65 = .ok (.iconst 1, 1) := dk_4 (dk_at dksX0_redo_2 18 rfl rfl)
theorem dX0_redo_66 : decode cX0_redo 66 = .ok (.isub, 1) := dk_100 (dk_at dksX0_redo_2 19 rfl rfl)
theorem dX0_redo_67 : decode cX0_redo 67 = .ok (.putfield 167, 3) := dk_181 0 167 (dk_at dksX0_redo_2 20 rfl rfl)
theorem dX0_redo_70 : decode cX0_redo 70 = .ok (.aload_n 0, 1) := dk_42 (dk_at dksX0_redo_2 23 rfl rfl)
theorem dX0_redo_71 : decode cX0_redo 71 = .ok (.getfield 167, 3) := dk_180 0 167 (dk_at dksX0_redo_3 0 rfl rfl)
theorem dX0_redo_74 : decode cX0_redo 74 = .ok (.ireturn, 1) := dk_172 (dk_at dksX0_redo_3 3 rfl rfl)
abbrev cX0_mend : ByteArray := prog_1_method_15_code
def yX0_mend : MethodName := ⟨RX0, "mend", "(III)I"⟩
def dkwX0_mend_2 : List UInt8 := [2, 172]
abbrev dktX0_mend_2 : List UInt8 := dkwX0_mend_2 ++ []
def dkwX0_mend_1 : List UInt8 := [17, 3, 231, 167, 0, 5, 16, 99, 184, 0, 91, 153, 0, 13, 42, 28, 27, 29, 182, 0, 189, 167, 0, 4]
abbrev dktX0_mend_1 : List UInt8 := dkwX0_mend_1 ++ dktX0_mend_2
def dkwX0_mend_0 : List UInt8 := [42, 27, 182, 0, 146, 153, 0, 42, 28, 3, 5, 184, 0, 91, 153, 0, 33, 29, 3, 28, 154, 0, 9]
abbrev dktX0_mend_0 : List UInt8 := dkwX0_mend_0 ++ dktX0_mend_1
theorem dksX0_mend_0 : cX0_mend.data.toList.drop 0 = dktX0_mend_0 := by decide +kernel
theorem dksX0_mend_1 : cX0_mend.data.toList.drop 23 = dktX0_mend_1 := dk_seg dksX0_mend_0 23 rfl rfl
theorem dksX0_mend_2 : cX0_mend.data.toList.drop 47 = dktX0_mend_2 := dk_seg dksX0_mend_1 24 rfl rfl
theorem dX0_mend_0 : decode cX0_mend 0 = .ok (.aload_n 0, 1) := dk_42 (dk_at dksX0_mend_0 0 rfl rfl)
theorem dX0_mend_1 : decode cX0_mend 1 = .ok (.iload_n 1, 1) := dk_27 (dk_at dksX0_mend_0 1 rfl rfl)
theorem dX0_mend_2 : decode cX0_mend 2 = .ok (.invokevirtual 146, 3) := dk_182 0 146 (dk_at dksX0_mend_0 2 rfl rfl)
theorem dX0_mend_5 : decode cX0_mend 5 = .ok (.ifCond .eq 42, 3) := dk_153 0 42 (dk_at dksX0_mend_0 5 rfl rfl)
theorem dX0_mend_8 : decode cX0_mend 8 = .ok (.iload_n 2, 1) := dk_28 (dk_at dksX0_mend_0 8 rfl rfl)
theorem dX0_mend_9 : decode cX0_mend 9 = .ok (.iconst 0, 1) := dk_3 (dk_at dksX0_mend_0 9 rfl rfl)
theorem dX0_mend_10 : decode cX0_mend 10 = .ok (.iconst 2, 1) := dk_5 (dk_at dksX0_mend_0 10 rfl rfl)
theorem dX0_mend_11 : decode cX0_mend 11 = .ok (.invokestatic 91, 3) := dk_184 0 91 (dk_at dksX0_mend_0 11 rfl rfl)
theorem dX0_mend_14 : decode cX0_mend 14 = .ok (.ifCond .eq 33, 3) := dk_153 0 33 (dk_at dksX0_mend_0 14 rfl rfl)
theorem dX0_mend_17 : decode cX0_mend 17 = .ok (.iload_n 3, 1) := dk_29 (dk_at dksX0_mend_0 17 rfl rfl)
theorem dX0_mend_18 : decode cX0_mend 18 = .ok (.iconst 0, 1) := dk_3 (dk_at dksX0_mend_0 18 rfl rfl)
theorem dX0_mend_19 : decode cX0_mend 19 = .ok (.iload_n 2, 1) := dk_28 (dk_at dksX0_mend_0 19 rfl rfl)
theorem dX0_mend_20 : decode cX0_mend 20 = .ok (.ifCond .ne 9, 3) := dk_154 0 9 (dk_at dksX0_mend_0 20 rfl rfl)
theorem dX0_mend_23 : decode cX0_mend 23 = .ok (.sipush 999, 3) := dk_17 3 231 (dk_at dksX0_mend_1 0 rfl rfl)
theorem dX0_mend_26 : decode cX0_mend 26 = .ok (.goto 5, 3) := dk_167 0 5 (dk_at dksX0_mend_1 3 rfl rfl)
theorem dX0_mend_29 : decode cX0_mend 29 = .ok (.bipush 99, 2) := dk_16 99 (dk_at dksX0_mend_1 6 rfl rfl)
theorem dX0_mend_31 : decode cX0_mend 31 = .ok (.invokestatic 91, 3) := dk_184 0 91 (dk_at dksX0_mend_1 8 rfl rfl)
theorem dX0_mend_34 : decode cX0_mend 34 = .ok (.ifCond .eq 13, 3) := dk_153 0 13 (dk_at dksX0_mend_1 11 rfl rfl)
theorem dX0_mend_37 : decode cX0_mend 37 = .ok (.aload_n 0, 1) := dk_42 (dk_at dksX0_mend_1 14 rfl rfl)
theorem dX0_mend_38 : decode cX0_mend 38 = .ok (.iload_n 2, 1) := dk_28 (dk_at dksX0_mend_1 15 rfl rfl)
theorem dX0_mend_39 : decode cX0_mend 39 = .ok (.iload_n 1, 1) := dk_27 (dk_at dksX0_mend_1 16 rfl rfl)
theorem dX0_mend_40 : decode cX0_mend 40 = .ok (.iload_n 3, 1) := dk_29 (dk_at dksX0_mend_1 17 rfl rfl)
theorem dX0_mend_41 : decode cX0_mend 41 = .ok (.invokevirtual 189, 3) := dk_182 0 189 (dk_at dksX0_mend_1 18 rfl rfl)
theorem dX0_mend_44 : decode cX0_mend 44 = .ok (.goto 4, 3) := dk_167 0 4 (dk_at dksX0_mend_1 21 rfl rfl)
theorem dX0_mend_47 : decode cX0_mend 47 = .ok (.iconst (-1), 1) := dk_2 (dk_at dksX0_mend_2 0 rfl rfl)
theorem dX0_mend_48 : decode cX0_mend 48 = .ok (.ireturn, 1) := dk_172 (dk_at dksX0_mend_2 1 rfl rfl)
abbrev cX0_become : ByteArray := prog_1_method_12_code
def yX0_become : MethodName := ⟨RX0, "become", "(III)I"⟩
def dkwX0_become_4 : List UInt8 := [42, 89, 180, 0, 170, 4, 96, 181, 0, 170, 42, 27, 28, 29, 182, 0, 174, 21, 4, 172]
abbrev dktX0_become_4 : List UInt8 := dkwX0_become_4 ++ []
def dkwX0_become_3 : List UInt8 := [181, 0, 170, 42, 180, 0, 23, 42, 180, 0, 170, 187, 0, 21, 89, 27, 28, 21, 4, 29, 183, 0, 173, 83]
abbrev dktX0_become_3 : List UInt8 := dkwX0_become_3 ++ dktX0_become_4
def dkwX0_become_2 : List UInt8 := [4, 100, 42, 180, 0, 23, 21, 5, 50, 83, 132, 5, 1, 167, 255, 230, 42, 89, 180, 0, 170, 4, 100]
abbrev dktX0_become_2 : List UInt8 := dkwX0_become_2 ++ dktX0_become_3
def dkwX0_become_1 : List UInt8 := [180, 0, 170, 16, 40, 160, 0, 45, 4, 54, 5, 21, 5, 16, 40, 162, 0, 25, 42, 180, 0, 23, 21, 5]
abbrev dktX0_become_1 : List UInt8 := dkwX0_become_1 ++ dktX0_become_2
def dkwX0_become_0 : List UInt8 := [42, 27, 28, 182, 0, 163, 54, 4, 21, 4, 29, 160, 0, 6, 21, 4, 172, 42, 3, 181, 0, 167, 42]
abbrev dktX0_become_0 : List UInt8 := dkwX0_become_0 ++ dktX0_become_1
theorem dksX0_become_0 : cX0_become.data.toList.drop 0 = dktX0_become_0 := by decide +kernel
theorem dksX0_become_1 : cX0_become.data.toList.drop 23 = dktX0_become_1 := dk_seg dksX0_become_0 23 rfl rfl
theorem dksX0_become_2 : cX0_become.data.toList.drop 47 = dktX0_become_2 := dk_seg dksX0_become_1 24 rfl rfl
theorem dksX0_become_3 : cX0_become.data.toList.drop 70 = dktX0_become_3 := dk_seg dksX0_become_2 23 rfl rfl
theorem dksX0_become_4 : cX0_become.data.toList.drop 94 = dktX0_become_4 := dk_seg dksX0_become_3 24 rfl rfl
theorem dX0_become_0 : decode cX0_become 0 = .ok (.aload_n 0, 1) := dk_42 (dk_at dksX0_become_0 0 rfl rfl)
theorem dX0_become_1 : decode cX0_become 1 = .ok (.iload_n 1, 1) := dk_27 (dk_at dksX0_become_0 1 rfl rfl)
theorem dX0_become_2 : decode cX0_become 2 = .ok (.iload_n 2, 1) := dk_28 (dk_at dksX0_become_0 2 rfl rfl)
theorem dX0_become_3 : decode cX0_become 3 = .ok (.invokevirtual 163, 3) := dk_182 0 163 (dk_at dksX0_become_0 3 rfl rfl)
theorem dX0_become_6 : decode cX0_become 6 = .ok (.istore 4, 2) := dk_54 4 (dk_at dksX0_become_0 6 rfl rfl)
theorem dX0_become_8 : decode cX0_become 8 = .ok (.iload 4, 2) := dk_21 4 (dk_at dksX0_become_0 8 rfl rfl)
theorem dX0_become_10 : decode cX0_become 10 = .ok (.iload_n 3, 1) := dk_29 (dk_at dksX0_become_0 10 rfl rfl)
theorem dX0_become_11 : decode cX0_become 11 = .ok (.if_icmp .ne 6, 3) := dk_160 0 6 (dk_at dksX0_become_0 11 rfl rfl)
theorem dX0_become_14 : decode cX0_become 14 = .ok (.iload 4, 2) := dk_21 4 (dk_at dksX0_become_0 14 rfl rfl)
theorem dX0_become_16 : decode cX0_become 16 = .ok (.ireturn, 1) := dk_172 (dk_at dksX0_become_0 16 rfl rfl)
theorem dX0_become_17 : decode cX0_become 17 = .ok (.aload_n 0, 1) := dk_42 (dk_at dksX0_become_0 17 rfl rfl)
theorem dX0_become_18 : decode cX0_become 18 = .ok (.iconst 0, 1) := dk_3 (dk_at dksX0_become_0 18 rfl rfl)
theorem dX0_become_19 : decode cX0_become 19 = .ok (.putfield 167, 3) := dk_181 0 167 (dk_at dksX0_become_0 19 rfl rfl)
theorem dX0_become_22 : decode cX0_become 22 = .ok (.aload_n 0, 1) := dk_42 (dk_at dksX0_become_0 22 rfl rfl)
theorem dX0_become_23 : decode cX0_become 23 = .ok (.getfield 170, 3) := dk_180 0 170 (dk_at dksX0_become_1 0 rfl rfl)
theorem dX0_become_26 : decode cX0_become 26 = .ok (.bipush 40, 2) := dk_16 40 (dk_at dksX0_become_1 3 rfl rfl)
theorem dX0_become_28 : decode cX0_become 28 = .ok (.if_icmp .ne 45, 3) := dk_160 0 45 (dk_at dksX0_become_1 5 rfl rfl)
theorem dX0_become_31 : decode cX0_become 31 = .ok (.iconst 1, 1) := dk_4 (dk_at dksX0_become_1 8 rfl rfl)
theorem dX0_become_32 : decode cX0_become 32 = .ok (.istore 5, 2) := dk_54 5 (dk_at dksX0_become_1 9 rfl rfl)
theorem dX0_become_34 : decode cX0_become 34 = .ok (.iload 5, 2) := dk_21 5 (dk_at dksX0_become_1 11 rfl rfl)
theorem dX0_become_36 : decode cX0_become 36 = .ok (.bipush 40, 2) := dk_16 40 (dk_at dksX0_become_1 13 rfl rfl)
theorem dX0_become_38 : decode cX0_become 38 = .ok (.if_icmp .ge 25, 3) := dk_162 0 25 (dk_at dksX0_become_1 15 rfl rfl)
theorem dX0_become_41 : decode cX0_become 41 = .ok (.aload_n 0, 1) := dk_42 (dk_at dksX0_become_1 18 rfl rfl)
theorem dX0_become_42 : decode cX0_become 42 = .ok (.getfield 23, 3) := dk_180 0 23 (dk_at dksX0_become_1 19 rfl rfl)
theorem dX0_become_45 : decode cX0_become 45 = .ok (.iload 5, 2) := dk_21 5 (dk_at dksX0_become_1 22 rfl rfl)
theorem dX0_become_47 : decode cX0_become 47 = .ok (.iconst 1, 1) := dk_4 (dk_at dksX0_become_2 0 rfl rfl)
theorem dX0_become_48 : decode cX0_become 48 = .ok (.isub, 1) := dk_100 (dk_at dksX0_become_2 1 rfl rfl)
theorem dX0_become_49 : decode cX0_become 49 = .ok (.aload_n 0, 1) := dk_42 (dk_at dksX0_become_2 2 rfl rfl)
theorem dX0_become_50 : decode cX0_become 50 = .ok (.getfield 23, 3) := dk_180 0 23 (dk_at dksX0_become_2 3 rfl rfl)
theorem dX0_become_53 : decode cX0_become 53 = .ok (.iload 5, 2) := dk_21 5 (dk_at dksX0_become_2 6 rfl rfl)
theorem dX0_become_55 : decode cX0_become 55 = .ok (.aaload, 1) := dk_50 (dk_at dksX0_become_2 8 rfl rfl)
theorem dX0_become_56 : decode cX0_become 56 = .ok (.aastore, 1) := dk_83 (dk_at dksX0_become_2 9 rfl rfl)
theorem dX0_become_57 : decode cX0_become 57 = .ok (.iinc 5 1, 3) := dk_132 5 1 (dk_at dksX0_become_2 10 rfl rfl)
theorem dX0_become_60 : decode cX0_become 60 = .ok (.goto (-26), 3) := dk_167 255 230 (dk_at dksX0_become_2 13 rfl rfl)
theorem dX0_become_63 : decode cX0_become 63 = .ok (.aload_n 0, 1) := dk_42 (dk_at dksX0_become_2 16 rfl rfl)
theorem dX0_become_64 : decode cX0_become 64 = .ok (.dup, 1) := dk_89 (dk_at dksX0_become_2 17 rfl rfl)
theorem dX0_become_65 : decode cX0_become 65 = .ok (.getfield 170, 3) := dk_180 0 170 (dk_at dksX0_become_2 18 rfl rfl)
theorem dX0_become_68 : decode cX0_become 68 = .ok (.iconst 1, 1) := dk_4 (dk_at dksX0_become_2 21 rfl rfl)
theorem dX0_become_69 : decode cX0_become 69 = .ok (.isub, 1) := dk_100 (dk_at dksX0_become_2 22 rfl rfl)
theorem dX0_become_70 : decode cX0_become 70 = .ok (.putfield 170, 3) := dk_181 0 170 (dk_at dksX0_become_3 0 rfl rfl)
theorem dX0_become_73 : decode cX0_become 73 = .ok (.aload_n 0, 1) := dk_42 (dk_at dksX0_become_3 3 rfl rfl)
theorem dX0_become_74 : decode cX0_become 74 = .ok (.getfield 23, 3) := dk_180 0 23 (dk_at dksX0_become_3 4 rfl rfl)
theorem dX0_become_77 : decode cX0_become 77 = .ok (.aload_n 0, 1) := dk_42 (dk_at dksX0_become_3 7 rfl rfl)
theorem dX0_become_78 : decode cX0_become 78 = .ok (.getfield 170, 3) := dk_180 0 170 (dk_at dksX0_become_3 8 rfl rfl)
theorem dX0_become_81 : decode cX0_become 81 = .ok (.new 21, 3) := dk_187 0 21 (dk_at dksX0_become_3 11 rfl rfl)
theorem dX0_become_84 : decode cX0_become 84 = .ok (.dup, 1) := dk_89 (dk_at dksX0_become_3 14 rfl rfl)
theorem dX0_become_85 : decode cX0_become 85 = .ok (.iload_n 1, 1) := dk_27 (dk_at dksX0_become_3 15 rfl rfl)
theorem dX0_become_86 : decode cX0_become 86 = .ok (.iload_n 2, 1) := dk_28 (dk_at dksX0_become_3 16 rfl rfl)
theorem dX0_become_87 : decode cX0_become 87 = .ok (.iload 4, 2) := dk_21 4 (dk_at dksX0_become_3 17 rfl rfl)
theorem dX0_become_89 : decode cX0_become 89 = .ok (.iload_n 3, 1) := dk_29 (dk_at dksX0_become_3 19 rfl rfl)
theorem dX0_become_90 : decode cX0_become 90 = .ok (.invokespecial 173, 3) := dk_183 0 173 (dk_at dksX0_become_3 20 rfl rfl)
theorem dX0_become_93 : decode cX0_become 93 = .ok (.aastore, 1) := dk_83 (dk_at dksX0_become_3 23 rfl rfl)
theorem dX0_become_94 : decode cX0_become 94 = .ok (.aload_n 0, 1) := dk_42 (dk_at dksX0_become_4 0 rfl rfl)
theorem dX0_become_95 : decode cX0_become 95 = .ok (.dup, 1) := dk_89 (dk_at dksX0_become_4 1 rfl rfl)
theorem dX0_become_96 : decode cX0_become 96 = .ok (.getfield 170, 3) := dk_180 0 170 (dk_at dksX0_become_4 2 rfl rfl)
theorem dX0_become_99 : decode cX0_become 99 = .ok (.iconst 1, 1) := dk_4 (dk_at dksX0_become_4 5 rfl rfl)
theorem dX0_become_100 : decode cX0_become 100 = .ok (.iadd, 1) := dk_96 (dk_at dksX0_become_4 6 rfl rfl)
theorem dX0_become_101 : decode cX0_become 101 = .ok (.putfield 170, 3) := dk_181 0 170 (dk_at dksX0_become_4 7 rfl rfl)
theorem dX0_become_104 : decode cX0_become 104 = .ok (.aload_n 0, 1) := dk_42 (dk_at dksX0_become_4 10 rfl rfl)
theorem dX0_become_105 : decode cX0_become 105 = .ok (.iload_n 1, 1) := dk_27 (dk_at dksX0_become_4 11 rfl rfl)
theorem dX0_become_106 : decode cX0_become 106 = .ok (.iload_n 2, 1) := dk_28 (dk_at dksX0_become_4 12 rfl rfl)
theorem dX0_become_107 : decode cX0_become 107 = .ok (.iload_n 3, 1) := dk_29 (dk_at dksX0_become_4 13 rfl rfl)
theorem dX0_become_108 : decode cX0_become 108 = .ok (.invokevirtual 174, 3) := dk_182 0 174 (dk_at dksX0_become_4 14 rfl rfl)
theorem dX0_become_111 : decode cX0_become 111 = .ok (.iload 4, 2) := dk_21 4 (dk_at dksX0_become_4 17 rfl rfl)
theorem dX0_become_113 : decode cX0_become 113 = .ok (.ireturn, 1) := dk_172 (dk_at dksX0_become_4 19 rfl rfl)
abbrev cX0_valueAt : ByteArray := prog_1_method_10_code
def yX0_valueAt : MethodName := ⟨RX0, "valueAt", "(II)I"⟩
def dkwX0_valueAt_4 : List UInt8 := [180, 0, 160, 172]
abbrev dktX0_valueAt_4 : List UInt8 := dkwX0_valueAt_4 ++ []
def dkwX0_valueAt_3 : List UInt8 := [28, 50, 180, 0, 155, 172, 42, 180, 0, 17, 28, 50, 180, 0, 133, 172, 42, 180, 0, 17, 28, 50]
abbrev dktX0_valueAt_3 : List UInt8 := dkwX0_valueAt_3 ++ dktX0_valueAt_4
def dkwX0_valueAt_2 : List UInt8 := [42, 180, 0, 11, 28, 50, 180, 0, 149, 172, 42, 180, 0, 11, 28, 50, 180, 0, 152, 172, 42, 180, 0, 11]
abbrev dktX0_valueAt_2 : List UInt8 := dkwX0_valueAt_2 ++ dktX0_valueAt_3
def dkwX0_valueAt_1 : List UInt8 := [170, 0, 0, 0, 0, 0, 71, 0, 0, 0, 0, 0, 0, 0, 3, 0, 0, 0, 31, 0, 0, 0, 41, 0, 0, 0, 51, 0, 0, 0, 61]
abbrev dktX0_valueAt_1 : List UInt8 := dkwX0_valueAt_1 ++ dktX0_valueAt_2
def dkwX0_valueAt_0 : List UInt8 := [27]
abbrev dktX0_valueAt_0 : List UInt8 := dkwX0_valueAt_0 ++ dktX0_valueAt_1
theorem dksX0_valueAt_0 : cX0_valueAt.data.toList.drop 0 = dktX0_valueAt_0 := by decide +kernel
theorem dksX0_valueAt_1 : cX0_valueAt.data.toList.drop 1 = dktX0_valueAt_1 := dk_seg dksX0_valueAt_0 1 rfl rfl
theorem dksX0_valueAt_2 : cX0_valueAt.data.toList.drop 32 = dktX0_valueAt_2 := dk_seg dksX0_valueAt_1 31 rfl rfl
theorem dksX0_valueAt_3 : cX0_valueAt.data.toList.drop 56 = dktX0_valueAt_3 := dk_seg dksX0_valueAt_2 24 rfl rfl
theorem dksX0_valueAt_4 : cX0_valueAt.data.toList.drop 78 = dktX0_valueAt_4 := dk_seg dksX0_valueAt_3 22 rfl rfl
theorem dX0_valueAt_0 : decode cX0_valueAt 0 = .ok (.iload_n 1, 1) := dk_27 (dk_at dksX0_valueAt_0 0 rfl rfl)
theorem dX0_valueAt_1 : decode cX0_valueAt 1 = .ok (.tableswitch 71 0 3 #[31, 41, 51, 61], 31) := by decide +kernel
theorem dX0_valueAt_32 : decode cX0_valueAt 32 = .ok (.aload_n 0, 1) := dk_42 (dk_at dksX0_valueAt_2 0 rfl rfl)
theorem dX0_valueAt_33 : decode cX0_valueAt 33 = .ok (.getfield 11, 3) := dk_180 0 11 (dk_at dksX0_valueAt_2 1 rfl rfl)
theorem dX0_valueAt_36 : decode cX0_valueAt 36 = .ok (.iload_n 2, 1) := dk_28 (dk_at dksX0_valueAt_2 4 rfl rfl)
theorem dX0_valueAt_37 : decode cX0_valueAt 37 = .ok (.aaload, 1) := dk_50 (dk_at dksX0_valueAt_2 5 rfl rfl)
theorem dX0_valueAt_38 : decode cX0_valueAt 38 = .ok (.getfield 149, 3) := dk_180 0 149 (dk_at dksX0_valueAt_2 6 rfl rfl)
theorem dX0_valueAt_41 : decode cX0_valueAt 41 = .ok (.ireturn, 1) := dk_172 (dk_at dksX0_valueAt_2 9 rfl rfl)
theorem dX0_valueAt_42 : decode cX0_valueAt 42 = .ok (.aload_n 0, 1) := dk_42 (dk_at dksX0_valueAt_2 10 rfl rfl)
theorem dX0_valueAt_43 : decode cX0_valueAt 43 = .ok (.getfield 11, 3) := dk_180 0 11 (dk_at dksX0_valueAt_2 11 rfl rfl)
theorem dX0_valueAt_46 : decode cX0_valueAt 46 = .ok (.iload_n 2, 1) := dk_28 (dk_at dksX0_valueAt_2 14 rfl rfl)
theorem dX0_valueAt_47 : decode cX0_valueAt 47 = .ok (.aaload, 1) := dk_50 (dk_at dksX0_valueAt_2 15 rfl rfl)
theorem dX0_valueAt_48 : decode cX0_valueAt 48 = .ok (.getfield 152, 3) := dk_180 0 152 (dk_at dksX0_valueAt_2 16 rfl rfl)
theorem dX0_valueAt_51 : decode cX0_valueAt 51 = .ok (.ireturn, 1) := dk_172 (dk_at dksX0_valueAt_2 19 rfl rfl)
theorem dX0_valueAt_52 : decode cX0_valueAt 52 = .ok (.aload_n 0, 1) := dk_42 (dk_at dksX0_valueAt_2 20 rfl rfl)
theorem dX0_valueAt_53 : decode cX0_valueAt 53 = .ok (.getfield 11, 3) := dk_180 0 11 (dk_at dksX0_valueAt_2 21 rfl rfl)
theorem dX0_valueAt_56 : decode cX0_valueAt 56 = .ok (.iload_n 2, 1) := dk_28 (dk_at dksX0_valueAt_3 0 rfl rfl)
theorem dX0_valueAt_57 : decode cX0_valueAt 57 = .ok (.aaload, 1) := dk_50 (dk_at dksX0_valueAt_3 1 rfl rfl)
theorem dX0_valueAt_58 : decode cX0_valueAt 58 = .ok (.getfield 155, 3) := dk_180 0 155 (dk_at dksX0_valueAt_3 2 rfl rfl)
theorem dX0_valueAt_61 : decode cX0_valueAt 61 = .ok (.ireturn, 1) := dk_172 (dk_at dksX0_valueAt_3 5 rfl rfl)
theorem dX0_valueAt_62 : decode cX0_valueAt 62 = .ok (.aload_n 0, 1) := dk_42 (dk_at dksX0_valueAt_3 6 rfl rfl)
theorem dX0_valueAt_63 : decode cX0_valueAt 63 = .ok (.getfield 17, 3) := dk_180 0 17 (dk_at dksX0_valueAt_3 7 rfl rfl)
theorem dX0_valueAt_66 : decode cX0_valueAt 66 = .ok (.iload_n 2, 1) := dk_28 (dk_at dksX0_valueAt_3 10 rfl rfl)
theorem dX0_valueAt_67 : decode cX0_valueAt 67 = .ok (.aaload, 1) := dk_50 (dk_at dksX0_valueAt_3 11 rfl rfl)
theorem dX0_valueAt_68 : decode cX0_valueAt 68 = .ok (.getfield 133, 3) := dk_180 0 133 (dk_at dksX0_valueAt_3 12 rfl rfl)
theorem dX0_valueAt_71 : decode cX0_valueAt 71 = .ok (.ireturn, 1) := dk_172 (dk_at dksX0_valueAt_3 15 rfl rfl)
theorem dX0_valueAt_72 : decode cX0_valueAt 72 = .ok (.aload_n 0, 1) := dk_42 (dk_at dksX0_valueAt_3 16 rfl rfl)
theorem dX0_valueAt_73 : decode cX0_valueAt 73 = .ok (.getfield 17, 3) := dk_180 0 17 (dk_at dksX0_valueAt_3 17 rfl rfl)
theorem dX0_valueAt_76 : decode cX0_valueAt 76 = .ok (.iload_n 2, 1) := dk_28 (dk_at dksX0_valueAt_3 20 rfl rfl)
theorem dX0_valueAt_77 : decode cX0_valueAt 77 = .ok (.aaload, 1) := dk_50 (dk_at dksX0_valueAt_3 21 rfl rfl)
theorem dX0_valueAt_78 : decode cX0_valueAt 78 = .ok (.getfield 160, 3) := dk_180 0 160 (dk_at dksX0_valueAt_4 0 rfl rfl)
theorem dX0_valueAt_81 : decode cX0_valueAt 81 = .ok (.ireturn, 1) := dk_172 (dk_at dksX0_valueAt_4 3 rfl rfl)
abbrev cX0_purse : ByteArray := prog_1_method_16_code
def yX0_purse : MethodName := ⟨RX0, "purse", "(III)I"⟩
def dkwX0_purse_1 : List UInt8 := [153, 0, 15, 42, 6, 28, 96, 27, 29, 182, 0, 189, 167, 0, 4, 2, 172]
abbrev dktX0_purse_1 : List UInt8 := dkwX0_purse_1 ++ []
def dkwX0_purse_0 : List UInt8 := [42, 27, 182, 0, 127, 153, 0, 34, 28, 3, 4, 184, 0, 91, 153, 0, 25, 29, 3, 16, 99, 184, 0, 91]
abbrev dktX0_purse_0 : List UInt8 := dkwX0_purse_0 ++ dktX0_purse_1
theorem dksX0_purse_0 : cX0_purse.data.toList.drop 0 = dktX0_purse_0 := by decide +kernel
theorem dksX0_purse_1 : cX0_purse.data.toList.drop 24 = dktX0_purse_1 := dk_seg dksX0_purse_0 24 rfl rfl
theorem dX0_purse_0 : decode cX0_purse 0 = .ok (.aload_n 0, 1) := dk_42 (dk_at dksX0_purse_0 0 rfl rfl)
theorem dX0_purse_1 : decode cX0_purse 1 = .ok (.iload_n 1, 1) := dk_27 (dk_at dksX0_purse_0 1 rfl rfl)
theorem dX0_purse_2 : decode cX0_purse 2 = .ok (.invokevirtual 127, 3) := dk_182 0 127 (dk_at dksX0_purse_0 2 rfl rfl)
theorem dX0_purse_5 : decode cX0_purse 5 = .ok (.ifCond .eq 34, 3) := dk_153 0 34 (dk_at dksX0_purse_0 5 rfl rfl)
theorem dX0_purse_8 : decode cX0_purse 8 = .ok (.iload_n 2, 1) := dk_28 (dk_at dksX0_purse_0 8 rfl rfl)
theorem dX0_purse_9 : decode cX0_purse 9 = .ok (.iconst 0, 1) := dk_3 (dk_at dksX0_purse_0 9 rfl rfl)
theorem dX0_purse_10 : decode cX0_purse 10 = .ok (.iconst 1, 1) := dk_4 (dk_at dksX0_purse_0 10 rfl rfl)
theorem dX0_purse_11 : decode cX0_purse 11 = .ok (.invokestatic 91, 3) := dk_184 0 91 (dk_at dksX0_purse_0 11 rfl rfl)
theorem dX0_purse_14 : decode cX0_purse 14 = .ok (.ifCond .eq 25, 3) := dk_153 0 25 (dk_at dksX0_purse_0 14 rfl rfl)
theorem dX0_purse_17 : decode cX0_purse 17 = .ok (.iload_n 3, 1) := dk_29 (dk_at dksX0_purse_0 17 rfl rfl)
theorem dX0_purse_18 : decode cX0_purse 18 = .ok (.iconst 0, 1) := dk_3 (dk_at dksX0_purse_0 18 rfl rfl)
theorem dX0_purse_19 : decode cX0_purse 19 = .ok (.bipush 99, 2) := dk_16 99 (dk_at dksX0_purse_0 19 rfl rfl)
theorem dX0_purse_21 : decode cX0_purse 21 = .ok (.invokestatic 91, 3) := dk_184 0 91 (dk_at dksX0_purse_0 21 rfl rfl)
theorem dX0_purse_24 : decode cX0_purse 24 = .ok (.ifCond .eq 15, 3) := dk_153 0 15 (dk_at dksX0_purse_1 0 rfl rfl)
theorem dX0_purse_27 : decode cX0_purse 27 = .ok (.aload_n 0, 1) := dk_42 (dk_at dksX0_purse_1 3 rfl rfl)
theorem dX0_purse_28 : decode cX0_purse 28 = .ok (.iconst 3, 1) := dk_6 (dk_at dksX0_purse_1 4 rfl rfl)
theorem dX0_purse_29 : decode cX0_purse 29 = .ok (.iload_n 2, 1) := dk_28 (dk_at dksX0_purse_1 5 rfl rfl)
theorem dX0_purse_30 : decode cX0_purse 30 = .ok (.iadd, 1) := dk_96 (dk_at dksX0_purse_1 6 rfl rfl)
theorem dX0_purse_31 : decode cX0_purse 31 = .ok (.iload_n 1, 1) := dk_27 (dk_at dksX0_purse_1 7 rfl rfl)
theorem dX0_purse_32 : decode cX0_purse 32 = .ok (.iload_n 3, 1) := dk_29 (dk_at dksX0_purse_1 8 rfl rfl)
theorem dX0_purse_33 : decode cX0_purse 33 = .ok (.invokevirtual 189, 3) := dk_182 0 189 (dk_at dksX0_purse_1 9 rfl rfl)
theorem dX0_purse_36 : decode cX0_purse 36 = .ok (.goto 4, 3) := dk_167 0 4 (dk_at dksX0_purse_1 12 rfl rfl)
theorem dX0_purse_39 : decode cX0_purse 39 = .ok (.iconst (-1), 1) := dk_2 (dk_at dksX0_purse_1 15 rfl rfl)
theorem dX0_purse_40 : decode cX0_purse 40 = .ok (.ireturn, 1) := dk_172 (dk_at dksX0_purse_1 16 rfl rfl)
abbrev cX0_feed : ByteArray := prog_1_method_17_code
def yX0_feed : MethodName := ⟨RX0, "feed", "(II)I"⟩
def dkwX0_feed_2 : List UInt8 := [42, 89, 180, 0, 193, 4, 96, 181, 0, 193, 132, 3, 1, 167, 255, 222, 42, 180, 0, 193, 172]
abbrev dktX0_feed_2 : List UInt8 := dkwX0_feed_2 ++ []
def dkwX0_feed_1 : List UInt8 := [172, 3, 62, 29, 27, 162, 0, 35, 42, 180, 0, 27, 42, 180, 0, 193, 28, 16, 8, 29, 104, 122, 145, 84]
abbrev dktX0_feed_1 : List UInt8 := dkwX0_feed_1 ++ dktX0_feed_2
def dkwX0_feed_0 : List UInt8 := [27, 4, 7, 184, 0, 91, 154, 0, 5, 2, 172, 42, 180, 0, 193, 27, 96, 16, 120, 164, 0, 6, 16, 253]
abbrev dktX0_feed_0 : List UInt8 := dkwX0_feed_0 ++ dktX0_feed_1
theorem dksX0_feed_0 : cX0_feed.data.toList.drop 0 = dktX0_feed_0 := by decide +kernel
theorem dksX0_feed_1 : cX0_feed.data.toList.drop 24 = dktX0_feed_1 := dk_seg dksX0_feed_0 24 rfl rfl
theorem dksX0_feed_2 : cX0_feed.data.toList.drop 48 = dktX0_feed_2 := dk_seg dksX0_feed_1 24 rfl rfl
theorem dX0_feed_0 : decode cX0_feed 0 = .ok (.iload_n 1, 1) := dk_27 (dk_at dksX0_feed_0 0 rfl rfl)
theorem dX0_feed_1 : decode cX0_feed 1 = .ok (.iconst 1, 1) := dk_4 (dk_at dksX0_feed_0 1 rfl rfl)
theorem dX0_feed_2 : decode cX0_feed 2 = .ok (.iconst 4, 1) := dk_7 (dk_at dksX0_feed_0 2 rfl rfl)
theorem dX0_feed_3 : decode cX0_feed 3 = .ok (.invokestatic 91, 3) := dk_184 0 91 (dk_at dksX0_feed_0 3 rfl rfl)
theorem dX0_feed_6 : decode cX0_feed 6 = .ok (.ifCond .ne 5, 3) := dk_154 0 5 (dk_at dksX0_feed_0 6 rfl rfl)
theorem dX0_feed_9 : decode cX0_feed 9 = .ok (.iconst (-1), 1) := dk_2 (dk_at dksX0_feed_0 9 rfl rfl)
theorem dX0_feed_10 : decode cX0_feed 10 = .ok (.ireturn, 1) := dk_172 (dk_at dksX0_feed_0 10 rfl rfl)
theorem dX0_feed_11 : decode cX0_feed 11 = .ok (.aload_n 0, 1) := dk_42 (dk_at dksX0_feed_0 11 rfl rfl)
theorem dX0_feed_12 : decode cX0_feed 12 = .ok (.getfield 193, 3) := dk_180 0 193 (dk_at dksX0_feed_0 12 rfl rfl)
theorem dX0_feed_15 : decode cX0_feed 15 = .ok (.iload_n 1, 1) := dk_27 (dk_at dksX0_feed_0 15 rfl rfl)
theorem dX0_feed_16 : decode cX0_feed 16 = .ok (.iadd, 1) := dk_96 (dk_at dksX0_feed_0 16 rfl rfl)
theorem dX0_feed_17 : decode cX0_feed 17 = .ok (.bipush 120, 2) := dk_16 120 (dk_at dksX0_feed_0 17 rfl rfl)
theorem dX0_feed_19 : decode cX0_feed 19 = .ok (.if_icmp .le 6, 3) := dk_164 0 6 (dk_at dksX0_feed_0 19 rfl rfl)
theorem dX0_feed_22 : decode cX0_feed 22 = .ok (.bipush (-3), 2) := dk_16 253 (dk_at dksX0_feed_0 22 rfl rfl)
theorem dX0_feed_24 : decode cX0_feed 24 = .ok (.ireturn, 1) := dk_172 (dk_at dksX0_feed_1 0 rfl rfl)
theorem dX0_feed_25 : decode cX0_feed 25 = .ok (.iconst 0, 1) := dk_3 (dk_at dksX0_feed_1 1 rfl rfl)
theorem dX0_feed_26 : decode cX0_feed 26 = .ok (.istore_n 3, 1) := dk_62 (dk_at dksX0_feed_1 2 rfl rfl)
theorem dX0_feed_27 : decode cX0_feed 27 = .ok (.iload_n 3, 1) := dk_29 (dk_at dksX0_feed_1 3 rfl rfl)
theorem dX0_feed_28 : decode cX0_feed 28 = .ok (.iload_n 1, 1) := dk_27 (dk_at dksX0_feed_1 4 rfl rfl)
theorem dX0_feed_29 : decode cX0_feed 29 = .ok (.if_icmp .ge 35, 3) := dk_162 0 35 (dk_at dksX0_feed_1 5 rfl rfl)
theorem dX0_feed_32 : decode cX0_feed 32 = .ok (.aload_n 0, 1) := dk_42 (dk_at dksX0_feed_1 8 rfl rfl)
theorem dX0_feed_33 : decode cX0_feed 33 = .ok (.getfield 27, 3) := dk_180 0 27 (dk_at dksX0_feed_1 9 rfl rfl)
theorem dX0_feed_36 : decode cX0_feed 36 = .ok (.aload_n 0, 1) := dk_42 (dk_at dksX0_feed_1 12 rfl rfl)
theorem dX0_feed_37 : decode cX0_feed 37 = .ok (.getfield 193, 3) := dk_180 0 193 (dk_at dksX0_feed_1 13 rfl rfl)
theorem dX0_feed_40 : decode cX0_feed 40 = .ok (.iload_n 2, 1) := dk_28 (dk_at dksX0_feed_1 16 rfl rfl)
theorem dX0_feed_41 : decode cX0_feed 41 = .ok (.bipush 8, 2) := dk_16 8 (dk_at dksX0_feed_1 17 rfl rfl)
theorem dX0_feed_43 : decode cX0_feed 43 = .ok (.iload_n 3, 1) := dk_29 (dk_at dksX0_feed_1 19 rfl rfl)
theorem dX0_feed_44 : decode cX0_feed 44 = .ok (.imul, 1) := dk_104 (dk_at dksX0_feed_1 20 rfl rfl)
theorem dX0_feed_45 : decode cX0_feed 45 = .ok (.ishr, 1) := dk_122 (dk_at dksX0_feed_1 21 rfl rfl)
theorem dX0_feed_46 : decode cX0_feed 46 = .ok (.i2b, 1) := dk_145 (dk_at dksX0_feed_1 22 rfl rfl)
theorem dX0_feed_47 : decode cX0_feed 47 = .ok (.bastore, 1) := dk_84 (dk_at dksX0_feed_1 23 rfl rfl)
theorem dX0_feed_48 : decode cX0_feed 48 = .ok (.aload_n 0, 1) := dk_42 (dk_at dksX0_feed_2 0 rfl rfl)
theorem dX0_feed_49 : decode cX0_feed 49 = .ok (.dup, 1) := dk_89 (dk_at dksX0_feed_2 1 rfl rfl)
theorem dX0_feed_50 : decode cX0_feed 50 = .ok (.getfield 193, 3) := dk_180 0 193 (dk_at dksX0_feed_2 2 rfl rfl)
theorem dX0_feed_53 : decode cX0_feed 53 = .ok (.iconst 1, 1) := dk_4 (dk_at dksX0_feed_2 5 rfl rfl)
theorem dX0_feed_54 : decode cX0_feed 54 = .ok (.iadd, 1) := dk_96 (dk_at dksX0_feed_2 6 rfl rfl)
theorem dX0_feed_55 : decode cX0_feed 55 = .ok (.putfield 193, 3) := dk_181 0 193 (dk_at dksX0_feed_2 7 rfl rfl)
theorem dX0_feed_58 : decode cX0_feed 58 = .ok (.iinc 3 1, 3) := dk_132 3 1 (dk_at dksX0_feed_2 10 rfl rfl)
theorem dX0_feed_61 : decode cX0_feed 61 = .ok (.goto (-34), 3) := dk_167 255 222 (dk_at dksX0_feed_2 13 rfl rfl)
theorem dX0_feed_64 : decode cX0_feed 64 = .ok (.aload_n 0, 1) := dk_42 (dk_at dksX0_feed_2 16 rfl rfl)
theorem dX0_feed_65 : decode cX0_feed 65 = .ok (.getfield 193, 3) := dk_180 0 193 (dk_at dksX0_feed_2 17 rfl rfl)
theorem dX0_feed_68 : decode cX0_feed 68 = .ok (.ireturn, 1) := dk_172 (dk_at dksX0_feed_2 20 rfl rfl)
abbrev cX0_want : ByteArray := prog_1_method_18_code
def yX0_want : MethodName := ⟨RX0, "want", "()I"⟩
def dkwX0_want_3 : List UInt8 := [100, 172]
abbrev dktX0_want_3 : List UInt8 := dkwX0_want_3 ++ []
def dkwX0_want_2 : List UInt8 := [180, 0, 33, 42, 180, 0, 121, 44, 83, 42, 89, 180, 0, 121, 4, 96, 181, 0, 121, 42, 180, 0, 121, 4]
abbrev dktX0_want_2 : List UInt8 := dkwX0_want_2 ++ dktX0_want_3
def dkwX0_want_1 : List UInt8 := [77, 42, 3, 181, 0, 193, 43, 180, 0, 205, 155, 0, 11, 16, 156, 43, 180, 0, 205, 100, 172, 42]
abbrev dktX0_want_1 : List UInt8 := dkwX0_want_1 ++ dktX0_want_2
def dkwX0_want_0 : List UInt8 := [42, 180, 0, 121, 7, 160, 0, 6, 16, 253, 172, 187, 0, 196, 89, 42, 183, 0, 198, 76, 43, 182, 0, 201]
abbrev dktX0_want_0 : List UInt8 := dkwX0_want_0 ++ dktX0_want_1
theorem dksX0_want_0 : cX0_want.data.toList.drop 0 = dktX0_want_0 := by decide +kernel
theorem dksX0_want_1 : cX0_want.data.toList.drop 24 = dktX0_want_1 := dk_seg dksX0_want_0 24 rfl rfl
theorem dksX0_want_2 : cX0_want.data.toList.drop 46 = dktX0_want_2 := dk_seg dksX0_want_1 22 rfl rfl
theorem dksX0_want_3 : cX0_want.data.toList.drop 70 = dktX0_want_3 := dk_seg dksX0_want_2 24 rfl rfl
theorem dX0_want_0 : decode cX0_want 0 = .ok (.aload_n 0, 1) := dk_42 (dk_at dksX0_want_0 0 rfl rfl)
theorem dX0_want_1 : decode cX0_want 1 = .ok (.getfield 121, 3) := dk_180 0 121 (dk_at dksX0_want_0 1 rfl rfl)
theorem dX0_want_4 : decode cX0_want 4 = .ok (.iconst 4, 1) := dk_7 (dk_at dksX0_want_0 4 rfl rfl)
theorem dX0_want_5 : decode cX0_want 5 = .ok (.if_icmp .ne 6, 3) := dk_160 0 6 (dk_at dksX0_want_0 5 rfl rfl)
theorem dX0_want_8 : decode cX0_want 8 = .ok (.bipush (-3), 2) := dk_16 253 (dk_at dksX0_want_0 8 rfl rfl)
theorem dX0_want_10 : decode cX0_want 10 = .ok (.ireturn, 1) := dk_172 (dk_at dksX0_want_0 10 rfl rfl)
theorem dX0_want_11 : decode cX0_want 11 = .ok (.new 196, 3) := dk_187 0 196 (dk_at dksX0_want_0 11 rfl rfl)
theorem dX0_want_14 : decode cX0_want 14 = .ok (.dup, 1) := dk_89 (dk_at dksX0_want_0 14 rfl rfl)
theorem dX0_want_15 : decode cX0_want 15 = .ok (.aload_n 0, 1) := dk_42 (dk_at dksX0_want_0 15 rfl rfl)
theorem dX0_want_16 : decode cX0_want 16 = .ok (.invokespecial 198, 3) := dk_183 0 198 (dk_at dksX0_want_0 16 rfl rfl)
theorem dX0_want_19 : decode cX0_want 19 = .ok (.astore_n 1, 1) := dk_76 (dk_at dksX0_want_0 19 rfl rfl)
theorem dX0_want_20 : decode cX0_want 20 = .ok (.aload_n 1, 1) := dk_43 (dk_at dksX0_want_0 20 rfl rfl)
theorem dX0_want_21 : decode cX0_want 21 = .ok (.invokevirtual 201, 3) := dk_182 0 201 (dk_at dksX0_want_0 21 rfl rfl)
theorem dX0_want_24 : decode cX0_want 24 = .ok (.astore_n 2, 1) := dk_77 (dk_at dksX0_want_1 0 rfl rfl)
theorem dX0_want_25 : decode cX0_want 25 = .ok (.aload_n 0, 1) := dk_42 (dk_at dksX0_want_1 1 rfl rfl)
theorem dX0_want_26 : decode cX0_want 26 = .ok (.iconst 0, 1) := dk_3 (dk_at dksX0_want_1 2 rfl rfl)
theorem dX0_want_27 : decode cX0_want 27 = .ok (.putfield 193, 3) := dk_181 0 193 (dk_at dksX0_want_1 3 rfl rfl)
theorem dX0_want_30 : decode cX0_want 30 = .ok (.aload_n 1, 1) := dk_43 (dk_at dksX0_want_1 6 rfl rfl)
theorem dX0_want_31 : decode cX0_want 31 = .ok (.getfield 205, 3) := dk_180 0 205 (dk_at dksX0_want_1 7 rfl rfl)
theorem dX0_want_34 : decode cX0_want 34 = .ok (.ifCond .lt 11, 3) := dk_155 0 11 (dk_at dksX0_want_1 10 rfl rfl)
theorem dX0_want_37 : decode cX0_want 37 = .ok (.bipush (-100), 2) := dk_16 156 (dk_at dksX0_want_1 13 rfl rfl)
theorem dX0_want_39 : decode cX0_want 39 = .ok (.aload_n 1, 1) := dk_43 (dk_at dksX0_want_1 15 rfl rfl)
theorem dX0_want_40 : decode cX0_want 40 = .ok (.getfield 205, 3) := dk_180 0 205 (dk_at dksX0_want_1 16 rfl rfl)
theorem dX0_want_43 : decode cX0_want 43 = .ok (.isub, 1) := dk_100 (dk_at dksX0_want_1 19 rfl rfl)
theorem dX0_want_44 : decode cX0_want 44 = .ok (.ireturn, 1) := dk_172 (dk_at dksX0_want_1 20 rfl rfl)
theorem dX0_want_45 : decode cX0_want 45 = .ok (.aload_n 0, 1) := dk_42 (dk_at dksX0_want_1 21 rfl rfl)
theorem dX0_want_46 : decode cX0_want 46 = .ok (.getfield 33, 3) := dk_180 0 33 (dk_at dksX0_want_2 0 rfl rfl)
theorem dX0_want_49 : decode cX0_want 49 = .ok (.aload_n 0, 1) := dk_42 (dk_at dksX0_want_2 3 rfl rfl)
theorem dX0_want_50 : decode cX0_want 50 = .ok (.getfield 121, 3) := dk_180 0 121 (dk_at dksX0_want_2 4 rfl rfl)
theorem dX0_want_53 : decode cX0_want 53 = .ok (.aload_n 2, 1) := dk_44 (dk_at dksX0_want_2 7 rfl rfl)
theorem dX0_want_54 : decode cX0_want 54 = .ok (.aastore, 1) := dk_83 (dk_at dksX0_want_2 8 rfl rfl)
theorem dX0_want_55 : decode cX0_want 55 = .ok (.aload_n 0, 1) := dk_42 (dk_at dksX0_want_2 9 rfl rfl)
theorem dX0_want_56 : decode cX0_want 56 = .ok (.dup, 1) := dk_89 (dk_at dksX0_want_2 10 rfl rfl)
theorem dX0_want_57 : decode cX0_want 57 = .ok (.getfield 121, 3) := dk_180 0 121 (dk_at dksX0_want_2 11 rfl rfl)
theorem dX0_want_60 : decode cX0_want 60 = .ok (.iconst 1, 1) := dk_4 (dk_at dksX0_want_2 14 rfl rfl)
theorem dX0_want_61 : decode cX0_want 61 = .ok (.iadd, 1) := dk_96 (dk_at dksX0_want_2 15 rfl rfl)
theorem dX0_want_62 : decode cX0_want 62 = .ok (.putfield 121, 3) := dk_181 0 121 (dk_at dksX0_want_2 16 rfl rfl)
theorem dX0_want_65 : decode cX0_want 65 = .ok (.aload_n 0, 1) := dk_42 (dk_at dksX0_want_2 19 rfl rfl)
theorem dX0_want_66 : decode cX0_want 66 = .ok (.getfield 121, 3) := dk_180 0 121 (dk_at dksX0_want_2 20 rfl rfl)
theorem dX0_want_69 : decode cX0_want 69 = .ok (.iconst 1, 1) := dk_4 (dk_at dksX0_want_2 23 rfl rfl)
theorem dX0_want_70 : decode cX0_want 70 = .ok (.isub, 1) := dk_100 (dk_at dksX0_want_3 0 rfl rfl)
theorem dX0_want_71 : decode cX0_want 71 = .ok (.ireturn, 1) := dk_172 (dk_at dksX0_want_3 1 rfl rfl)
abbrev cX0_worth : ByteArray := prog_1_method_20_code
def yX0_worth : MethodName := ⟨RX0, "worth", "(II)I"⟩
def dkwX0_worth_2 : List UInt8 := [167, 0, 4, 2, 172]
abbrev dktX0_worth_2 : List UInt8 := dkwX0_worth_2 ++ []
def dkwX0_worth_1 : List UInt8 := [16, 10, 112, 4, 6, 184, 0, 91, 153, 0, 19, 42, 27, 28, 16, 10, 108, 28, 16, 10, 112, 182, 0, 239]
abbrev dktX0_worth_1 : List UInt8 := dkwX0_worth_1 ++ dktX0_worth_2
def dkwX0_worth_0 : List UInt8 := [42, 27, 182, 0, 127, 153, 0, 46, 28, 155, 0, 42, 42, 28, 16, 10, 108, 182, 0, 146, 153, 0, 31, 28]
abbrev dktX0_worth_0 : List UInt8 := dkwX0_worth_0 ++ dktX0_worth_1
theorem dksX0_worth_0 : cX0_worth.data.toList.drop 0 = dktX0_worth_0 := by decide +kernel
theorem dksX0_worth_1 : cX0_worth.data.toList.drop 24 = dktX0_worth_1 := dk_seg dksX0_worth_0 24 rfl rfl
theorem dksX0_worth_2 : cX0_worth.data.toList.drop 48 = dktX0_worth_2 := dk_seg dksX0_worth_1 24 rfl rfl
theorem dX0_worth_0 : decode cX0_worth 0 = .ok (.aload_n 0, 1) := dk_42 (dk_at dksX0_worth_0 0 rfl rfl)
theorem dX0_worth_1 : decode cX0_worth 1 = .ok (.iload_n 1, 1) := dk_27 (dk_at dksX0_worth_0 1 rfl rfl)
theorem dX0_worth_2 : decode cX0_worth 2 = .ok (.invokevirtual 127, 3) := dk_182 0 127 (dk_at dksX0_worth_0 2 rfl rfl)
theorem dX0_worth_5 : decode cX0_worth 5 = .ok (.ifCond .eq 46, 3) := dk_153 0 46 (dk_at dksX0_worth_0 5 rfl rfl)
theorem dX0_worth_8 : decode cX0_worth 8 = .ok (.iload_n 2, 1) := dk_28 (dk_at dksX0_worth_0 8 rfl rfl)
theorem dX0_worth_9 : decode cX0_worth 9 = .ok (.ifCond .lt 42, 3) := dk_155 0 42 (dk_at dksX0_worth_0 9 rfl rfl)
theorem dX0_worth_12 : decode cX0_worth 12 = .ok (.aload_n 0, 1) := dk_42 (dk_at dksX0_worth_0 12 rfl rfl)
theorem dX0_worth_13 : decode cX0_worth 13 = .ok (.iload_n 2, 1) := dk_28 (dk_at dksX0_worth_0 13 rfl rfl)
theorem dX0_worth_14 : decode cX0_worth 14 = .ok (.bipush 10, 2) := dk_16 10 (dk_at dksX0_worth_0 14 rfl rfl)
theorem dX0_worth_16 : decode cX0_worth 16 = .ok (.idiv, 1) := dk_108 (dk_at dksX0_worth_0 16 rfl rfl)
theorem dX0_worth_17 : decode cX0_worth 17 = .ok (.invokevirtual 146, 3) := dk_182 0 146 (dk_at dksX0_worth_0 17 rfl rfl)
theorem dX0_worth_20 : decode cX0_worth 20 = .ok (.ifCond .eq 31, 3) := dk_153 0 31 (dk_at dksX0_worth_0 20 rfl rfl)
theorem dX0_worth_23 : decode cX0_worth 23 = .ok (.iload_n 2, 1) := dk_28 (dk_at dksX0_worth_0 23 rfl rfl)
theorem dX0_worth_24 : decode cX0_worth 24 = .ok (.bipush 10, 2) := dk_16 10 (dk_at dksX0_worth_1 0 rfl rfl)
theorem dX0_worth_26 : decode cX0_worth 26 = .ok (.irem, 1) := dk_112 (dk_at dksX0_worth_1 2 rfl rfl)
theorem dX0_worth_27 : decode cX0_worth 27 = .ok (.iconst 1, 1) := dk_4 (dk_at dksX0_worth_1 3 rfl rfl)
theorem dX0_worth_28 : decode cX0_worth 28 = .ok (.iconst 3, 1) := dk_6 (dk_at dksX0_worth_1 4 rfl rfl)
theorem dX0_worth_29 : decode cX0_worth 29 = .ok (.invokestatic 91, 3) := dk_184 0 91 (dk_at dksX0_worth_1 5 rfl rfl)
theorem dX0_worth_32 : decode cX0_worth 32 = .ok (.ifCond .eq 19, 3) := dk_153 0 19 (dk_at dksX0_worth_1 8 rfl rfl)
theorem dX0_worth_35 : decode cX0_worth 35 = .ok (.aload_n 0, 1) := dk_42 (dk_at dksX0_worth_1 11 rfl rfl)
theorem dX0_worth_36 : decode cX0_worth 36 = .ok (.iload_n 1, 1) := dk_27 (dk_at dksX0_worth_1 12 rfl rfl)
theorem dX0_worth_37 : decode cX0_worth 37 = .ok (.iload_n 2, 1) := dk_28 (dk_at dksX0_worth_1 13 rfl rfl)
theorem dX0_worth_38 : decode cX0_worth 38 = .ok (.bipush 10, 2) := dk_16 10 (dk_at dksX0_worth_1 14 rfl rfl)
theorem dX0_worth_40 : decode cX0_worth 40 = .ok (.idiv, 1) := dk_108 (dk_at dksX0_worth_1 16 rfl rfl)
theorem dX0_worth_41 : decode cX0_worth 41 = .ok (.iload_n 2, 1) := dk_28 (dk_at dksX0_worth_1 17 rfl rfl)
theorem dX0_worth_42 : decode cX0_worth 42 = .ok (.bipush 10, 2) := dk_16 10 (dk_at dksX0_worth_1 18 rfl rfl)
theorem dX0_worth_44 : decode cX0_worth 44 = .ok (.irem, 1) := dk_112 (dk_at dksX0_worth_1 20 rfl rfl)
theorem dX0_worth_45 : decode cX0_worth 45 = .ok (.invokevirtual 239, 3) := dk_182 0 239 (dk_at dksX0_worth_1 21 rfl rfl)
theorem dX0_worth_48 : decode cX0_worth 48 = .ok (.goto 4, 3) := dk_167 0 4 (dk_at dksX0_worth_2 0 rfl rfl)
theorem dX0_worth_51 : decode cX0_worth 51 = .ok (.iconst (-1), 1) := dk_2 (dk_at dksX0_worth_2 3 rfl rfl)
theorem dX0_worth_52 : decode cX0_worth 52 = .ok (.ireturn, 1) := dk_172 (dk_at dksX0_worth_2 4 rfl rfl)
abbrev cX0_worthOf : ByteArray := prog_1_method_19_code
def yX0_worthOf : MethodName := ⟨RX0, "worthOf", "(III)I"⟩
def dkwX0_worthOf_8 : List UInt8 := [3, 172]
abbrev dktX0_worthOf_8 : List UInt8 := dkwX0_worthOf_8 ++ []
def dkwX0_worthOf_7 : List UInt8 := [42, 180, 0, 40, 182, 0, 218, 184, 0, 227, 184, 0, 232, 172, 25, 4, 180, 0, 235, 58, 4, 167, 255, 198]
abbrev dktX0_worthOf_7 : List UInt8 := dkwX0_worthOf_7 ++ dktX0_worthOf_8
def dkwX0_worthOf_6 : List UInt8 := [25, 4, 180, 0, 214, 42, 180, 0, 40, 182, 0, 218, 153, 0, 26, 3, 17, 3, 231, 25, 4, 180, 0, 224]
abbrev dktX0_worthOf_6 : List UInt8 := dkwX0_worthOf_6 ++ dktX0_worthOf_7
def dkwX0_worthOf_5 : List UInt8 := [180, 0, 17, 27, 50, 180, 0, 143, 50, 58, 4, 25, 4, 198, 0, 59, 25, 4, 180, 0, 214, 198, 0, 18]
abbrev dktX0_worthOf_5 : List UInt8 := dkwX0_worthOf_5 ++ dktX0_worthOf_6
def dkwX0_worthOf_4 : List UInt8 := [50, 180, 0, 140, 79, 42, 180, 0, 40, 180, 0, 211, 16, 110, 42, 180, 0, 87, 79, 42, 180, 0, 33, 42]
abbrev dktX0_worthOf_4 : List UInt8 := dkwX0_worthOf_4 ++ dktX0_worthOf_5
def dkwX0_worthOf_3 : List UInt8 := [180, 0, 40, 180, 0, 211, 16, 115, 27, 79, 42, 180, 0, 40, 180, 0, 211, 16, 98, 42, 180, 0, 17, 27]
abbrev dktX0_worthOf_3 : List UInt8 := dkwX0_worthOf_3 ++ dktX0_worthOf_4
def dkwX0_worthOf_2 : List UInt8 := [180, 0, 152, 79, 42, 180, 0, 40, 180, 0, 211, 16, 112, 42, 180, 0, 11, 28, 50, 180, 0, 155, 79, 42]
abbrev dktX0_worthOf_2 : List UInt8 := dkwX0_worthOf_2 ++ dktX0_worthOf_3
def dkwX0_worthOf_1 : List UInt8 := [180, 0, 211, 16, 107, 29, 79, 42, 180, 0, 40, 180, 0, 211, 16, 99, 42, 180, 0, 11, 28, 50]
abbrev dktX0_worthOf_1 : List UInt8 := dkwX0_worthOf_1 ++ dktX0_worthOf_2
def dkwX0_worthOf_0 : List UInt8 := [42, 180, 0, 40, 182, 0, 208, 42, 180, 0, 40, 180, 0, 211, 16, 116, 28, 79, 42, 180, 0, 40]
abbrev dktX0_worthOf_0 : List UInt8 := dkwX0_worthOf_0 ++ dktX0_worthOf_1
theorem dksX0_worthOf_0 : cX0_worthOf.data.toList.drop 0 = dktX0_worthOf_0 := by decide +kernel
theorem dksX0_worthOf_1 : cX0_worthOf.data.toList.drop 22 = dktX0_worthOf_1 := dk_seg dksX0_worthOf_0 22 rfl rfl
theorem dksX0_worthOf_2 : cX0_worthOf.data.toList.drop 44 = dktX0_worthOf_2 := dk_seg dksX0_worthOf_1 22 rfl rfl
theorem dksX0_worthOf_3 : cX0_worthOf.data.toList.drop 68 = dktX0_worthOf_3 := dk_seg dksX0_worthOf_2 24 rfl rfl
theorem dksX0_worthOf_4 : cX0_worthOf.data.toList.drop 92 = dktX0_worthOf_4 := dk_seg dksX0_worthOf_3 24 rfl rfl
theorem dksX0_worthOf_5 : cX0_worthOf.data.toList.drop 116 = dktX0_worthOf_5 := dk_seg dksX0_worthOf_4 24 rfl rfl
theorem dksX0_worthOf_6 : cX0_worthOf.data.toList.drop 140 = dktX0_worthOf_6 := dk_seg dksX0_worthOf_5 24 rfl rfl
theorem dksX0_worthOf_7 : cX0_worthOf.data.toList.drop 164 = dktX0_worthOf_7 := dk_seg dksX0_worthOf_6 24 rfl rfl
theorem dksX0_worthOf_8 : cX0_worthOf.data.toList.drop 188 = dktX0_worthOf_8 := dk_seg dksX0_worthOf_7 24 rfl rfl
theorem dX0_worthOf_0 : decode cX0_worthOf 0 = .ok (.aload_n 0, 1) := dk_42 (dk_at dksX0_worthOf_0 0 rfl rfl)
theorem dX0_worthOf_1 : decode cX0_worthOf 1 = .ok (.getfield 40, 3) := dk_180 0 40 (dk_at dksX0_worthOf_0 1 rfl rfl)
theorem dX0_worthOf_4 : decode cX0_worthOf 4 = .ok (.invokevirtual 208, 3) := dk_182 0 208 (dk_at dksX0_worthOf_0 4 rfl rfl)
theorem dX0_worthOf_7 : decode cX0_worthOf 7 = .ok (.aload_n 0, 1) := dk_42 (dk_at dksX0_worthOf_0 7 rfl rfl)
theorem dX0_worthOf_8 : decode cX0_worthOf 8 = .ok (.getfield 40, 3) := dk_180 0 40 (dk_at dksX0_worthOf_0 8 rfl rfl)
theorem dX0_worthOf_11 : decode cX0_worthOf 11 = .ok (.getfield 211, 3) := dk_180 0 211 (dk_at dksX0_worthOf_0 11 rfl rfl)
theorem dX0_worthOf_14 : decode cX0_worthOf 14 = .ok (.bipush 116, 2) := dk_16 116 (dk_at dksX0_worthOf_0 14 rfl rfl)
theorem dX0_worthOf_16 : decode cX0_worthOf 16 = .ok (.iload_n 2, 1) := dk_28 (dk_at dksX0_worthOf_0 16 rfl rfl)
theorem dX0_worthOf_17 : decode cX0_worthOf 17 = .ok (.iastore, 1) := dk_79 (dk_at dksX0_worthOf_0 17 rfl rfl)
theorem dX0_worthOf_18 : decode cX0_worthOf 18 = .ok (.aload_n 0, 1) := dk_42 (dk_at dksX0_worthOf_0 18 rfl rfl)
theorem dX0_worthOf_19 : decode cX0_worthOf 19 = .ok (.getfield 40, 3) := dk_180 0 40 (dk_at dksX0_worthOf_0 19 rfl rfl)
theorem dX0_worthOf_22 : decode cX0_worthOf 22 = .ok (.getfield 211, 3) := dk_180 0 211 (dk_at dksX0_worthOf_1 0 rfl rfl)
theorem dX0_worthOf_25 : decode cX0_worthOf 25 = .ok (.bipush 107, 2) := dk_16 107 (dk_at dksX0_worthOf_1 3 rfl rfl)
theorem dX0_worthOf_27 : decode cX0_worthOf 27 = .ok (.iload_n 3, 1) := dk_29 (dk_at dksX0_worthOf_1 5 rfl rfl)
theorem dX0_worthOf_28 : decode cX0_worthOf 28 = .ok (.iastore, 1) := dk_79 (dk_at dksX0_worthOf_1 6 rfl rfl)
theorem dX0_worthOf_29 : decode cX0_worthOf 29 = .ok (.aload_n 0, 1) := dk_42 (dk_at dksX0_worthOf_1 7 rfl rfl)
theorem dX0_worthOf_30 : decode cX0_worthOf 30 = .ok (.getfield 40, 3) := dk_180 0 40 (dk_at dksX0_worthOf_1 8 rfl rfl)
theorem dX0_worthOf_33 : decode cX0_worthOf 33 = .ok (.getfield 211, 3) := dk_180 0 211 (dk_at dksX0_worthOf_1 11 rfl rfl)
theorem dX0_worthOf_36 : decode cX0_worthOf 36 = .ok (.bipush 99, 2) := dk_16 99 (dk_at dksX0_worthOf_1 14 rfl rfl)
theorem dX0_worthOf_38 : decode cX0_worthOf 38 = .ok (.aload_n 0, 1) := dk_42 (dk_at dksX0_worthOf_1 16 rfl rfl)
theorem dX0_worthOf_39 : decode cX0_worthOf 39 = .ok (.getfield 11, 3) := dk_180 0 11 (dk_at dksX0_worthOf_1 17 rfl rfl)
theorem dX0_worthOf_42 : decode cX0_worthOf 42 = .ok (.iload_n 2, 1) := dk_28 (dk_at dksX0_worthOf_1 20 rfl rfl)
theorem dX0_worthOf_43 : decode cX0_worthOf 43 = .ok (.aaload, 1) := dk_50 (dk_at dksX0_worthOf_1 21 rfl rfl)
theorem dX0_worthOf_44 : decode cX0_worthOf 44 = .ok (.getfield 152, 3) := dk_180 0 152 (dk_at dksX0_worthOf_2 0 rfl rfl)
theorem dX0_worthOf_47 : decode cX0_worthOf 47 = .ok (.iastore, 1) := dk_79 (dk_at dksX0_worthOf_2 3 rfl rfl)
theorem dX0_worthOf_48 : decode cX0_worthOf 48 = .ok (.aload_n 0, 1) := dk_42 (dk_at dksX0_worthOf_2 4 rfl rfl)
theorem dX0_worthOf_49 : decode cX0_worthOf 49 = .ok (.getfield 40, 3) := dk_180 0 40 (dk_at dksX0_worthOf_2 5 rfl rfl)
theorem dX0_worthOf_52 : decode cX0_worthOf 52 = .ok (.getfield 211, 3) := dk_180 0 211 (dk_at dksX0_worthOf_2 8 rfl rfl)
theorem dX0_worthOf_55 : decode cX0_worthOf 55 = .ok (.bipush 112, 2) := dk_16 112 (dk_at dksX0_worthOf_2 11 rfl rfl)
theorem dX0_worthOf_57 : decode cX0_worthOf 57 = .ok (.aload_n 0, 1) := dk_42 (dk_at dksX0_worthOf_2 13 rfl rfl)
theorem dX0_worthOf_58 : decode cX0_worthOf 58 = .ok (.getfield 11, 3) := dk_180 0 11 (dk_at dksX0_worthOf_2 14 rfl rfl)
theorem dX0_worthOf_61 : decode cX0_worthOf 61 = .ok (.iload_n 2, 1) := dk_28 (dk_at dksX0_worthOf_2 17 rfl rfl)
theorem dX0_worthOf_62 : decode cX0_worthOf 62 = .ok (.aaload, 1) := dk_50 (dk_at dksX0_worthOf_2 18 rfl rfl)
theorem dX0_worthOf_63 : decode cX0_worthOf 63 = .ok (.getfield 155, 3) := dk_180 0 155 (dk_at dksX0_worthOf_2 19 rfl rfl)
theorem dX0_worthOf_66 : decode cX0_worthOf 66 = .ok (.iastore, 1) := dk_79 (dk_at dksX0_worthOf_2 22 rfl rfl)
theorem dX0_worthOf_67 : decode cX0_worthOf 67 = .ok (.aload_n 0, 1) := dk_42 (dk_at dksX0_worthOf_2 23 rfl rfl)
theorem dX0_worthOf_68 : decode cX0_worthOf 68 = .ok (.getfield 40, 3) := dk_180 0 40 (dk_at dksX0_worthOf_3 0 rfl rfl)
theorem dX0_worthOf_71 : decode cX0_worthOf 71 = .ok (.getfield 211, 3) := dk_180 0 211 (dk_at dksX0_worthOf_3 3 rfl rfl)
theorem dX0_worthOf_74 : decode cX0_worthOf 74 = .ok (.bipush 115, 2) := dk_16 115 (dk_at dksX0_worthOf_3 6 rfl rfl)
theorem dX0_worthOf_76 : decode cX0_worthOf 76 = .ok (.iload_n 1, 1) := dk_27 (dk_at dksX0_worthOf_3 8 rfl rfl)
theorem dX0_worthOf_77 : decode cX0_worthOf 77 = .ok (.iastore, 1) := dk_79 (dk_at dksX0_worthOf_3 9 rfl rfl)
theorem dX0_worthOf_78 : decode cX0_worthOf 78 = .ok (.aload_n 0, 1) := dk_42 (dk_at dksX0_worthOf_3 10 rfl rfl)
theorem dX0_worthOf_79 : decode cX0_worthOf 79 = .ok (.getfield 40, 3) := dk_180 0 40 (dk_at dksX0_worthOf_3 11 rfl rfl)
theorem dX0_worthOf_82 : decode cX0_worthOf 82 = .ok (.getfield 211, 3) := dk_180 0 211 (dk_at dksX0_worthOf_3 14 rfl rfl)
theorem dX0_worthOf_85 : decode cX0_worthOf 85 = .ok (.bipush 98, 2) := dk_16 98 (dk_at dksX0_worthOf_3 17 rfl rfl)
theorem dX0_worthOf_87 : decode cX0_worthOf 87 = .ok (.aload_n 0, 1) := dk_42 (dk_at dksX0_worthOf_3 19 rfl rfl)
theorem dX0_worthOf_88 : decode cX0_worthOf 88 = .ok (.getfield 17, 3) := dk_180 0 17 (dk_at dksX0_worthOf_3 20 rfl rfl)
theorem dX0_worthOf_91 : decode cX0_worthOf 91 = .ok (.iload_n 1, 1) := dk_27 (dk_at dksX0_worthOf_3 23 rfl rfl)
theorem dX0_worthOf_92 : decode cX0_worthOf 92 = .ok (.aaload, 1) := dk_50 (dk_at dksX0_worthOf_4 0 rfl rfl)
theorem dX0_worthOf_93 : decode cX0_worthOf 93 = .ok (.getfield 140, 3) := dk_180 0 140 (dk_at dksX0_worthOf_4 1 rfl rfl)
theorem dX0_worthOf_96 : decode cX0_worthOf 96 = .ok (.iastore, 1) := dk_79 (dk_at dksX0_worthOf_4 4 rfl rfl)
theorem dX0_worthOf_97 : decode cX0_worthOf 97 = .ok (.aload_n 0, 1) := dk_42 (dk_at dksX0_worthOf_4 5 rfl rfl)
theorem dX0_worthOf_98 : decode cX0_worthOf 98 = .ok (.getfield 40, 3) := dk_180 0 40 (dk_at dksX0_worthOf_4 6 rfl rfl)
theorem dX0_worthOf_101 : decode cX0_worthOf 101 = .ok (.getfield 211, 3) := dk_180 0 211 (dk_at dksX0_worthOf_4 9 rfl rfl)
theorem dX0_worthOf_104 : decode cX0_worthOf 104 = .ok (.bipush 110, 2) := dk_16 110 (dk_at dksX0_worthOf_4 12 rfl rfl)
theorem dX0_worthOf_106 : decode cX0_worthOf 106 = .ok (.aload_n 0, 1) := dk_42 (dk_at dksX0_worthOf_4 14 rfl rfl)
theorem dX0_worthOf_107 : decode cX0_worthOf 107 = .ok (.getfield 87, 3) := dk_180 0 87 (dk_at dksX0_worthOf_4 15 rfl rfl)
theorem dX0_worthOf_110 : decode cX0_worthOf 110 = .ok (.iastore, 1) := dk_79 (dk_at dksX0_worthOf_4 18 rfl rfl)
theorem dX0_worthOf_111 : decode cX0_worthOf 111 = .ok (.aload_n 0, 1) := dk_42 (dk_at dksX0_worthOf_4 19 rfl rfl)
theorem dX0_worthOf_112 : decode cX0_worthOf 112 = .ok (.getfield 33, 3) := dk_180 0 33 (dk_at dksX0_worthOf_4 20 rfl rfl)
theorem dX0_worthOf_115 : decode cX0_worthOf 115 = .ok (.aload_n 0, 1) := dk_42 (dk_at dksX0_worthOf_4 23 rfl rfl)
theorem dX0_worthOf_116 : decode cX0_worthOf 116 = .ok (.getfield 17, 3) := dk_180 0 17 (dk_at dksX0_worthOf_5 0 rfl rfl)
theorem dX0_worthOf_119 : decode cX0_worthOf 119 = .ok (.iload_n 1, 1) := dk_27 (dk_at dksX0_worthOf_5 3 rfl rfl)
theorem dX0_worthOf_120 : decode cX0_worthOf 120 = .ok (.aaload, 1) := dk_50 (dk_at dksX0_worthOf_5 4 rfl rfl)
theorem dX0_worthOf_121 : decode cX0_worthOf 121 = .ok (.getfield 143, 3) := dk_180 0 143 (dk_at dksX0_worthOf_5 5 rfl rfl)
theorem dX0_worthOf_124 : decode cX0_worthOf 124 = .ok (.aaload, 1) := dk_50 (dk_at dksX0_worthOf_5 8 rfl rfl)
theorem dX0_worthOf_125 : decode cX0_worthOf 125 = .ok (.astore 4, 2) := dk_58 4 (dk_at dksX0_worthOf_5 9 rfl rfl)
theorem dX0_worthOf_127 : decode cX0_worthOf 127 = .ok (.aload 4, 2) := dk_25 4 (dk_at dksX0_worthOf_5 11 rfl rfl)
theorem dX0_worthOf_129 : decode cX0_worthOf 129 = .ok (.ifnull 59, 3) := dk_198 0 59 (dk_at dksX0_worthOf_5 13 rfl rfl)
theorem dX0_worthOf_132 : decode cX0_worthOf 132 = .ok (.aload 4, 2) := dk_25 4 (dk_at dksX0_worthOf_5 16 rfl rfl)
theorem dX0_worthOf_134 : decode cX0_worthOf 134 = .ok (.getfield 214, 3) := dk_180 0 214 (dk_at dksX0_worthOf_5 18 rfl rfl)
theorem dX0_worthOf_137 : decode cX0_worthOf 137 = .ok (.ifnull 18, 3) := dk_198 0 18 (dk_at dksX0_worthOf_5 21 rfl rfl)
theorem dX0_worthOf_140 : decode cX0_worthOf 140 = .ok (.aload 4, 2) := dk_25 4 (dk_at dksX0_worthOf_6 0 rfl rfl)
theorem dX0_worthOf_142 : decode cX0_worthOf 142 = .ok (.getfield 214, 3) := dk_180 0 214 (dk_at dksX0_worthOf_6 2 rfl rfl)
theorem dX0_worthOf_145 : decode cX0_worthOf 145 = .ok (.aload_n 0, 1) := dk_42 (dk_at dksX0_worthOf_6 5 rfl rfl)
theorem dX0_worthOf_146 : decode cX0_worthOf 146 = .ok (.getfield 40, 3) := dk_180 0 40 (dk_at dksX0_worthOf_6 6 rfl rfl)
theorem dX0_worthOf_149 : decode cX0_worthOf 149 = .ok (.invokevirtual 218, 3) := dk_182 0 218 (dk_at dksX0_worthOf_6 9 rfl rfl)
theorem dX0_worthOf_152 : decode cX0_worthOf 152 = .ok (.ifCond .eq 26, 3) := dk_153 0 26 (dk_at dksX0_worthOf_6 12 rfl rfl)
theorem dX0_worthOf_155 : decode cX0_worthOf 155 = .ok (.iconst 0, 1) := dk_3 (dk_at dksX0_worthOf_6 15 rfl rfl)
theorem dX0_worthOf_156 : decode cX0_worthOf 156 = .ok (.sipush 999, 3) := dk_17 3 231 (dk_at dksX0_worthOf_6 16 rfl rfl)
theorem dX0_worthOf_159 : decode cX0_worthOf 159 = .ok (.aload 4, 2) := dk_25 4 (dk_at dksX0_worthOf_6 19 rfl rfl)
theorem dX0_worthOf_161 : decode cX0_worthOf 161 = .ok (.getfield 224, 3) := dk_180 0 224 (dk_at dksX0_worthOf_6 21 rfl rfl)
theorem dX0_worthOf_164 : decode cX0_worthOf 164 = .ok (.aload_n 0, 1) := dk_42 (dk_at dksX0_worthOf_7 0 rfl rfl)
theorem dX0_worthOf_165 : decode cX0_worthOf 165 = .ok (.getfield 40, 3) := dk_180 0 40 (dk_at dksX0_worthOf_7 1 rfl rfl)
theorem dX0_worthOf_168 : decode cX0_worthOf 168 = .ok (.invokevirtual 218, 3) := dk_182 0 218 (dk_at dksX0_worthOf_7 4 rfl rfl)
theorem dX0_worthOf_171 : decode cX0_worthOf 171 = .ok (.invokestatic 227, 3) := dk_184 0 227 (dk_at dksX0_worthOf_7 7 rfl rfl)
theorem dX0_worthOf_174 : decode cX0_worthOf 174 = .ok (.invokestatic 232, 3) := dk_184 0 232 (dk_at dksX0_worthOf_7 10 rfl rfl)
theorem dX0_worthOf_177 : decode cX0_worthOf 177 = .ok (.ireturn, 1) := dk_172 (dk_at dksX0_worthOf_7 13 rfl rfl)
theorem dX0_worthOf_178 : decode cX0_worthOf 178 = .ok (.aload 4, 2) := dk_25 4 (dk_at dksX0_worthOf_7 14 rfl rfl)
theorem dX0_worthOf_180 : decode cX0_worthOf 180 = .ok (.getfield 235, 3) := dk_180 0 235 (dk_at dksX0_worthOf_7 16 rfl rfl)
theorem dX0_worthOf_183 : decode cX0_worthOf 183 = .ok (.astore 4, 2) := dk_58 4 (dk_at dksX0_worthOf_7 19 rfl rfl)
theorem dX0_worthOf_185 : decode cX0_worthOf 185 = .ok (.goto (-58), 3) := dk_167 255 198 (dk_at dksX0_worthOf_7 21 rfl rfl)
theorem dX0_worthOf_188 : decode cX0_worthOf 188 = .ok (.iconst 0, 1) := dk_3 (dk_at dksX0_worthOf_8 0 rfl rfl)
theorem dX0_worthOf_189 : decode cX0_worthOf 189 = .ok (.ireturn, 1) := dk_172 (dk_at dksX0_worthOf_8 1 rfl rfl)
abbrev cX0_basket : ByteArray := prog_1_method_28_code
def yX0_basket : MethodName := ⟨RX0, "basket", "(II)I"⟩
def dkwX0_basket_2 : List UInt8 := [167, 0, 23, 28, 5, 160, 0, 12, 42, 180, 0, 48, 29, 46, 167, 0, 9, 42, 180, 0, 51, 29, 46, 172]
abbrev dktX0_basket_2 : List UInt8 := dkwX0_basket_2 ++ []
def dkwX0_basket_1 : List UInt8 := [62, 28, 154, 0, 11, 42, 29, 182, 1, 3, 167, 0, 37, 28, 4, 160, 0, 12, 42, 180, 0, 44, 29, 46]
abbrev dktX0_basket_1 : List UInt8 := dkwX0_basket_1 ++ dktX0_basket_2
def dkwX0_basket_0 : List UInt8 := [42, 27, 182, 0, 127, 153, 0, 12, 28, 3, 6, 184, 0, 91, 154, 0, 5, 2, 172, 42, 27, 182, 0, 255]
abbrev dktX0_basket_0 : List UInt8 := dkwX0_basket_0 ++ dktX0_basket_1
theorem dksX0_basket_0 : cX0_basket.data.toList.drop 0 = dktX0_basket_0 := by decide +kernel
theorem dksX0_basket_1 : cX0_basket.data.toList.drop 24 = dktX0_basket_1 := dk_seg dksX0_basket_0 24 rfl rfl
theorem dksX0_basket_2 : cX0_basket.data.toList.drop 48 = dktX0_basket_2 := dk_seg dksX0_basket_1 24 rfl rfl
theorem dX0_basket_0 : decode cX0_basket 0 = .ok (.aload_n 0, 1) := dk_42 (dk_at dksX0_basket_0 0 rfl rfl)
theorem dX0_basket_1 : decode cX0_basket 1 = .ok (.iload_n 1, 1) := dk_27 (dk_at dksX0_basket_0 1 rfl rfl)
theorem dX0_basket_2 : decode cX0_basket 2 = .ok (.invokevirtual 127, 3) := dk_182 0 127 (dk_at dksX0_basket_0 2 rfl rfl)
theorem dX0_basket_5 : decode cX0_basket 5 = .ok (.ifCond .eq 12, 3) := dk_153 0 12 (dk_at dksX0_basket_0 5 rfl rfl)
theorem dX0_basket_8 : decode cX0_basket 8 = .ok (.iload_n 2, 1) := dk_28 (dk_at dksX0_basket_0 8 rfl rfl)
theorem dX0_basket_9 : decode cX0_basket 9 = .ok (.iconst 0, 1) := dk_3 (dk_at dksX0_basket_0 9 rfl rfl)
theorem dX0_basket_10 : decode cX0_basket 10 = .ok (.iconst 3, 1) := dk_6 (dk_at dksX0_basket_0 10 rfl rfl)
theorem dX0_basket_11 : decode cX0_basket 11 = .ok (.invokestatic 91, 3) := dk_184 0 91 (dk_at dksX0_basket_0 11 rfl rfl)
theorem dX0_basket_14 : decode cX0_basket 14 = .ok (.ifCond .ne 5, 3) := dk_154 0 5 (dk_at dksX0_basket_0 14 rfl rfl)
theorem dX0_basket_17 : decode cX0_basket 17 = .ok (.iconst (-1), 1) := dk_2 (dk_at dksX0_basket_0 17 rfl rfl)
theorem dX0_basket_18 : decode cX0_basket 18 = .ok (.ireturn, 1) := dk_172 (dk_at dksX0_basket_0 18 rfl rfl)
theorem dX0_basket_19 : decode cX0_basket 19 = .ok (.aload_n 0, 1) := dk_42 (dk_at dksX0_basket_0 19 rfl rfl)
theorem dX0_basket_20 : decode cX0_basket 20 = .ok (.iload_n 1, 1) := dk_27 (dk_at dksX0_basket_0 20 rfl rfl)
theorem dX0_basket_21 : decode cX0_basket 21 = .ok (.invokevirtual 255, 3) := dk_182 0 255 (dk_at dksX0_basket_0 21 rfl rfl)
theorem dX0_basket_24 : decode cX0_basket 24 = .ok (.istore_n 3, 1) := dk_62 (dk_at dksX0_basket_1 0 rfl rfl)
theorem dX0_basket_25 : decode cX0_basket 25 = .ok (.iload_n 2, 1) := dk_28 (dk_at dksX0_basket_1 1 rfl rfl)
theorem dX0_basket_26 : decode cX0_basket 26 = .ok (.ifCond .ne 11, 3) := dk_154 0 11 (dk_at dksX0_basket_1 2 rfl rfl)
theorem dX0_basket_29 : decode cX0_basket 29 = .ok (.aload_n 0, 1) := dk_42 (dk_at dksX0_basket_1 5 rfl rfl)
theorem dX0_basket_30 : decode cX0_basket 30 = .ok (.iload_n 3, 1) := dk_29 (dk_at dksX0_basket_1 6 rfl rfl)
theorem dX0_basket_31 : decode cX0_basket 31 = .ok (.invokevirtual 259, 3) := dk_182 1 3 (dk_at dksX0_basket_1 7 rfl rfl)
theorem dX0_basket_34 : decode cX0_basket 34 = .ok (.goto 37, 3) := dk_167 0 37 (dk_at dksX0_basket_1 10 rfl rfl)
theorem dX0_basket_37 : decode cX0_basket 37 = .ok (.iload_n 2, 1) := dk_28 (dk_at dksX0_basket_1 13 rfl rfl)
theorem dX0_basket_38 : decode cX0_basket 38 = .ok (.iconst 1, 1) := dk_4 (dk_at dksX0_basket_1 14 rfl rfl)
theorem dX0_basket_39 : decode cX0_basket 39 = .ok (.if_icmp .ne 12, 3) := dk_160 0 12 (dk_at dksX0_basket_1 15 rfl rfl)
theorem dX0_basket_42 : decode cX0_basket 42 = .ok (.aload_n 0, 1) := dk_42 (dk_at dksX0_basket_1 18 rfl rfl)
theorem dX0_basket_43 : decode cX0_basket 43 = .ok (.getfield 44, 3) := dk_180 0 44 (dk_at dksX0_basket_1 19 rfl rfl)
theorem dX0_basket_46 : decode cX0_basket 46 = .ok (.iload_n 3, 1) := dk_29 (dk_at dksX0_basket_1 22 rfl rfl)
theorem dX0_basket_47 : decode cX0_basket 47 = .ok (.iaload, 1) := dk_46 (dk_at dksX0_basket_1 23 rfl rfl)
theorem dX0_basket_48 : decode cX0_basket 48 = .ok (.goto 23, 3) := dk_167 0 23 (dk_at dksX0_basket_2 0 rfl rfl)
theorem dX0_basket_51 : decode cX0_basket 51 = .ok (.iload_n 2, 1) := dk_28 (dk_at dksX0_basket_2 3 rfl rfl)
theorem dX0_basket_52 : decode cX0_basket 52 = .ok (.iconst 2, 1) := dk_5 (dk_at dksX0_basket_2 4 rfl rfl)
theorem dX0_basket_53 : decode cX0_basket 53 = .ok (.if_icmp .ne 12, 3) := dk_160 0 12 (dk_at dksX0_basket_2 5 rfl rfl)
theorem dX0_basket_56 : decode cX0_basket 56 = .ok (.aload_n 0, 1) := dk_42 (dk_at dksX0_basket_2 8 rfl rfl)
theorem dX0_basket_57 : decode cX0_basket 57 = .ok (.getfield 48, 3) := dk_180 0 48 (dk_at dksX0_basket_2 9 rfl rfl)
theorem dX0_basket_60 : decode cX0_basket 60 = .ok (.iload_n 3, 1) := dk_29 (dk_at dksX0_basket_2 12 rfl rfl)
theorem dX0_basket_61 : decode cX0_basket 61 = .ok (.iaload, 1) := dk_46 (dk_at dksX0_basket_2 13 rfl rfl)
theorem dX0_basket_62 : decode cX0_basket 62 = .ok (.goto 9, 3) := dk_167 0 9 (dk_at dksX0_basket_2 14 rfl rfl)
theorem dX0_basket_65 : decode cX0_basket 65 = .ok (.aload_n 0, 1) := dk_42 (dk_at dksX0_basket_2 17 rfl rfl)
theorem dX0_basket_66 : decode cX0_basket 66 = .ok (.getfield 51, 3) := dk_180 0 51 (dk_at dksX0_basket_2 18 rfl rfl)
theorem dX0_basket_69 : decode cX0_basket 69 = .ok (.iload_n 3, 1) := dk_29 (dk_at dksX0_basket_2 21 rfl rfl)
theorem dX0_basket_70 : decode cX0_basket 70 = .ok (.iaload, 1) := dk_46 (dk_at dksX0_basket_2 22 rfl rfl)
theorem dX0_basket_71 : decode cX0_basket 71 = .ok (.ireturn, 1) := dk_172 (dk_at dksX0_basket_2 23 rfl rfl)
abbrev cX0_bestOf : ByteArray := prog_1_method_26_code
def yX0_bestOf : MethodName := ⟨RX0, "bestOf", "(I)I"⟩
def dkwX0_bestOf_1 : List UInt8 := [182, 0, 252, 172]
abbrev dktX0_bestOf_1 : List UInt8 := dkwX0_bestOf_1 ++ []
def dkwX0_bestOf_0 : List UInt8 := [42, 27, 182, 0, 248, 42, 42, 180, 0, 17, 27, 50, 180, 0, 133, 42, 180, 0, 17, 27, 50, 182, 0, 136]
abbrev dktX0_bestOf_0 : List UInt8 := dkwX0_bestOf_0 ++ dktX0_bestOf_1
theorem dksX0_bestOf_0 : cX0_bestOf.data.toList.drop 0 = dktX0_bestOf_0 := by decide +kernel
theorem dksX0_bestOf_1 : cX0_bestOf.data.toList.drop 24 = dktX0_bestOf_1 := dk_seg dksX0_bestOf_0 24 rfl rfl
theorem dX0_bestOf_0 : decode cX0_bestOf 0 = .ok (.aload_n 0, 1) := dk_42 (dk_at dksX0_bestOf_0 0 rfl rfl)
theorem dX0_bestOf_1 : decode cX0_bestOf 1 = .ok (.iload_n 1, 1) := dk_27 (dk_at dksX0_bestOf_0 1 rfl rfl)
theorem dX0_bestOf_2 : decode cX0_bestOf 2 = .ok (.invokevirtual 248, 3) := dk_182 0 248 (dk_at dksX0_bestOf_0 2 rfl rfl)
theorem dX0_bestOf_5 : decode cX0_bestOf 5 = .ok (.aload_n 0, 1) := dk_42 (dk_at dksX0_bestOf_0 5 rfl rfl)
theorem dX0_bestOf_6 : decode cX0_bestOf 6 = .ok (.aload_n 0, 1) := dk_42 (dk_at dksX0_bestOf_0 6 rfl rfl)
theorem dX0_bestOf_7 : decode cX0_bestOf 7 = .ok (.getfield 17, 3) := dk_180 0 17 (dk_at dksX0_bestOf_0 7 rfl rfl)
theorem dX0_bestOf_10 : decode cX0_bestOf 10 = .ok (.iload_n 1, 1) := dk_27 (dk_at dksX0_bestOf_0 10 rfl rfl)
theorem dX0_bestOf_11 : decode cX0_bestOf 11 = .ok (.aaload, 1) := dk_50 (dk_at dksX0_bestOf_0 11 rfl rfl)
theorem dX0_bestOf_12 : decode cX0_bestOf 12 = .ok (.getfield 133, 3) := dk_180 0 133 (dk_at dksX0_bestOf_0 12 rfl rfl)
theorem dX0_bestOf_15 : decode cX0_bestOf 15 = .ok (.aload_n 0, 1) := dk_42 (dk_at dksX0_bestOf_0 15 rfl rfl)
theorem dX0_bestOf_16 : decode cX0_bestOf 16 = .ok (.getfield 17, 3) := dk_180 0 17 (dk_at dksX0_bestOf_0 16 rfl rfl)
theorem dX0_bestOf_19 : decode cX0_bestOf 19 = .ok (.iload_n 1, 1) := dk_27 (dk_at dksX0_bestOf_0 19 rfl rfl)
theorem dX0_bestOf_20 : decode cX0_bestOf 20 = .ok (.aaload, 1) := dk_50 (dk_at dksX0_bestOf_0 20 rfl rfl)
theorem dX0_bestOf_21 : decode cX0_bestOf 21 = .ok (.invokevirtual 136, 3) := dk_182 0 136 (dk_at dksX0_bestOf_0 21 rfl rfl)
theorem dX0_bestOf_24 : decode cX0_bestOf 24 = .ok (.invokevirtual 252, 3) := dk_182 0 252 (dk_at dksX0_bestOf_1 0 rfl rfl)
theorem dX0_bestOf_27 : decode cX0_bestOf 27 = .ok (.ireturn, 1) := dk_172 (dk_at dksX0_bestOf_1 3 rfl rfl)
abbrev cX0_look : ByteArray := prog_1_method_24_code
def yX0_look : MethodName := ⟨RX0, "look", "(I)V"⟩
def dkwX0_look_8 : List UInt8 := [167, 255, 138, 177]
abbrev dktX0_look_8 : List UInt8 := dkwX0_look_8 ++ []
def dkwX0_look_7 : List UInt8 := [21, 4, 42, 180, 0, 11, 29, 50, 180, 0, 155, 104, 96, 79, 132, 3, 1, 167, 255, 175, 132, 2, 1]
abbrev dktX0_look_7 : List UInt8 := dkwX0_look_7 ++ dktX0_look_8
def dkwX0_look_6 : List UInt8 := [28, 92, 46, 21, 4, 42, 180, 0, 11, 29, 50, 180, 0, 152, 104, 96, 79, 42, 180, 0, 51, 28, 92, 46]
abbrev dktX0_look_6 : List UInt8 := dkwX0_look_6 ++ dktX0_look_7
def dkwX0_look_5 : List UInt8 := [42, 180, 0, 44, 28, 92, 46, 42, 180, 0, 54, 7, 29, 104, 21, 4, 96, 46, 96, 79, 42, 180, 0, 48]
abbrev dktX0_look_5 : List UInt8 := dkwX0_look_5 ++ dktX0_look_6
def dkwX0_look_4 : List UInt8 := [180, 0, 51, 28, 3, 79, 3, 62, 29, 42, 180, 0, 87, 162, 0, 79, 42, 28, 29, 182, 0, 242, 54, 4]
abbrev dktX0_look_4 : List UInt8 := dkwX0_look_4 ++ dktX0_look_5
def dkwX0_look_3 : List UInt8 := [42, 182, 0, 245, 162, 0, 116, 42, 180, 0, 44, 28, 3, 79, 42, 180, 0, 48, 28, 3, 79, 42]
abbrev dktX0_look_3 : List UInt8 := dkwX0_look_3 ++ dktX0_look_4
def dkwX0_look_2 : List UInt8 := [42, 27, 28, 29, 182, 0, 239, 96, 79, 132, 3, 1, 167, 255, 218, 132, 2, 1, 167, 255, 193, 3, 61, 28]
abbrev dktX0_look_2 : List UInt8 := dkwX0_look_2 ++ dktX0_look_3
def dkwX0_look_1 : List UInt8 := [163, 0, 39, 42, 180, 0, 54, 7, 28, 104, 29, 96, 42, 180, 0, 54, 7, 28, 104, 29, 96, 4, 100, 46]
abbrev dktX0_look_1 : List UInt8 := dkwX0_look_1 ++ dktX0_look_2
def dkwX0_look_0 : List UInt8 := [3, 61, 28, 42, 180, 0, 87, 162, 0, 61, 42, 180, 0, 54, 7, 28, 104, 3, 79, 4, 62, 29, 6]
abbrev dktX0_look_0 : List UInt8 := dkwX0_look_0 ++ dktX0_look_1
theorem dksX0_look_0 : cX0_look.data.toList.drop 0 = dktX0_look_0 := by decide +kernel
theorem dksX0_look_1 : cX0_look.data.toList.drop 23 = dktX0_look_1 := dk_seg dksX0_look_0 23 rfl rfl
theorem dksX0_look_2 : cX0_look.data.toList.drop 47 = dktX0_look_2 := dk_seg dksX0_look_1 24 rfl rfl
theorem dksX0_look_3 : cX0_look.data.toList.drop 71 = dktX0_look_3 := dk_seg dksX0_look_2 24 rfl rfl
theorem dksX0_look_4 : cX0_look.data.toList.drop 93 = dktX0_look_4 := dk_seg dksX0_look_3 22 rfl rfl
theorem dksX0_look_5 : cX0_look.data.toList.drop 117 = dktX0_look_5 := dk_seg dksX0_look_4 24 rfl rfl
theorem dksX0_look_6 : cX0_look.data.toList.drop 141 = dktX0_look_6 := dk_seg dksX0_look_5 24 rfl rfl
theorem dksX0_look_7 : cX0_look.data.toList.drop 165 = dktX0_look_7 := dk_seg dksX0_look_6 24 rfl rfl
theorem dksX0_look_8 : cX0_look.data.toList.drop 188 = dktX0_look_8 := dk_seg dksX0_look_7 23 rfl rfl
theorem dX0_look_0 : decode cX0_look 0 = .ok (.iconst 0, 1) := dk_3 (dk_at dksX0_look_0 0 rfl rfl)
theorem dX0_look_1 : decode cX0_look 1 = .ok (.istore_n 2, 1) := dk_61 (dk_at dksX0_look_0 1 rfl rfl)
theorem dX0_look_2 : decode cX0_look 2 = .ok (.iload_n 2, 1) := dk_28 (dk_at dksX0_look_0 2 rfl rfl)
theorem dX0_look_3 : decode cX0_look 3 = .ok (.aload_n 0, 1) := dk_42 (dk_at dksX0_look_0 3 rfl rfl)
theorem dX0_look_4 : decode cX0_look 4 = .ok (.getfield 87, 3) := dk_180 0 87 (dk_at dksX0_look_0 4 rfl rfl)
theorem dX0_look_7 : decode cX0_look 7 = .ok (.if_icmp .ge 61, 3) := dk_162 0 61 (dk_at dksX0_look_0 7 rfl rfl)
theorem dX0_look_10 : decode cX0_look 10 = .ok (.aload_n 0, 1) := dk_42 (dk_at dksX0_look_0 10 rfl rfl)
theorem dX0_look_11 : decode cX0_look 11 = .ok (.getfield 54, 3) := dk_180 0 54 (dk_at dksX0_look_0 11 rfl rfl)
theorem dX0_look_14 : decode cX0_look 14 = .ok (.iconst 4, 1) := dk_7 (dk_at dksX0_look_0 14 rfl rfl)
theorem dX0_look_15 : decode cX0_look 15 = .ok (.iload_n 2, 1) := dk_28 (dk_at dksX0_look_0 15 rfl rfl)
theorem dX0_look_16 : decode cX0_look 16 = .ok (.imul, 1) := dk_104 (dk_at dksX0_look_0 16 rfl rfl)
theorem dX0_look_17 : decode cX0_look 17 = .ok (.iconst 0, 1) := dk_3 (dk_at dksX0_look_0 17 rfl rfl)
theorem dX0_look_18 : decode cX0_look 18 = .ok (.iastore, 1) := dk_79 (dk_at dksX0_look_0 18 rfl rfl)
theorem dX0_look_19 : decode cX0_look 19 = .ok (.iconst 1, 1) := dk_4 (dk_at dksX0_look_0 19 rfl rfl)
theorem dX0_look_20 : decode cX0_look 20 = .ok (.istore_n 3, 1) := dk_62 (dk_at dksX0_look_0 20 rfl rfl)
theorem dX0_look_21 : decode cX0_look 21 = .ok (.iload_n 3, 1) := dk_29 (dk_at dksX0_look_0 21 rfl rfl)
theorem dX0_look_22 : decode cX0_look 22 = .ok (.iconst 3, 1) := dk_6 (dk_at dksX0_look_0 22 rfl rfl)
theorem dX0_look_23 : decode cX0_look 23 = .ok (.if_icmp .gt 39, 3) := dk_163 0 39 (dk_at dksX0_look_1 0 rfl rfl)
theorem dX0_look_26 : decode cX0_look 26 = .ok (.aload_n 0, 1) := dk_42 (dk_at dksX0_look_1 3 rfl rfl)
theorem dX0_look_27 : decode cX0_look 27 = .ok (.getfield 54, 3) := dk_180 0 54 (dk_at dksX0_look_1 4 rfl rfl)
theorem dX0_look_30 : decode cX0_look 30 = .ok (.iconst 4, 1) := dk_7 (dk_at dksX0_look_1 7 rfl rfl)
theorem dX0_look_31 : decode cX0_look 31 = .ok (.iload_n 2, 1) := dk_28 (dk_at dksX0_look_1 8 rfl rfl)
theorem dX0_look_32 : decode cX0_look 32 = .ok (.imul, 1) := dk_104 (dk_at dksX0_look_1 9 rfl rfl)
theorem dX0_look_33 : decode cX0_look 33 = .ok (.iload_n 3, 1) := dk_29 (dk_at dksX0_look_1 10 rfl rfl)
theorem dX0_look_34 : decode cX0_look 34 = .ok (.iadd, 1) := dk_96 (dk_at dksX0_look_1 11 rfl rfl)
theorem dX0_look_35 : decode cX0_look 35 = .ok (.aload_n 0, 1) := dk_42 (dk_at dksX0_look_1 12 rfl rfl)
theorem dX0_look_36 : decode cX0_look 36 = .ok (.getfield 54, 3) := dk_180 0 54 (dk_at dksX0_look_1 13 rfl rfl)
theorem dX0_look_39 : decode cX0_look 39 = .ok (.iconst 4, 1) := dk_7 (dk_at dksX0_look_1 16 rfl rfl)
theorem dX0_look_40 : decode cX0_look 40 = .ok (.iload_n 2, 1) := dk_28 (dk_at dksX0_look_1 17 rfl rfl)
theorem dX0_look_41 : decode cX0_look 41 = .ok (.imul, 1) := dk_104 (dk_at dksX0_look_1 18 rfl rfl)
theorem dX0_look_42 : decode cX0_look 42 = .ok (.iload_n 3, 1) := dk_29 (dk_at dksX0_look_1 19 rfl rfl)
theorem dX0_look_43 : decode cX0_look 43 = .ok (.iadd, 1) := dk_96 (dk_at dksX0_look_1 20 rfl rfl)
theorem dX0_look_44 : decode cX0_look 44 = .ok (.iconst 1, 1) := dk_4 (dk_at dksX0_look_1 21 rfl rfl)
theorem dX0_look_45 : decode cX0_look 45 = .ok (.isub, 1) := dk_100 (dk_at dksX0_look_1 22 rfl rfl)
theorem dX0_look_46 : decode cX0_look 46 = .ok (.iaload, 1) := dk_46 (dk_at dksX0_look_1 23 rfl rfl)
theorem dX0_look_47 : decode cX0_look 47 = .ok (.aload_n 0, 1) := dk_42 (dk_at dksX0_look_2 0 rfl rfl)
theorem dX0_look_48 : decode cX0_look 48 = .ok (.iload_n 1, 1) := dk_27 (dk_at dksX0_look_2 1 rfl rfl)
theorem dX0_look_49 : decode cX0_look 49 = .ok (.iload_n 2, 1) := dk_28 (dk_at dksX0_look_2 2 rfl rfl)
theorem dX0_look_50 : decode cX0_look 50 = .ok (.iload_n 3, 1) := dk_29 (dk_at dksX0_look_2 3 rfl rfl)
theorem dX0_look_51 : decode cX0_look 51 = .ok (.invokevirtual 239, 3) := dk_182 0 239 (dk_at dksX0_look_2 4 rfl rfl)
theorem dX0_look_54 : decode cX0_look 54 = .ok (.iadd, 1) := dk_96 (dk_at dksX0_look_2 7 rfl rfl)
theorem dX0_look_55 : decode cX0_look 55 = .ok (.iastore, 1) := dk_79 (dk_at dksX0_look_2 8 rfl rfl)
theorem dX0_look_56 : decode cX0_look 56 = .ok (.iinc 3 1, 3) := dk_132 3 1 (dk_at dksX0_look_2 9 rfl rfl)
theorem dX0_look_59 : decode cX0_look 59 = .ok (.goto (-38), 3) := dk_167 255 218 (dk_at dksX0_look_2 12 rfl rfl)
theorem dX0_look_62 : decode cX0_look 62 = .ok (.iinc 2 1, 3) := dk_132 2 1 (dk_at dksX0_look_2 15 rfl rfl)
theorem dX0_look_65 : decode cX0_look 65 = .ok (.goto (-63), 3) := dk_167 255 193 (dk_at dksX0_look_2 18 rfl rfl)
theorem dX0_look_68 : decode cX0_look 68 = .ok (.iconst 0, 1) := dk_3 (dk_at dksX0_look_2 21 rfl rfl)
theorem dX0_look_69 : decode cX0_look 69 = .ok (.istore_n 2, 1) := dk_61 (dk_at dksX0_look_2 22 rfl rfl)
theorem dX0_look_70 : decode cX0_look 70 = .ok (.iload_n 2, 1) := dk_28 (dk_at dksX0_look_2 23 rfl rfl)
theorem dX0_look_71 : decode cX0_look 71 = .ok (.aload_n 0, 1) := dk_42 (dk_at dksX0_look_3 0 rfl rfl)
theorem dX0_look_72 : decode cX0_look 72 = .ok (.invokevirtual 245, 3) := dk_182 0 245 (dk_at dksX0_look_3 1 rfl rfl)
theorem dX0_look_75 : decode cX0_look 75 = .ok (.if_icmp .ge 116, 3) := dk_162 0 116 (dk_at dksX0_look_3 4 rfl rfl)
theorem dX0_look_78 : decode cX0_look 78 = .ok (.aload_n 0, 1) := dk_42 (dk_at dksX0_look_3 7 rfl rfl)
theorem dX0_look_79 : decode cX0_look 79 = .ok (.getfield 44, 3) := dk_180 0 44 (dk_at dksX0_look_3 8 rfl rfl)
theorem dX0_look_82 : decode cX0_look 82 = .ok (.iload_n 2, 1) := dk_28 (dk_at dksX0_look_3 11 rfl rfl)
theorem dX0_look_83 : decode cX0_look 83 = .ok (.iconst 0, 1) := dk_3 (dk_at dksX0_look_3 12 rfl rfl)
theorem dX0_look_84 : decode cX0_look 84 = .ok (.iastore, 1) := dk_79 (dk_at dksX0_look_3 13 rfl rfl)
theorem dX0_look_85 : decode cX0_look 85 = .ok (.aload_n 0, 1) := dk_42 (dk_at dksX0_look_3 14 rfl rfl)
theorem dX0_look_86 : decode cX0_look 86 = .ok (.getfield 48, 3) := dk_180 0 48 (dk_at dksX0_look_3 15 rfl rfl)
theorem dX0_look_89 : decode cX0_look 89 = .ok (.iload_n 2, 1) := dk_28 (dk_at dksX0_look_3 18 rfl rfl)
theorem dX0_look_90 : decode cX0_look 90 = .ok (.iconst 0, 1) := dk_3 (dk_at dksX0_look_3 19 rfl rfl)
theorem dX0_look_91 : decode cX0_look 91 = .ok (.iastore, 1) := dk_79 (dk_at dksX0_look_3 20 rfl rfl)
theorem dX0_look_92 : decode cX0_look 92 = .ok (.aload_n 0, 1) := dk_42 (dk_at dksX0_look_3 21 rfl rfl)
theorem dX0_look_93 : decode cX0_look 93 = .ok (.getfield 51, 3) := dk_180 0 51 (dk_at dksX0_look_4 0 rfl rfl)
theorem dX0_look_96 : decode cX0_look 96 = .ok (.iload_n 2, 1) := dk_28 (dk_at dksX0_look_4 3 rfl rfl)
theorem dX0_look_97 : decode cX0_look 97 = .ok (.iconst 0, 1) := dk_3 (dk_at dksX0_look_4 4 rfl rfl)
theorem dX0_look_98 : decode cX0_look 98 = .ok (.iastore, 1) := dk_79 (dk_at dksX0_look_4 5 rfl rfl)
theorem dX0_look_99 : decode cX0_look 99 = .ok (.iconst 0, 1) := dk_3 (dk_at dksX0_look_4 6 rfl rfl)
theorem dX0_look_100 : decode cX0_look 100 = .ok (.istore_n 3, 1) := dk_62 (dk_at dksX0_look_4 7 rfl rfl)
theorem dX0_look_101 : decode cX0_look 101 = .ok (.iload_n 3, 1) := dk_29 (dk_at dksX0_look_4 8 rfl rfl)
theorem dX0_look_102 : decode cX0_look 102 = .ok (.aload_n 0, 1) := dk_42 (dk_at dksX0_look_4 9 rfl rfl)
theorem dX0_look_103 : decode cX0_look 103 = .ok (.getfield 87, 3) := dk_180 0 87 (dk_at dksX0_look_4 10 rfl rfl)
theorem dX0_look_106 : decode cX0_look 106 = .ok (.if_icmp .ge 79, 3) := dk_162 0 79 (dk_at dksX0_look_4 13 rfl rfl)
theorem dX0_look_109 : decode cX0_look 109 = .ok (.aload_n 0, 1) := dk_42 (dk_at dksX0_look_4 16 rfl rfl)
theorem dX0_look_110 : decode cX0_look 110 = .ok (.iload_n 2, 1) := dk_28 (dk_at dksX0_look_4 17 rfl rfl)
theorem dX0_look_111 : decode cX0_look 111 = .ok (.iload_n 3, 1) := dk_29 (dk_at dksX0_look_4 18 rfl rfl)
theorem dX0_look_112 : decode cX0_look 112 = .ok (.invokevirtual 242, 3) := dk_182 0 242 (dk_at dksX0_look_4 19 rfl rfl)
theorem dX0_look_115 : decode cX0_look 115 = .ok (.istore 4, 2) := dk_54 4 (dk_at dksX0_look_4 22 rfl rfl)
theorem dX0_look_117 : decode cX0_look 117 = .ok (.aload_n 0, 1) := dk_42 (dk_at dksX0_look_5 0 rfl rfl)
theorem dX0_look_118 : decode cX0_look 118 = .ok (.getfield 44, 3) := dk_180 0 44 (dk_at dksX0_look_5 1 rfl rfl)
theorem dX0_look_121 : decode cX0_look 121 = .ok (.iload_n 2, 1) := dk_28 (dk_at dksX0_look_5 4 rfl rfl)
theorem dX0_look_122 : decode cX0_look 122 = .ok (.dup2, 1) := dk_92 (dk_at dksX0_look_5 5 rfl rfl)
theorem dX0_look_123 : decode cX0_look 123 = .ok (.iaload, 1) := dk_46 (dk_at dksX0_look_5 6 rfl rfl)
theorem dX0_look_124 : decode cX0_look 124 = .ok (.aload_n 0, 1) := dk_42 (dk_at dksX0_look_5 7 rfl rfl)
theorem dX0_look_125 : decode cX0_look 125 = .ok (.getfield 54, 3) := dk_180 0 54 (dk_at dksX0_look_5 8 rfl rfl)
theorem dX0_look_128 : decode cX0_look 128 = .ok (.iconst 4, 1) := dk_7 (dk_at dksX0_look_5 11 rfl rfl)
theorem dX0_look_129 : decode cX0_look 129 = .ok (.iload_n 3, 1) := dk_29 (dk_at dksX0_look_5 12 rfl rfl)
theorem dX0_look_130 : decode cX0_look 130 = .ok (.imul, 1) := dk_104 (dk_at dksX0_look_5 13 rfl rfl)
theorem dX0_look_131 : decode cX0_look 131 = .ok (.iload 4, 2) := dk_21 4 (dk_at dksX0_look_5 14 rfl rfl)
theorem dX0_look_133 : decode cX0_look 133 = .ok (.iadd, 1) := dk_96 (dk_at dksX0_look_5 16 rfl rfl)
theorem dX0_look_134 : decode cX0_look 134 = .ok (.iaload, 1) := dk_46 (dk_at dksX0_look_5 17 rfl rfl)
theorem dX0_look_135 : decode cX0_look 135 = .ok (.iadd, 1) := dk_96 (dk_at dksX0_look_5 18 rfl rfl)
theorem dX0_look_136 : decode cX0_look 136 = .ok (.iastore, 1) := dk_79 (dk_at dksX0_look_5 19 rfl rfl)
theorem dX0_look_137 : decode cX0_look 137 = .ok (.aload_n 0, 1) := dk_42 (dk_at dksX0_look_5 20 rfl rfl)
theorem dX0_look_138 : decode cX0_look 138 = .ok (.getfield 48, 3) := dk_180 0 48 (dk_at dksX0_look_5 21 rfl rfl)
theorem dX0_look_141 : decode cX0_look 141 = .ok (.iload_n 2, 1) := dk_28 (dk_at dksX0_look_6 0 rfl rfl)
theorem dX0_look_142 : decode cX0_look 142 = .ok (.dup2, 1) := dk_92 (dk_at dksX0_look_6 1 rfl rfl)
theorem dX0_look_143 : decode cX0_look 143 = .ok (.iaload, 1) := dk_46 (dk_at dksX0_look_6 2 rfl rfl)
theorem dX0_look_144 : decode cX0_look 144 = .ok (.iload 4, 2) := dk_21 4 (dk_at dksX0_look_6 3 rfl rfl)
theorem dX0_look_146 : decode cX0_look 146 = .ok (.aload_n 0, 1) := dk_42 (dk_at dksX0_look_6 5 rfl rfl)
theorem dX0_look_147 : decode cX0_look 147 = .ok (.getfield 11, 3) := dk_180 0 11 (dk_at dksX0_look_6 6 rfl rfl)
theorem dX0_look_150 : decode cX0_look 150 = .ok (.iload_n 3, 1) := dk_29 (dk_at dksX0_look_6 9 rfl rfl)
theorem dX0_look_151 : decode cX0_look 151 = .ok (.aaload, 1) := dk_50 (dk_at dksX0_look_6 10 rfl rfl)
theorem dX0_look_152 : decode cX0_look 152 = .ok (.getfield 152, 3) := dk_180 0 152 (dk_at dksX0_look_6 11 rfl rfl)
theorem dX0_look_155 : decode cX0_look 155 = .ok (.imul, 1) := dk_104 (dk_at dksX0_look_6 14 rfl rfl)
theorem dX0_look_156 : decode cX0_look 156 = .ok (.iadd, 1) := dk_96 (dk_at dksX0_look_6 15 rfl rfl)
theorem dX0_look_157 : decode cX0_look 157 = .ok (.iastore, 1) := dk_79 (dk_at dksX0_look_6 16 rfl rfl)
theorem dX0_look_158 : decode cX0_look 158 = .ok (.aload_n 0, 1) := dk_42 (dk_at dksX0_look_6 17 rfl rfl)
theorem dX0_look_159 : decode cX0_look 159 = .ok (.getfield 51, 3) := dk_180 0 51 (dk_at dksX0_look_6 18 rfl rfl)
theorem dX0_look_162 : decode cX0_look 162 = .ok (.iload_n 2, 1) := dk_28 (dk_at dksX0_look_6 21 rfl rfl)
theorem dX0_look_163 : decode cX0_look 163 = .ok (.dup2, 1) := dk_92 (dk_at dksX0_look_6 22 rfl rfl)
theorem dX0_look_164 : decode cX0_look 164 = .ok (.iaload, 1) := dk_46 (dk_at dksX0_look_6 23 rfl rfl)
theorem dX0_look_165 : decode cX0_look 165 = .ok (.iload 4, 2) := dk_21 4 (dk_at dksX0_look_7 0 rfl rfl)
theorem dX0_look_167 : decode cX0_look 167 = .ok (.aload_n 0, 1) := dk_42 (dk_at dksX0_look_7 2 rfl rfl)
theorem dX0_look_168 : decode cX0_look 168 = .ok (.getfield 11, 3) := dk_180 0 11 (dk_at dksX0_look_7 3 rfl rfl)
theorem dX0_look_171 : decode cX0_look 171 = .ok (.iload_n 3, 1) := dk_29 (dk_at dksX0_look_7 6 rfl rfl)
theorem dX0_look_172 : decode cX0_look 172 = .ok (.aaload, 1) := dk_50 (dk_at dksX0_look_7 7 rfl rfl)
theorem dX0_look_173 : decode cX0_look 173 = .ok (.getfield 155, 3) := dk_180 0 155 (dk_at dksX0_look_7 8 rfl rfl)
theorem dX0_look_176 : decode cX0_look 176 = .ok (.imul, 1) := dk_104 (dk_at dksX0_look_7 11 rfl rfl)
theorem dX0_look_177 : decode cX0_look 177 = .ok (.iadd, 1) := dk_96 (dk_at dksX0_look_7 12 rfl rfl)
theorem dX0_look_178 : decode cX0_look 178 = .ok (.iastore, 1) := dk_79 (dk_at dksX0_look_7 13 rfl rfl)
theorem dX0_look_179 : decode cX0_look 179 = .ok (.iinc 3 1, 3) := dk_132 3 1 (dk_at dksX0_look_7 14 rfl rfl)
theorem dX0_look_182 : decode cX0_look 182 = .ok (.goto (-81), 3) := dk_167 255 175 (dk_at dksX0_look_7 17 rfl rfl)
theorem dX0_look_185 : decode cX0_look 185 = .ok (.iinc 2 1, 3) := dk_132 2 1 (dk_at dksX0_look_7 20 rfl rfl)
theorem dX0_look_188 : decode cX0_look 188 = .ok (.goto (-118), 3) := dk_167 255 138 (dk_at dksX0_look_8 0 rfl rfl)
theorem dX0_look_191 : decode cX0_look 191 = .ok (.return_, 1) := dk_177 (dk_at dksX0_look_8 3 rfl rfl)
abbrev cX0_basketMany : ByteArray := prog_1_method_21_code
def yX0_basketMany : MethodName := ⟨RX0, "basketMany", "()I"⟩
def dkwX0_basketMany_0 : List UInt8 := [4, 5, 42, 180, 0, 87, 104, 120, 172]
abbrev dktX0_basketMany_0 : List UInt8 := dkwX0_basketMany_0 ++ []
theorem dksX0_basketMany_0 : cX0_basketMany.data.toList.drop 0 = dktX0_basketMany_0 := by decide +kernel
theorem dX0_basketMany_0 : decode cX0_basketMany 0 = .ok (.iconst 1, 1) := dk_4 (dk_at dksX0_basketMany_0 0 rfl rfl)
theorem dX0_basketMany_1 : decode cX0_basketMany 1 = .ok (.iconst 2, 1) := dk_5 (dk_at dksX0_basketMany_0 1 rfl rfl)
theorem dX0_basketMany_2 : decode cX0_basketMany 2 = .ok (.aload_n 0, 1) := dk_42 (dk_at dksX0_basketMany_0 2 rfl rfl)
theorem dX0_basketMany_3 : decode cX0_basketMany 3 = .ok (.getfield 87, 3) := dk_180 0 87 (dk_at dksX0_basketMany_0 3 rfl rfl)
theorem dX0_basketMany_6 : decode cX0_basketMany 6 = .ok (.imul, 1) := dk_104 (dk_at dksX0_basketMany_0 6 rfl rfl)
theorem dX0_basketMany_7 : decode cX0_basketMany 7 = .ok (.ishl, 1) := dk_120 (dk_at dksX0_basketMany_0 7 rfl rfl)
theorem dX0_basketMany_8 : decode cX0_basketMany 8 = .ok (.ireturn, 1) := dk_172 (dk_at dksX0_basketMany_0 8 rfl rfl)
abbrev cX0_inBasket : ByteArray := prog_1_method_22_code
def yX0_inBasket : MethodName := ⟨RX0, "inBasket", "(II)I"⟩
def dkwX0_inBasket_0 : List UInt8 := [27, 5, 42, 180, 0, 87, 4, 100, 28, 100, 104, 122, 6, 126, 172]
abbrev dktX0_inBasket_0 : List UInt8 := dkwX0_inBasket_0 ++ []
theorem dksX0_inBasket_0 : cX0_inBasket.data.toList.drop 0 = dktX0_inBasket_0 := by decide +kernel
theorem dX0_inBasket_0 : decode cX0_inBasket 0 = .ok (.iload_n 1, 1) := dk_27 (dk_at dksX0_inBasket_0 0 rfl rfl)
theorem dX0_inBasket_1 : decode cX0_inBasket 1 = .ok (.iconst 2, 1) := dk_5 (dk_at dksX0_inBasket_0 1 rfl rfl)
theorem dX0_inBasket_2 : decode cX0_inBasket 2 = .ok (.aload_n 0, 1) := dk_42 (dk_at dksX0_inBasket_0 2 rfl rfl)
theorem dX0_inBasket_3 : decode cX0_inBasket 3 = .ok (.getfield 87, 3) := dk_180 0 87 (dk_at dksX0_inBasket_0 3 rfl rfl)
theorem dX0_inBasket_6 : decode cX0_inBasket 6 = .ok (.iconst 1, 1) := dk_4 (dk_at dksX0_inBasket_0 6 rfl rfl)
theorem dX0_inBasket_7 : decode cX0_inBasket 7 = .ok (.isub, 1) := dk_100 (dk_at dksX0_inBasket_0 7 rfl rfl)
theorem dX0_inBasket_8 : decode cX0_inBasket 8 = .ok (.iload_n 2, 1) := dk_28 (dk_at dksX0_inBasket_0 8 rfl rfl)
theorem dX0_inBasket_9 : decode cX0_inBasket 9 = .ok (.isub, 1) := dk_100 (dk_at dksX0_inBasket_0 9 rfl rfl)
theorem dX0_inBasket_10 : decode cX0_inBasket 10 = .ok (.imul, 1) := dk_104 (dk_at dksX0_inBasket_0 10 rfl rfl)
theorem dX0_inBasket_11 : decode cX0_inBasket 11 = .ok (.ishr, 1) := dk_122 (dk_at dksX0_inBasket_0 11 rfl rfl)
theorem dX0_inBasket_12 : decode cX0_inBasket 12 = .ok (.iconst 3, 1) := dk_6 (dk_at dksX0_inBasket_0 12 rfl rfl)
theorem dX0_inBasket_13 : decode cX0_inBasket 13 = .ok (.iand, 1) := dk_126 (dk_at dksX0_inBasket_0 13 rfl rfl)
theorem dX0_inBasket_14 : decode cX0_inBasket 14 = .ok (.ireturn, 1) := dk_172 (dk_at dksX0_inBasket_0 14 rfl rfl)
abbrev cX0_bestBy : ByteArray := prog_1_method_25_code
def yX0_bestBy : MethodName := ⟨RX0, "bestBy", "(II)I"⟩
def dkwX0_bestBy_5 : List UInt8 := [46, 100, 54, 5, 21, 5, 158, 0, 6, 21, 4, 62, 132, 4, 1, 167, 255, 129, 29, 172]
abbrev dktX0_bestBy_5 : List UInt8 := dkwX0_bestBy_5 ++ []
def dkwX0_bestBy_4 : List UInt8 := [46, 42, 180, 0, 48, 21, 4, 46, 100, 167, 0, 17, 42, 180, 0, 51, 29, 46, 42, 180, 0, 51, 21, 4]
abbrev dktX0_bestBy_4 : List UInt8 := dkwX0_bestBy_4 ++ dktX0_bestBy_5
def dkwX0_bestBy_3 : List UInt8 := [167, 0, 50, 42, 180, 0, 48, 21, 4, 46, 42, 180, 0, 48, 29, 46, 159, 0, 20, 42, 180, 0, 48, 29]
abbrev dktX0_bestBy_3 : List UInt8 := dkwX0_bestBy_3 ++ dktX0_bestBy_4
def dkwX0_bestBy_2 : List UInt8 := [42, 180, 0, 44, 29, 46, 159, 0, 20, 42, 180, 0, 44, 21, 4, 46, 42, 180, 0, 44, 29, 46, 100]
abbrev dktX0_bestBy_2 : List UInt8 := dkwX0_bestBy_2 ++ dktX0_bestBy_3
def dkwX0_bestBy_1 : List UInt8 := [163, 0, 107, 42, 180, 0, 51, 21, 4, 46, 28, 164, 0, 6, 167, 0, 93, 42, 180, 0, 44, 21, 4, 46]
abbrev dktX0_bestBy_1 : List UInt8 := dkwX0_bestBy_1 ++ dktX0_bestBy_2
def dkwX0_bestBy_0 : List UInt8 := [3, 62, 4, 54, 4, 21, 4, 42, 182, 0, 245, 162, 0, 124, 42, 180, 0, 48, 21, 4, 46, 27]
abbrev dktX0_bestBy_0 : List UInt8 := dkwX0_bestBy_0 ++ dktX0_bestBy_1
theorem dksX0_bestBy_0 : cX0_bestBy.data.toList.drop 0 = dktX0_bestBy_0 := by decide +kernel
theorem dksX0_bestBy_1 : cX0_bestBy.data.toList.drop 22 = dktX0_bestBy_1 := dk_seg dksX0_bestBy_0 22 rfl rfl
theorem dksX0_bestBy_2 : cX0_bestBy.data.toList.drop 46 = dktX0_bestBy_2 := dk_seg dksX0_bestBy_1 24 rfl rfl
theorem dksX0_bestBy_3 : cX0_bestBy.data.toList.drop 69 = dktX0_bestBy_3 := dk_seg dksX0_bestBy_2 23 rfl rfl
theorem dksX0_bestBy_4 : cX0_bestBy.data.toList.drop 93 = dktX0_bestBy_4 := dk_seg dksX0_bestBy_3 24 rfl rfl
theorem dksX0_bestBy_5 : cX0_bestBy.data.toList.drop 117 = dktX0_bestBy_5 := dk_seg dksX0_bestBy_4 24 rfl rfl
theorem dX0_bestBy_0 : decode cX0_bestBy 0 = .ok (.iconst 0, 1) := dk_3 (dk_at dksX0_bestBy_0 0 rfl rfl)
theorem dX0_bestBy_1 : decode cX0_bestBy 1 = .ok (.istore_n 3, 1) := dk_62 (dk_at dksX0_bestBy_0 1 rfl rfl)
theorem dX0_bestBy_2 : decode cX0_bestBy 2 = .ok (.iconst 1, 1) := dk_4 (dk_at dksX0_bestBy_0 2 rfl rfl)
theorem dX0_bestBy_3 : decode cX0_bestBy 3 = .ok (.istore 4, 2) := dk_54 4 (dk_at dksX0_bestBy_0 3 rfl rfl)
theorem dX0_bestBy_5 : decode cX0_bestBy 5 = .ok (.iload 4, 2) := dk_21 4 (dk_at dksX0_bestBy_0 5 rfl rfl)
theorem dX0_bestBy_7 : decode cX0_bestBy 7 = .ok (.aload_n 0, 1) := dk_42 (dk_at dksX0_bestBy_0 7 rfl rfl)
theorem dX0_bestBy_8 : decode cX0_bestBy 8 = .ok (.invokevirtual 245, 3) := dk_182 0 245 (dk_at dksX0_bestBy_0 8 rfl rfl)
theorem dX0_bestBy_11 : decode cX0_bestBy 11 = .ok (.if_icmp .ge 124, 3) := dk_162 0 124 (dk_at dksX0_bestBy_0 11 rfl rfl)
theorem dX0_bestBy_14 : decode cX0_bestBy 14 = .ok (.aload_n 0, 1) := dk_42 (dk_at dksX0_bestBy_0 14 rfl rfl)
theorem dX0_bestBy_15 : decode cX0_bestBy 15 = .ok (.getfield 48, 3) := dk_180 0 48 (dk_at dksX0_bestBy_0 15 rfl rfl)
theorem dX0_bestBy_18 : decode cX0_bestBy 18 = .ok (.iload 4, 2) := dk_21 4 (dk_at dksX0_bestBy_0 18 rfl rfl)
theorem dX0_bestBy_20 : decode cX0_bestBy 20 = .ok (.iaload, 1) := dk_46 (dk_at dksX0_bestBy_0 20 rfl rfl)
theorem dX0_bestBy_21 : decode cX0_bestBy 21 = .ok (.iload_n 1, 1) := dk_27 (dk_at dksX0_bestBy_0 21 rfl rfl)
theorem dX0_bestBy_22 : decode cX0_bestBy 22 = .ok (.if_icmp .gt 107, 3) := dk_163 0 107 (dk_at dksX0_bestBy_1 0 rfl rfl)
theorem dX0_bestBy_25 : decode cX0_bestBy 25 = .ok (.aload_n 0, 1) := dk_42 (dk_at dksX0_bestBy_1 3 rfl rfl)
theorem dX0_bestBy_26 : decode cX0_bestBy 26 = .ok (.getfield 51, 3) := dk_180 0 51 (dk_at dksX0_bestBy_1 4 rfl rfl)
theorem dX0_bestBy_29 : decode cX0_bestBy 29 = .ok (.iload 4, 2) := dk_21 4 (dk_at dksX0_bestBy_1 7 rfl rfl)
theorem dX0_bestBy_31 : decode cX0_bestBy 31 = .ok (.iaload, 1) := dk_46 (dk_at dksX0_bestBy_1 9 rfl rfl)
theorem dX0_bestBy_32 : decode cX0_bestBy 32 = .ok (.iload_n 2, 1) := dk_28 (dk_at dksX0_bestBy_1 10 rfl rfl)
theorem dX0_bestBy_33 : decode cX0_bestBy 33 = .ok (.if_icmp .le 6, 3) := dk_164 0 6 (dk_at dksX0_bestBy_1 11 rfl rfl)
theorem dX0_bestBy_36 : decode cX0_bestBy 36 = .ok (.goto 93, 3) := dk_167 0 93 (dk_at dksX0_bestBy_1 14 rfl rfl)
theorem dX0_bestBy_39 : decode cX0_bestBy 39 = .ok (.aload_n 0, 1) := dk_42 (dk_at dksX0_bestBy_1 17 rfl rfl)
theorem dX0_bestBy_40 : decode cX0_bestBy 40 = .ok (.getfield 44, 3) := dk_180 0 44 (dk_at dksX0_bestBy_1 18 rfl rfl)
theorem dX0_bestBy_43 : decode cX0_bestBy 43 = .ok (.iload 4, 2) := dk_21 4 (dk_at dksX0_bestBy_1 21 rfl rfl)
theorem dX0_bestBy_45 : decode cX0_bestBy 45 = .ok (.iaload, 1) := dk_46 (dk_at dksX0_bestBy_1 23 rfl rfl)
theorem dX0_bestBy_46 : decode cX0_bestBy 46 = .ok (.aload_n 0, 1) := dk_42 (dk_at dksX0_bestBy_2 0 rfl rfl)
theorem dX0_bestBy_47 : decode cX0_bestBy 47 = .ok (.getfield 44, 3) := dk_180 0 44 (dk_at dksX0_bestBy_2 1 rfl rfl)
theorem dX0_bestBy_50 : decode cX0_bestBy 50 = .ok (.iload_n 3, 1) := dk_29 (dk_at dksX0_bestBy_2 4 rfl rfl)
theorem dX0_bestBy_51 : decode cX0_bestBy 51 = .ok (.iaload, 1) := dk_46 (dk_at dksX0_bestBy_2 5 rfl rfl)
theorem dX0_bestBy_52 : decode cX0_bestBy 52 = .ok (.if_icmp .eq 20, 3) := dk_159 0 20 (dk_at dksX0_bestBy_2 6 rfl rfl)
theorem dX0_bestBy_55 : decode cX0_bestBy 55 = .ok (.aload_n 0, 1) := dk_42 (dk_at dksX0_bestBy_2 9 rfl rfl)
theorem dX0_bestBy_56 : decode cX0_bestBy 56 = .ok (.getfield 44, 3) := dk_180 0 44 (dk_at dksX0_bestBy_2 10 rfl rfl)
theorem dX0_bestBy_59 : decode cX0_bestBy 59 = .ok (.iload 4, 2) := dk_21 4 (dk_at dksX0_bestBy_2 13 rfl rfl)
theorem dX0_bestBy_61 : decode cX0_bestBy 61 = .ok (.iaload, 1) := dk_46 (dk_at dksX0_bestBy_2 15 rfl rfl)
theorem dX0_bestBy_62 : decode cX0_bestBy 62 = .ok (.aload_n 0, 1) := dk_42 (dk_at dksX0_bestBy_2 16 rfl rfl)
theorem dX0_bestBy_63 : decode cX0_bestBy 63 = .ok (.getfield 44, 3) := dk_180 0 44 (dk_at dksX0_bestBy_2 17 rfl rfl)
theorem dX0_bestBy_66 : decode cX0_bestBy 66 = .ok (.iload_n 3, 1) := dk_29 (dk_at dksX0_bestBy_2 20 rfl rfl)
theorem dX0_bestBy_67 : decode cX0_bestBy 67 = .ok (.iaload, 1) := dk_46 (dk_at dksX0_bestBy_2 21 rfl rfl)
theorem dX0_bestBy_68 : decode cX0_bestBy 68 = .ok (.isub, 1) := dk_100 (dk_at dksX0_bestBy_2 22 rfl rfl)
theorem dX0_bestBy_69 : decode cX0_bestBy 69 = .ok (.goto 50, 3) := dk_167 0 50 (dk_at dksX0_bestBy_3 0 rfl rfl)
theorem dX0_bestBy_72 : decode cX0_bestBy 72 = .ok (.aload_n 0, 1) := dk_42 (dk_at dksX0_bestBy_3 3 rfl rfl)
theorem dX0_bestBy_73 : decode cX0_bestBy 73 = .ok (.getfield 48, 3) := dk_180 0 48 (dk_at dksX0_bestBy_3 4 rfl rfl)
theorem dX0_bestBy_76 : decode cX0_bestBy 76 = .ok (.iload 4, 2) := dk_21 4 (dk_at dksX0_bestBy_3 7 rfl rfl)
theorem dX0_bestBy_78 : decode cX0_bestBy 78 = .ok (.iaload, 1) := dk_46 (dk_at dksX0_bestBy_3 9 rfl rfl)
theorem dX0_bestBy_79 : decode cX0_bestBy 79 = .ok (.aload_n 0, 1) := dk_42 (dk_at dksX0_bestBy_3 10 rfl rfl)
theorem dX0_bestBy_80 : decode cX0_bestBy 80 = .ok (.getfield 48, 3) := dk_180 0 48 (dk_at dksX0_bestBy_3 11 rfl rfl)
theorem dX0_bestBy_83 : decode cX0_bestBy 83 = .ok (.iload_n 3, 1) := dk_29 (dk_at dksX0_bestBy_3 14 rfl rfl)
theorem dX0_bestBy_84 : decode cX0_bestBy 84 = .ok (.iaload, 1) := dk_46 (dk_at dksX0_bestBy_3 15 rfl rfl)
theorem dX0_bestBy_85 : decode cX0_bestBy 85 = .ok (.if_icmp .eq 20, 3) := dk_159 0 20 (dk_at dksX0_bestBy_3 16 rfl rfl)
theorem dX0_bestBy_88 : decode cX0_bestBy 88 = .ok (.aload_n 0, 1) := dk_42 (dk_at dksX0_bestBy_3 19 rfl rfl)
theorem dX0_bestBy_89 : decode cX0_bestBy 89 = .ok (.getfield 48, 3) := dk_180 0 48 (dk_at dksX0_bestBy_3 20 rfl rfl)
theorem dX0_bestBy_92 : decode cX0_bestBy 92 = .ok (.iload_n 3, 1) := dk_29 (dk_at dksX0_bestBy_3 23 rfl rfl)
theorem dX0_bestBy_93 : decode cX0_bestBy 93 = .ok (.iaload, 1) := dk_46 (dk_at dksX0_bestBy_4 0 rfl rfl)
theorem dX0_bestBy_94 : decode cX0_bestBy 94 = .ok (.aload_n 0, 1) := dk_42 (dk_at dksX0_bestBy_4 1 rfl rfl)
theorem dX0_bestBy_95 : decode cX0_bestBy 95 = .ok (.getfield 48, 3) := dk_180 0 48 (dk_at dksX0_bestBy_4 2 rfl rfl)
theorem dX0_bestBy_98 : decode cX0_bestBy 98 = .ok (.iload 4, 2) := dk_21 4 (dk_at dksX0_bestBy_4 5 rfl rfl)
theorem dX0_bestBy_100 : decode cX0_bestBy 100 = .ok (.iaload, 1) := dk_46 (dk_at dksX0_bestBy_4 7 rfl rfl)
theorem dX0_bestBy_101 : decode cX0_bestBy 101 = .ok (.isub, 1) := dk_100 (dk_at dksX0_bestBy_4 8 rfl rfl)
theorem dX0_bestBy_102 : decode cX0_bestBy 102 = .ok (.goto 17, 3) := dk_167 0 17 (dk_at dksX0_bestBy_4 9 rfl rfl)
theorem dX0_bestBy_105 : decode cX0_bestBy 105 = .ok (.aload_n 0, 1) := dk_42 (dk_at dksX0_bestBy_4 12 rfl rfl)
theorem dX0_bestBy_106 : decode cX0_bestBy 106 = .ok (.getfield 51, 3) := dk_180 0 51 (dk_at dksX0_bestBy_4 13 rfl rfl)
theorem dX0_bestBy_109 : decode cX0_bestBy 109 = .ok (.iload_n 3, 1) := dk_29 (dk_at dksX0_bestBy_4 16 rfl rfl)
theorem dX0_bestBy_110 : decode cX0_bestBy 110 = .ok (.iaload, 1) := dk_46 (dk_at dksX0_bestBy_4 17 rfl rfl)
theorem dX0_bestBy_111 : decode cX0_bestBy 111 = .ok (.aload_n 0, 1) := dk_42 (dk_at dksX0_bestBy_4 18 rfl rfl)
theorem dX0_bestBy_112 : decode cX0_bestBy 112 = .ok (.getfield 51, 3) := dk_180 0 51 (dk_at dksX0_bestBy_4 19 rfl rfl)
theorem dX0_bestBy_115 : decode cX0_bestBy 115 = .ok (.iload 4, 2) := dk_21 4 (dk_at dksX0_bestBy_4 22 rfl rfl)
theorem dX0_bestBy_117 : decode cX0_bestBy 117 = .ok (.iaload, 1) := dk_46 (dk_at dksX0_bestBy_5 0 rfl rfl)
theorem dX0_bestBy_118 : decode cX0_bestBy 118 = .ok (.isub, 1) := dk_100 (dk_at dksX0_bestBy_5 1 rfl rfl)
theorem dX0_bestBy_119 : decode cX0_bestBy 119 = .ok (.istore 5, 2) := dk_54 5 (dk_at dksX0_bestBy_5 2 rfl rfl)
theorem dX0_bestBy_121 : decode cX0_bestBy 121 = .ok (.iload 5, 2) := dk_21 5 (dk_at dksX0_bestBy_5 4 rfl rfl)
theorem dX0_bestBy_123 : decode cX0_bestBy 123 = .ok (.ifCond .le 6, 3) := dk_158 0 6 (dk_at dksX0_bestBy_5 6 rfl rfl)
theorem dX0_bestBy_126 : decode cX0_bestBy 126 = .ok (.iload 4, 2) := dk_21 4 (dk_at dksX0_bestBy_5 9 rfl rfl)
theorem dX0_bestBy_128 : decode cX0_bestBy 128 = .ok (.istore_n 3, 1) := dk_62 (dk_at dksX0_bestBy_5 11 rfl rfl)
theorem dX0_bestBy_129 : decode cX0_bestBy 129 = .ok (.iinc 4 1, 3) := dk_132 4 1 (dk_at dksX0_bestBy_5 12 rfl rfl)
theorem dX0_bestBy_132 : decode cX0_bestBy 132 = .ok (.goto (-127), 3) := dk_167 255 129 (dk_at dksX0_bestBy_5 15 rfl rfl)
theorem dX0_bestBy_135 : decode cX0_bestBy 135 = .ok (.iload_n 3, 1) := dk_29 (dk_at dksX0_bestBy_5 18 rfl rfl)
theorem dX0_bestBy_136 : decode cX0_bestBy 136 = .ok (.ireturn, 1) := dk_172 (dk_at dksX0_bestBy_5 19 rfl rfl)
abbrev cX0_digits : ByteArray := prog_1_method_23_code
def yX0_digits : MethodName := ⟨RX0, "digits", "(I)I"⟩
def dkwX0_digits_1 : List UInt8 := [132, 3, 1, 167, 255, 233, 28, 172]
abbrev dktX0_digits_1 : List UInt8 := dkwX0_digits_1 ++ []
def dkwX0_digits_0 : List UInt8 := [3, 61, 3, 62, 29, 42, 180, 0, 87, 162, 0, 21, 16, 10, 28, 104, 42, 27, 29, 182, 0, 242, 96, 61]
abbrev dktX0_digits_0 : List UInt8 := dkwX0_digits_0 ++ dktX0_digits_1
theorem dksX0_digits_0 : cX0_digits.data.toList.drop 0 = dktX0_digits_0 := by decide +kernel
theorem dksX0_digits_1 : cX0_digits.data.toList.drop 24 = dktX0_digits_1 := dk_seg dksX0_digits_0 24 rfl rfl
theorem dX0_digits_0 : decode cX0_digits 0 = .ok (.iconst 0, 1) := dk_3 (dk_at dksX0_digits_0 0 rfl rfl)
theorem dX0_digits_1 : decode cX0_digits 1 = .ok (.istore_n 2, 1) := dk_61 (dk_at dksX0_digits_0 1 rfl rfl)
theorem dX0_digits_2 : decode cX0_digits 2 = .ok (.iconst 0, 1) := dk_3 (dk_at dksX0_digits_0 2 rfl rfl)
theorem dX0_digits_3 : decode cX0_digits 3 = .ok (.istore_n 3, 1) := dk_62 (dk_at dksX0_digits_0 3 rfl rfl)
theorem dX0_digits_4 : decode cX0_digits 4 = .ok (.iload_n 3, 1) := dk_29 (dk_at dksX0_digits_0 4 rfl rfl)
theorem dX0_digits_5 : decode cX0_digits 5 = .ok (.aload_n 0, 1) := dk_42 (dk_at dksX0_digits_0 5 rfl rfl)
theorem dX0_digits_6 : decode cX0_digits 6 = .ok (.getfield 87, 3) := dk_180 0 87 (dk_at dksX0_digits_0 6 rfl rfl)
theorem dX0_digits_9 : decode cX0_digits 9 = .ok (.if_icmp .ge 21, 3) := dk_162 0 21 (dk_at dksX0_digits_0 9 rfl rfl)
theorem dX0_digits_12 : decode cX0_digits 12 = .ok (.bipush 10, 2) := dk_16 10 (dk_at dksX0_digits_0 12 rfl rfl)
theorem dX0_digits_14 : decode cX0_digits 14 = .ok (.iload_n 2, 1) := dk_28 (dk_at dksX0_digits_0 14 rfl rfl)
theorem dX0_digits_15 : decode cX0_digits 15 = .ok (.imul, 1) := dk_104 (dk_at dksX0_digits_0 15 rfl rfl)
theorem dX0_digits_16 : decode cX0_digits 16 = .ok (.aload_n 0, 1) := dk_42 (dk_at dksX0_digits_0 16 rfl rfl)
theorem dX0_digits_17 : decode cX0_digits 17 = .ok (.iload_n 1, 1) := dk_27 (dk_at dksX0_digits_0 17 rfl rfl)
theorem dX0_digits_18 : decode cX0_digits 18 = .ok (.iload_n 3, 1) := dk_29 (dk_at dksX0_digits_0 18 rfl rfl)
theorem dX0_digits_19 : decode cX0_digits 19 = .ok (.invokevirtual 242, 3) := dk_182 0 242 (dk_at dksX0_digits_0 19 rfl rfl)
theorem dX0_digits_22 : decode cX0_digits 22 = .ok (.iadd, 1) := dk_96 (dk_at dksX0_digits_0 22 rfl rfl)
theorem dX0_digits_23 : decode cX0_digits 23 = .ok (.istore_n 2, 1) := dk_61 (dk_at dksX0_digits_0 23 rfl rfl)
theorem dX0_digits_24 : decode cX0_digits 24 = .ok (.iinc 3 1, 3) := dk_132 3 1 (dk_at dksX0_digits_1 0 rfl rfl)
theorem dX0_digits_27 : decode cX0_digits 27 = .ok (.goto (-23), 3) := dk_167 255 233 (dk_at dksX0_digits_1 3 rfl rfl)
theorem dX0_digits_30 : decode cX0_digits 30 = .ok (.iload_n 2, 1) := dk_28 (dk_at dksX0_digits_1 6 rfl rfl)
theorem dX0_digits_31 : decode cX0_digits 31 = .ok (.ireturn, 1) := dk_172 (dk_at dksX0_digits_1 7 rfl rfl)
abbrev cX0_wanted : ByteArray := prog_1_method_32_code
def yX0_wanted : MethodName := ⟨RX0, "wanted", "(II)I"⟩
def dkwX0_wanted_2 : List UInt8 := [167, 0, 21, 28, 154, 0, 12, 42, 180, 0, 57, 27, 46, 167, 0, 8, 42, 27, 182, 1, 6, 172]
abbrev dktX0_wanted_2 : List UInt8 := dkwX0_wanted_2 ++ []
def dkwX0_wanted_1 : List UInt8 := [160, 0, 11, 28, 154, 0, 7, 19, 1, 12, 172, 42, 182, 1, 13, 27, 156, 0, 10, 42, 182, 1, 16]
abbrev dktX0_wanted_1 : List UInt8 := dkwX0_wanted_1 ++ dktX0_wanted_2
def dkwX0_wanted_0 : List UInt8 := [27, 2, 159, 0, 11, 42, 27, 182, 0, 146, 153, 0, 21, 28, 3, 4, 184, 0, 91, 153, 0, 12, 27, 2]
abbrev dktX0_wanted_0 : List UInt8 := dkwX0_wanted_0 ++ dktX0_wanted_1
theorem dksX0_wanted_0 : cX0_wanted.data.toList.drop 0 = dktX0_wanted_0 := by decide +kernel
theorem dksX0_wanted_1 : cX0_wanted.data.toList.drop 24 = dktX0_wanted_1 := dk_seg dksX0_wanted_0 24 rfl rfl
theorem dksX0_wanted_2 : cX0_wanted.data.toList.drop 47 = dktX0_wanted_2 := dk_seg dksX0_wanted_1 23 rfl rfl
theorem dX0_wanted_0 : decode cX0_wanted 0 = .ok (.iload_n 1, 1) := dk_27 (dk_at dksX0_wanted_0 0 rfl rfl)
theorem dX0_wanted_1 : decode cX0_wanted 1 = .ok (.iconst (-1), 1) := dk_2 (dk_at dksX0_wanted_0 1 rfl rfl)
theorem dX0_wanted_2 : decode cX0_wanted 2 = .ok (.if_icmp .eq 11, 3) := dk_159 0 11 (dk_at dksX0_wanted_0 2 rfl rfl)
theorem dX0_wanted_5 : decode cX0_wanted 5 = .ok (.aload_n 0, 1) := dk_42 (dk_at dksX0_wanted_0 5 rfl rfl)
theorem dX0_wanted_6 : decode cX0_wanted 6 = .ok (.iload_n 1, 1) := dk_27 (dk_at dksX0_wanted_0 6 rfl rfl)
theorem dX0_wanted_7 : decode cX0_wanted 7 = .ok (.invokevirtual 146, 3) := dk_182 0 146 (dk_at dksX0_wanted_0 7 rfl rfl)
theorem dX0_wanted_10 : decode cX0_wanted 10 = .ok (.ifCond .eq 21, 3) := dk_153 0 21 (dk_at dksX0_wanted_0 10 rfl rfl)
theorem dX0_wanted_13 : decode cX0_wanted 13 = .ok (.iload_n 2, 1) := dk_28 (dk_at dksX0_wanted_0 13 rfl rfl)
theorem dX0_wanted_14 : decode cX0_wanted 14 = .ok (.iconst 0, 1) := dk_3 (dk_at dksX0_wanted_0 14 rfl rfl)
theorem dX0_wanted_15 : decode cX0_wanted 15 = .ok (.iconst 1, 1) := dk_4 (dk_at dksX0_wanted_0 15 rfl rfl)
theorem dX0_wanted_16 : decode cX0_wanted 16 = .ok (.invokestatic 91, 3) := dk_184 0 91 (dk_at dksX0_wanted_0 16 rfl rfl)
theorem dX0_wanted_19 : decode cX0_wanted 19 = .ok (.ifCond .eq 12, 3) := dk_153 0 12 (dk_at dksX0_wanted_0 19 rfl rfl)
theorem dX0_wanted_22 : decode cX0_wanted 22 = .ok (.iload_n 1, 1) := dk_27 (dk_at dksX0_wanted_0 22 rfl rfl)
theorem dX0_wanted_23 : decode cX0_wanted 23 = .ok (.iconst (-1), 1) := dk_2 (dk_at dksX0_wanted_0 23 rfl rfl)
theorem dX0_wanted_24 : decode cX0_wanted 24 = .ok (.if_icmp .ne 11, 3) := dk_160 0 11 (dk_at dksX0_wanted_1 0 rfl rfl)
theorem dX0_wanted_27 : decode cX0_wanted 27 = .ok (.iload_n 2, 1) := dk_28 (dk_at dksX0_wanted_1 3 rfl rfl)
theorem dX0_wanted_28 : decode cX0_wanted 28 = .ok (.ifCond .ne 7, 3) := dk_154 0 7 (dk_at dksX0_wanted_1 4 rfl rfl)
theorem dX0_wanted_31 : decode cX0_wanted 31 = .ok (.ldc_w 268, 3) := dk_19 1 12 (dk_at dksX0_wanted_1 7 rfl rfl)
theorem dX0_wanted_34 : decode cX0_wanted 34 = .ok (.ireturn, 1) := dk_172 (dk_at dksX0_wanted_1 10 rfl rfl)
theorem dX0_wanted_35 : decode cX0_wanted 35 = .ok (.aload_n 0, 1) := dk_42 (dk_at dksX0_wanted_1 11 rfl rfl)
theorem dX0_wanted_36 : decode cX0_wanted 36 = .ok (.invokevirtual 269, 3) := dk_182 1 13 (dk_at dksX0_wanted_1 12 rfl rfl)
theorem dX0_wanted_39 : decode cX0_wanted 39 = .ok (.iload_n 1, 1) := dk_27 (dk_at dksX0_wanted_1 15 rfl rfl)
theorem dX0_wanted_40 : decode cX0_wanted 40 = .ok (.ifCond .ge 10, 3) := dk_156 0 10 (dk_at dksX0_wanted_1 16 rfl rfl)
theorem dX0_wanted_43 : decode cX0_wanted 43 = .ok (.aload_n 0, 1) := dk_42 (dk_at dksX0_wanted_1 19 rfl rfl)
theorem dX0_wanted_44 : decode cX0_wanted 44 = .ok (.invokevirtual 272, 3) := dk_182 1 16 (dk_at dksX0_wanted_1 20 rfl rfl)
theorem dX0_wanted_47 : decode cX0_wanted 47 = .ok (.goto 21, 3) := dk_167 0 21 (dk_at dksX0_wanted_2 0 rfl rfl)
theorem dX0_wanted_50 : decode cX0_wanted 50 = .ok (.iload_n 2, 1) := dk_28 (dk_at dksX0_wanted_2 3 rfl rfl)
theorem dX0_wanted_51 : decode cX0_wanted 51 = .ok (.ifCond .ne 12, 3) := dk_154 0 12 (dk_at dksX0_wanted_2 4 rfl rfl)
theorem dX0_wanted_54 : decode cX0_wanted 54 = .ok (.aload_n 0, 1) := dk_42 (dk_at dksX0_wanted_2 7 rfl rfl)
theorem dX0_wanted_55 : decode cX0_wanted 55 = .ok (.getfield 57, 3) := dk_180 0 57 (dk_at dksX0_wanted_2 8 rfl rfl)
theorem dX0_wanted_58 : decode cX0_wanted 58 = .ok (.iload_n 1, 1) := dk_27 (dk_at dksX0_wanted_2 11 rfl rfl)
theorem dX0_wanted_59 : decode cX0_wanted 59 = .ok (.iaload, 1) := dk_46 (dk_at dksX0_wanted_2 12 rfl rfl)
theorem dX0_wanted_60 : decode cX0_wanted 60 = .ok (.goto 8, 3) := dk_167 0 8 (dk_at dksX0_wanted_2 13 rfl rfl)
theorem dX0_wanted_63 : decode cX0_wanted 63 = .ok (.aload_n 0, 1) := dk_42 (dk_at dksX0_wanted_2 16 rfl rfl)
theorem dX0_wanted_64 : decode cX0_wanted 64 = .ok (.iload_n 1, 1) := dk_27 (dk_at dksX0_wanted_2 17 rfl rfl)
theorem dX0_wanted_65 : decode cX0_wanted 65 = .ok (.invokevirtual 262, 3) := dk_182 1 6 (dk_at dksX0_wanted_2 18 rfl rfl)
theorem dX0_wanted_68 : decode cX0_wanted 68 = .ok (.ireturn, 1) := dk_172 (dk_at dksX0_wanted_2 21 rfl rfl)
abbrev cX0_findWanted : ByteArray := prog_1_method_29_code
def yX0_findWanted : MethodName := ⟨RX0, "findWanted", "()V"⟩
def dkwX0_findWanted_3 : List UInt8 := [182, 0, 242, 104, 96, 79, 132, 3, 1, 167, 255, 220, 132, 1, 1, 167, 255, 198, 177]
abbrev dktX0_findWanted_3 : List UInt8 := dkwX0_findWanted_3 ++ []
def dkwX0_findWanted_2 : List UInt8 := [162, 0, 34, 42, 180, 0, 57, 29, 92, 46, 42, 180, 0, 17, 27, 50, 180, 0, 130, 42, 28, 29]
abbrev dktX0_findWanted_2 : List UInt8 := dkwX0_findWanted_2 ++ dktX0_findWanted_3
def dkwX0_findWanted_1 : List UInt8 := [60, 27, 42, 180, 0, 95, 162, 0, 56, 42, 27, 182, 0, 255, 61, 3, 62, 29, 42, 180, 0, 87]
abbrev dktX0_findWanted_1 : List UInt8 := dkwX0_findWanted_1 ++ dktX0_findWanted_2
def dkwX0_findWanted_0 : List UInt8 := [3, 60, 27, 42, 180, 0, 87, 162, 0, 16, 42, 180, 0, 57, 27, 3, 79, 132, 1, 1, 167, 255, 238, 3]
abbrev dktX0_findWanted_0 : List UInt8 := dkwX0_findWanted_0 ++ dktX0_findWanted_1
theorem dksX0_findWanted_0 : cX0_findWanted.data.toList.drop 0 = dktX0_findWanted_0 := by decide +kernel
theorem dksX0_findWanted_1 : cX0_findWanted.data.toList.drop 24 = dktX0_findWanted_1 := dk_seg dksX0_findWanted_0 24 rfl rfl
theorem dksX0_findWanted_2 : cX0_findWanted.data.toList.drop 46 = dktX0_findWanted_2 := dk_seg dksX0_findWanted_1 22 rfl rfl
theorem dksX0_findWanted_3 : cX0_findWanted.data.toList.drop 68 = dktX0_findWanted_3 := dk_seg dksX0_findWanted_2 22 rfl rfl
theorem dX0_findWanted_0 : decode cX0_findWanted 0 = .ok (.iconst 0, 1) := dk_3 (dk_at dksX0_findWanted_0 0 rfl rfl)
theorem dX0_findWanted_1 : decode cX0_findWanted 1 = .ok (.istore_n 1, 1) := dk_60 (dk_at dksX0_findWanted_0 1 rfl rfl)
theorem dX0_findWanted_2 : decode cX0_findWanted 2 = .ok (.iload_n 1, 1) := dk_27 (dk_at dksX0_findWanted_0 2 rfl rfl)
theorem dX0_findWanted_3 : decode cX0_findWanted 3 = .ok (.aload_n 0, 1) := dk_42 (dk_at dksX0_findWanted_0 3 rfl rfl)
theorem dX0_findWanted_4 : decode cX0_findWanted 4 = .ok (.getfield 87, 3) := dk_180 0 87 (dk_at dksX0_findWanted_0 4 rfl rfl)
theorem dX0_findWanted_7 : decode cX0_findWanted 7 = .ok (.if_icmp .ge 16, 3) := dk_162 0 16 (dk_at dksX0_findWanted_0 7 rfl rfl)
theorem dX0_findWanted_10 : decode cX0_findWanted 10 = .ok (.aload_n 0, 1) := dk_42 (dk_at dksX0_findWanted_0 10 rfl rfl)
theorem dX0_findWanted_11 : decode cX0_findWanted 11 = .ok (.getfield 57, 3) := dk_180 0 57 (dk_at dksX0_findWanted_0 11 rfl rfl)
theorem dX0_findWanted_14 : decode cX0_findWanted 14 = .ok (.iload_n 1, 1) := dk_27 (dk_at dksX0_findWanted_0 14 rfl rfl)
theorem dX0_findWanted_15 : decode cX0_findWanted 15 = .ok (.iconst 0, 1) := dk_3 (dk_at dksX0_findWanted_0 15 rfl rfl)
theorem dX0_findWanted_16 : decode cX0_findWanted 16 = .ok (.iastore, 1) := dk_79 (dk_at dksX0_findWanted_0 16 rfl rfl)
theorem dX0_findWanted_17 : decode cX0_findWanted 17 = .ok (.iinc 1 1, 3) := dk_132 1 1 (dk_at dksX0_findWanted_0 17 rfl rfl)
theorem dX0_findWanted_20 : decode cX0_findWanted 20 = .ok (.goto (-18), 3) := dk_167 255 238 (dk_at dksX0_findWanted_0 20 rfl rfl)
theorem dX0_findWanted_23 : decode cX0_findWanted 23 = .ok (.iconst 0, 1) := dk_3 (dk_at dksX0_findWanted_0 23 rfl rfl)
theorem dX0_findWanted_24 : decode cX0_findWanted 24 = .ok (.istore_n 1, 1) := dk_60 (dk_at dksX0_findWanted_1 0 rfl rfl)
theorem dX0_findWanted_25 : decode cX0_findWanted 25 = .ok (.iload_n 1, 1) := dk_27 (dk_at dksX0_findWanted_1 1 rfl rfl)
theorem dX0_findWanted_26 : decode cX0_findWanted 26 = .ok (.aload_n 0, 1) := dk_42 (dk_at dksX0_findWanted_1 2 rfl rfl)
theorem dX0_findWanted_27 : decode cX0_findWanted 27 = .ok (.getfield 95, 3) := dk_180 0 95 (dk_at dksX0_findWanted_1 3 rfl rfl)
theorem dX0_findWanted_30 : decode cX0_findWanted 30 = .ok (.if_icmp .ge 56, 3) := dk_162 0 56 (dk_at dksX0_findWanted_1 6 rfl rfl)
theorem dX0_findWanted_33 : decode cX0_findWanted 33 = .ok (.aload_n 0, 1) := dk_42 (dk_at dksX0_findWanted_1 9 rfl rfl)
theorem dX0_findWanted_34 : decode cX0_findWanted 34 = .ok (.iload_n 1, 1) := dk_27 (dk_at dksX0_findWanted_1 10 rfl rfl)
theorem dX0_findWanted_35 : decode cX0_findWanted 35 = .ok (.invokevirtual 255, 3) := dk_182 0 255 (dk_at dksX0_findWanted_1 11 rfl rfl)
theorem dX0_findWanted_38 : decode cX0_findWanted 38 = .ok (.istore_n 2, 1) := dk_61 (dk_at dksX0_findWanted_1 14 rfl rfl)
theorem dX0_findWanted_39 : decode cX0_findWanted 39 = .ok (.iconst 0, 1) := dk_3 (dk_at dksX0_findWanted_1 15 rfl rfl)
theorem dX0_findWanted_40 : decode cX0_findWanted 40 = .ok (.istore_n 3, 1) := dk_62 (dk_at dksX0_findWanted_1 16 rfl rfl)
theorem dX0_findWanted_41 : decode cX0_findWanted 41 = .ok (.iload_n 3, 1) := dk_29 (dk_at dksX0_findWanted_1 17 rfl rfl)
theorem dX0_findWanted_42 : decode cX0_findWanted 42 = .ok (.aload_n 0, 1) := dk_42 (dk_at dksX0_findWanted_1 18 rfl rfl)
theorem dX0_findWanted_43 : decode cX0_findWanted 43 = .ok (.getfield 87, 3) := dk_180 0 87 (dk_at dksX0_findWanted_1 19 rfl rfl)
theorem dX0_findWanted_46 : decode cX0_findWanted 46 = .ok (.if_icmp .ge 34, 3) := dk_162 0 34 (dk_at dksX0_findWanted_2 0 rfl rfl)
theorem dX0_findWanted_49 : decode cX0_findWanted 49 = .ok (.aload_n 0, 1) := dk_42 (dk_at dksX0_findWanted_2 3 rfl rfl)
theorem dX0_findWanted_50 : decode cX0_findWanted 50 = .ok (.getfield 57, 3) := dk_180 0 57 (dk_at dksX0_findWanted_2 4 rfl rfl)
theorem dX0_findWanted_53 : decode cX0_findWanted 53 = .ok (.iload_n 3, 1) := dk_29 (dk_at dksX0_findWanted_2 7 rfl rfl)
theorem dX0_findWanted_54 : decode cX0_findWanted 54 = .ok (.dup2, 1) := dk_92 (dk_at dksX0_findWanted_2 8 rfl rfl)
theorem dX0_findWanted_55 : decode cX0_findWanted 55 = .ok (.iaload, 1) := dk_46 (dk_at dksX0_findWanted_2 9 rfl rfl)
theorem dX0_findWanted_56 : decode cX0_findWanted 56 = .ok (.aload_n 0, 1) := dk_42 (dk_at dksX0_findWanted_2 10 rfl rfl)
theorem dX0_findWanted_57 : decode cX0_findWanted 57 = .ok (.getfield 17, 3) := dk_180 0 17 (dk_at dksX0_findWanted_2 11 rfl rfl)
theorem dX0_findWanted_60 : decode cX0_findWanted 60 = .ok (.iload_n 1, 1) := dk_27 (dk_at dksX0_findWanted_2 14 rfl rfl)
theorem dX0_findWanted_61 : decode cX0_findWanted 61 = .ok (.aaload, 1) := dk_50 (dk_at dksX0_findWanted_2 15 rfl rfl)
theorem dX0_findWanted_62 : decode cX0_findWanted 62 = .ok (.getfield 130, 3) := dk_180 0 130 (dk_at dksX0_findWanted_2 16 rfl rfl)
theorem dX0_findWanted_65 : decode cX0_findWanted 65 = .ok (.aload_n 0, 1) := dk_42 (dk_at dksX0_findWanted_2 19 rfl rfl)
theorem dX0_findWanted_66 : decode cX0_findWanted 66 = .ok (.iload_n 2, 1) := dk_28 (dk_at dksX0_findWanted_2 20 rfl rfl)
theorem dX0_findWanted_67 : decode cX0_findWanted 67 = .ok (.iload_n 3, 1) := dk_29 (dk_at dksX0_findWanted_2 21 rfl rfl)
theorem dX0_findWanted_68 : decode cX0_findWanted 68 = .ok (.invokevirtual 242, 3) := dk_182 0 242 (dk_at dksX0_findWanted_3 0 rfl rfl)
theorem dX0_findWanted_71 : decode cX0_findWanted 71 = .ok (.imul, 1) := dk_104 (dk_at dksX0_findWanted_3 3 rfl rfl)
theorem dX0_findWanted_72 : decode cX0_findWanted 72 = .ok (.iadd, 1) := dk_96 (dk_at dksX0_findWanted_3 4 rfl rfl)
theorem dX0_findWanted_73 : decode cX0_findWanted 73 = .ok (.iastore, 1) := dk_79 (dk_at dksX0_findWanted_3 5 rfl rfl)
theorem dX0_findWanted_74 : decode cX0_findWanted 74 = .ok (.iinc 3 1, 3) := dk_132 3 1 (dk_at dksX0_findWanted_3 6 rfl rfl)
theorem dX0_findWanted_77 : decode cX0_findWanted 77 = .ok (.goto (-36), 3) := dk_167 255 220 (dk_at dksX0_findWanted_3 9 rfl rfl)
theorem dX0_findWanted_80 : decode cX0_findWanted 80 = .ok (.iinc 1 1, 3) := dk_132 1 1 (dk_at dksX0_findWanted_3 12 rfl rfl)
theorem dX0_findWanted_83 : decode cX0_findWanted 83 = .ok (.goto (-58), 3) := dk_167 255 198 (dk_at dksX0_findWanted_3 15 rfl rfl)
theorem dX0_findWanted_86 : decode cX0_findWanted 86 = .ok (.return_, 1) := dk_177 (dk_at dksX0_findWanted_3 18 rfl rfl)
abbrev cX0_both : ByteArray := prog_1_method_31_code
def yX0_both : MethodName := ⟨RX0, "both", "()I"⟩
def dkwX0_both_1 : List UInt8 := [132, 2, 1, 167, 255, 234, 27, 172]
abbrev dktX0_both_1 : List UInt8 := dkwX0_both_1 ++ []
def dkwX0_both_0 : List UInt8 := [3, 60, 3, 61, 28, 42, 180, 0, 87, 162, 0, 20, 27, 42, 28, 182, 1, 6, 184, 1, 9, 96, 60]
abbrev dktX0_both_0 : List UInt8 := dkwX0_both_0 ++ dktX0_both_1
theorem dksX0_both_0 : cX0_both.data.toList.drop 0 = dktX0_both_0 := by decide +kernel
theorem dksX0_both_1 : cX0_both.data.toList.drop 23 = dktX0_both_1 := dk_seg dksX0_both_0 23 rfl rfl
theorem dX0_both_0 : decode cX0_both 0 = .ok (.iconst 0, 1) := dk_3 (dk_at dksX0_both_0 0 rfl rfl)
theorem dX0_both_1 : decode cX0_both 1 = .ok (.istore_n 1, 1) := dk_60 (dk_at dksX0_both_0 1 rfl rfl)
theorem dX0_both_2 : decode cX0_both 2 = .ok (.iconst 0, 1) := dk_3 (dk_at dksX0_both_0 2 rfl rfl)
theorem dX0_both_3 : decode cX0_both 3 = .ok (.istore_n 2, 1) := dk_61 (dk_at dksX0_both_0 3 rfl rfl)
theorem dX0_both_4 : decode cX0_both 4 = .ok (.iload_n 2, 1) := dk_28 (dk_at dksX0_both_0 4 rfl rfl)
theorem dX0_both_5 : decode cX0_both 5 = .ok (.aload_n 0, 1) := dk_42 (dk_at dksX0_both_0 5 rfl rfl)
theorem dX0_both_6 : decode cX0_both 6 = .ok (.getfield 87, 3) := dk_180 0 87 (dk_at dksX0_both_0 6 rfl rfl)
theorem dX0_both_9 : decode cX0_both 9 = .ok (.if_icmp .ge 20, 3) := dk_162 0 20 (dk_at dksX0_both_0 9 rfl rfl)
theorem dX0_both_12 : decode cX0_both 12 = .ok (.iload_n 1, 1) := dk_27 (dk_at dksX0_both_0 12 rfl rfl)
theorem dX0_both_13 : decode cX0_both 13 = .ok (.aload_n 0, 1) := dk_42 (dk_at dksX0_both_0 13 rfl rfl)
theorem dX0_both_14 : decode cX0_both 14 = .ok (.iload_n 2, 1) := dk_28 (dk_at dksX0_both_0 14 rfl rfl)
theorem dX0_both_15 : decode cX0_both 15 = .ok (.invokevirtual 262, 3) := dk_182 1 6 (dk_at dksX0_both_0 15 rfl rfl)
theorem dX0_both_18 : decode cX0_both 18 = .ok (.invokestatic 265, 3) := dk_184 1 9 (dk_at dksX0_both_0 18 rfl rfl)
theorem dX0_both_21 : decode cX0_both 21 = .ok (.iadd, 1) := dk_96 (dk_at dksX0_both_0 21 rfl rfl)
theorem dX0_both_22 : decode cX0_both 22 = .ok (.istore_n 1, 1) := dk_60 (dk_at dksX0_both_0 22 rfl rfl)
theorem dX0_both_23 : decode cX0_both 23 = .ok (.iinc 2 1, 3) := dk_132 2 1 (dk_at dksX0_both_1 0 rfl rfl)
theorem dX0_both_26 : decode cX0_both 26 = .ok (.goto (-22), 3) := dk_167 255 234 (dk_at dksX0_both_1 3 rfl rfl)
theorem dX0_both_29 : decode cX0_both 29 = .ok (.iload_n 1, 1) := dk_27 (dk_at dksX0_both_1 6 rfl rfl)
theorem dX0_both_30 : decode cX0_both 30 = .ok (.ireturn, 1) := dk_172 (dk_at dksX0_both_1 7 rfl rfl)
abbrev cX0_over : ByteArray := prog_1_method_30_code
def yX0_over : MethodName := ⟨RX0, "over", "(I)I"⟩
def dkwX0_over_0 : List UInt8 := [42, 180, 0, 11, 27, 50, 180, 0, 149, 42, 180, 0, 57, 27, 46, 100, 172]
abbrev dktX0_over_0 : List UInt8 := dkwX0_over_0 ++ []
theorem dksX0_over_0 : cX0_over.data.toList.drop 0 = dktX0_over_0 := by decide +kernel
theorem dX0_over_0 : decode cX0_over 0 = .ok (.aload_n 0, 1) := dk_42 (dk_at dksX0_over_0 0 rfl rfl)
theorem dX0_over_1 : decode cX0_over 1 = .ok (.getfield 11, 3) := dk_180 0 11 (dk_at dksX0_over_0 1 rfl rfl)
theorem dX0_over_4 : decode cX0_over 4 = .ok (.iload_n 1, 1) := dk_27 (dk_at dksX0_over_0 4 rfl rfl)
theorem dX0_over_5 : decode cX0_over 5 = .ok (.aaload, 1) := dk_50 (dk_at dksX0_over_0 5 rfl rfl)
theorem dX0_over_6 : decode cX0_over 6 = .ok (.getfield 149, 3) := dk_180 0 149 (dk_at dksX0_over_0 6 rfl rfl)
theorem dX0_over_9 : decode cX0_over 9 = .ok (.aload_n 0, 1) := dk_42 (dk_at dksX0_over_0 9 rfl rfl)
theorem dX0_over_10 : decode cX0_over 10 = .ok (.getfield 57, 3) := dk_180 0 57 (dk_at dksX0_over_0 10 rfl rfl)
theorem dX0_over_13 : decode cX0_over 13 = .ok (.iload_n 1, 1) := dk_27 (dk_at dksX0_over_0 13 rfl rfl)
theorem dX0_over_14 : decode cX0_over 14 = .ok (.iaload, 1) := dk_46 (dk_at dksX0_over_0 14 rfl rfl)
theorem dX0_over_15 : decode cX0_over 15 = .ok (.isub, 1) := dk_100 (dk_at dksX0_over_0 15 rfl rfl)
theorem dX0_over_16 : decode cX0_over 16 = .ok (.ireturn, 1) := dk_172 (dk_at dksX0_over_0 16 rfl rfl)
abbrev cX0_led : ByteArray := prog_1_method_33_code
def yX0_led : MethodName := ⟨RX0, "led", "(II)I"⟩
def dkwX0_led_1 : List UInt8 := [180, 0, 130, 42, 42, 28, 182, 0, 255, 27, 182, 0, 242, 104, 167, 0, 4, 2, 172]
abbrev dktX0_led_1 : List UInt8 := dkwX0_led_1 ++ []
def dkwX0_led_0 : List UInt8 := [42, 27, 182, 0, 146, 153, 0, 34, 42, 28, 182, 0, 127, 153, 0, 26, 42, 180, 0, 17, 28, 50]
abbrev dktX0_led_0 : List UInt8 := dkwX0_led_0 ++ dktX0_led_1
theorem dksX0_led_0 : cX0_led.data.toList.drop 0 = dktX0_led_0 := by decide +kernel
theorem dksX0_led_1 : cX0_led.data.toList.drop 22 = dktX0_led_1 := dk_seg dksX0_led_0 22 rfl rfl
theorem dX0_led_0 : decode cX0_led 0 = .ok (.aload_n 0, 1) := dk_42 (dk_at dksX0_led_0 0 rfl rfl)
theorem dX0_led_1 : decode cX0_led 1 = .ok (.iload_n 1, 1) := dk_27 (dk_at dksX0_led_0 1 rfl rfl)
theorem dX0_led_2 : decode cX0_led 2 = .ok (.invokevirtual 146, 3) := dk_182 0 146 (dk_at dksX0_led_0 2 rfl rfl)
theorem dX0_led_5 : decode cX0_led 5 = .ok (.ifCond .eq 34, 3) := dk_153 0 34 (dk_at dksX0_led_0 5 rfl rfl)
theorem dX0_led_8 : decode cX0_led 8 = .ok (.aload_n 0, 1) := dk_42 (dk_at dksX0_led_0 8 rfl rfl)
theorem dX0_led_9 : decode cX0_led 9 = .ok (.iload_n 2, 1) := dk_28 (dk_at dksX0_led_0 9 rfl rfl)
theorem dX0_led_10 : decode cX0_led 10 = .ok (.invokevirtual 127, 3) := dk_182 0 127 (dk_at dksX0_led_0 10 rfl rfl)
theorem dX0_led_13 : decode cX0_led 13 = .ok (.ifCond .eq 26, 3) := dk_153 0 26 (dk_at dksX0_led_0 13 rfl rfl)
theorem dX0_led_16 : decode cX0_led 16 = .ok (.aload_n 0, 1) := dk_42 (dk_at dksX0_led_0 16 rfl rfl)
theorem dX0_led_17 : decode cX0_led 17 = .ok (.getfield 17, 3) := dk_180 0 17 (dk_at dksX0_led_0 17 rfl rfl)
theorem dX0_led_20 : decode cX0_led 20 = .ok (.iload_n 2, 1) := dk_28 (dk_at dksX0_led_0 20 rfl rfl)
theorem dX0_led_21 : decode cX0_led 21 = .ok (.aaload, 1) := dk_50 (dk_at dksX0_led_0 21 rfl rfl)
theorem dX0_led_22 : decode cX0_led 22 = .ok (.getfield 130, 3) := dk_180 0 130 (dk_at dksX0_led_1 0 rfl rfl)
theorem dX0_led_25 : decode cX0_led 25 = .ok (.aload_n 0, 1) := dk_42 (dk_at dksX0_led_1 3 rfl rfl)
theorem dX0_led_26 : decode cX0_led 26 = .ok (.aload_n 0, 1) := dk_42 (dk_at dksX0_led_1 4 rfl rfl)
theorem dX0_led_27 : decode cX0_led 27 = .ok (.iload_n 2, 1) := dk_28 (dk_at dksX0_led_1 5 rfl rfl)
theorem dX0_led_28 : decode cX0_led 28 = .ok (.invokevirtual 255, 3) := dk_182 0 255 (dk_at dksX0_led_1 6 rfl rfl)
theorem dX0_led_31 : decode cX0_led 31 = .ok (.iload_n 1, 1) := dk_27 (dk_at dksX0_led_1 9 rfl rfl)
theorem dX0_led_32 : decode cX0_led 32 = .ok (.invokevirtual 242, 3) := dk_182 0 242 (dk_at dksX0_led_1 10 rfl rfl)
theorem dX0_led_35 : decode cX0_led 35 = .ok (.imul, 1) := dk_104 (dk_at dksX0_led_1 13 rfl rfl)
theorem dX0_led_36 : decode cX0_led 36 = .ok (.goto 4, 3) := dk_167 0 4 (dk_at dksX0_led_1 14 rfl rfl)
theorem dX0_led_39 : decode cX0_led 39 = .ok (.iconst (-1), 1) := dk_2 (dk_at dksX0_led_1 17 rfl rfl)
theorem dX0_led_40 : decode cX0_led 40 = .ok (.ireturn, 1) := dk_172 (dk_at dksX0_led_1 18 rfl rfl)
abbrev cX0_found : ByteArray := prog_1_method_37_code
def yX0_found : MethodName := ⟨RX0, "found", "(II)I"⟩
def dkwX0_found_4 : List UInt8 := [28, 46, 172]
abbrev dktX0_found_4 : List UInt8 := dkwX0_found_4 ++ []
def dkwX0_found_3 : List UInt8 := [42, 180, 1, 19, 172, 42, 180, 1, 36, 172, 42, 180, 1, 22, 172, 42, 180, 1, 25, 172, 42, 180, 0, 66]
abbrev dktX0_found_3 : List UInt8 := dkwX0_found_3 ++ dktX0_found_4
def dkwX0_found_2 : List UInt8 := [170, 0, 0, 0, 0, 0, 0, 52, 255, 255, 255, 252, 255, 255, 255, 255, 0, 0, 0, 47, 0, 0, 0, 42, 0, 0, 0, 37, 0, 0, 0, 32]
abbrev dktX0_found_2 : List UInt8 := dkwX0_found_2 ++ dktX0_found_3
def dkwX0_found_1 : List UInt8 := [182, 0, 146, 154, 0, 5, 2, 172, 42, 27, 182, 1, 39, 28]
abbrev dktX0_found_1 : List UInt8 := dkwX0_found_1 ++ dktX0_found_2
def dkwX0_found_0 : List UInt8 := [27, 4, 16, 60, 184, 0, 91, 153, 0, 21, 28, 16, 252, 161, 0, 15, 28, 155, 0, 13, 42, 28]
abbrev dktX0_found_0 : List UInt8 := dkwX0_found_0 ++ dktX0_found_1
theorem dksX0_found_0 : cX0_found.data.toList.drop 0 = dktX0_found_0 := by decide +kernel
theorem dksX0_found_1 : cX0_found.data.toList.drop 22 = dktX0_found_1 := dk_seg dksX0_found_0 22 rfl rfl
theorem dksX0_found_2 : cX0_found.data.toList.drop 36 = dktX0_found_2 := dk_seg dksX0_found_1 14 rfl rfl
theorem dksX0_found_3 : cX0_found.data.toList.drop 68 = dktX0_found_3 := dk_seg dksX0_found_2 32 rfl rfl
theorem dksX0_found_4 : cX0_found.data.toList.drop 92 = dktX0_found_4 := dk_seg dksX0_found_3 24 rfl rfl
theorem dX0_found_0 : decode cX0_found 0 = .ok (.iload_n 1, 1) := dk_27 (dk_at dksX0_found_0 0 rfl rfl)
theorem dX0_found_1 : decode cX0_found 1 = .ok (.iconst 1, 1) := dk_4 (dk_at dksX0_found_0 1 rfl rfl)
theorem dX0_found_2 : decode cX0_found 2 = .ok (.bipush 60, 2) := dk_16 60 (dk_at dksX0_found_0 2 rfl rfl)
theorem dX0_found_4 : decode cX0_found 4 = .ok (.invokestatic 91, 3) := dk_184 0 91 (dk_at dksX0_found_0 4 rfl rfl)
theorem dX0_found_7 : decode cX0_found 7 = .ok (.ifCond .eq 21, 3) := dk_153 0 21 (dk_at dksX0_found_0 7 rfl rfl)
theorem dX0_found_10 : decode cX0_found 10 = .ok (.iload_n 2, 1) := dk_28 (dk_at dksX0_found_0 10 rfl rfl)
theorem dX0_found_11 : decode cX0_found 11 = .ok (.bipush (-4), 2) := dk_16 252 (dk_at dksX0_found_0 11 rfl rfl)
theorem dX0_found_13 : decode cX0_found 13 = .ok (.if_icmp .lt 15, 3) := dk_161 0 15 (dk_at dksX0_found_0 13 rfl rfl)
theorem dX0_found_16 : decode cX0_found 16 = .ok (.iload_n 2, 1) := dk_28 (dk_at dksX0_found_0 16 rfl rfl)
theorem dX0_found_17 : decode cX0_found 17 = .ok (.ifCond .lt 13, 3) := dk_155 0 13 (dk_at dksX0_found_0 17 rfl rfl)
theorem dX0_found_20 : decode cX0_found 20 = .ok (.aload_n 0, 1) := dk_42 (dk_at dksX0_found_0 20 rfl rfl)
theorem dX0_found_21 : decode cX0_found 21 = .ok (.iload_n 2, 1) := dk_28 (dk_at dksX0_found_0 21 rfl rfl)
theorem dX0_found_22 : decode cX0_found 22 = .ok (.invokevirtual 146, 3) := dk_182 0 146 (dk_at dksX0_found_1 0 rfl rfl)
theorem dX0_found_25 : decode cX0_found 25 = .ok (.ifCond .ne 5, 3) := dk_154 0 5 (dk_at dksX0_found_1 3 rfl rfl)
theorem dX0_found_28 : decode cX0_found 28 = .ok (.iconst (-1), 1) := dk_2 (dk_at dksX0_found_1 6 rfl rfl)
theorem dX0_found_29 : decode cX0_found 29 = .ok (.ireturn, 1) := dk_172 (dk_at dksX0_found_1 7 rfl rfl)
theorem dX0_found_30 : decode cX0_found 30 = .ok (.aload_n 0, 1) := dk_42 (dk_at dksX0_found_1 8 rfl rfl)
theorem dX0_found_31 : decode cX0_found 31 = .ok (.iload_n 1, 1) := dk_27 (dk_at dksX0_found_1 9 rfl rfl)
theorem dX0_found_32 : decode cX0_found 32 = .ok (.invokevirtual 295, 3) := dk_182 1 39 (dk_at dksX0_found_1 10 rfl rfl)
theorem dX0_found_35 : decode cX0_found 35 = .ok (.iload_n 2, 1) := dk_28 (dk_at dksX0_found_1 13 rfl rfl)
theorem dX0_found_36 : decode cX0_found 36 = .ok (.tableswitch 52 (-4) (-1) #[47, 42, 37, 32], 32) := by decide +kernel
theorem dX0_found_68 : decode cX0_found 68 = .ok (.aload_n 0, 1) := dk_42 (dk_at dksX0_found_3 0 rfl rfl)
theorem dX0_found_69 : decode cX0_found 69 = .ok (.getfield 275, 3) := dk_180 1 19 (dk_at dksX0_found_3 1 rfl rfl)
theorem dX0_found_72 : decode cX0_found 72 = .ok (.ireturn, 1) := dk_172 (dk_at dksX0_found_3 4 rfl rfl)
theorem dX0_found_73 : decode cX0_found 73 = .ok (.aload_n 0, 1) := dk_42 (dk_at dksX0_found_3 5 rfl rfl)
theorem dX0_found_74 : decode cX0_found 74 = .ok (.getfield 292, 3) := dk_180 1 36 (dk_at dksX0_found_3 6 rfl rfl)
theorem dX0_found_77 : decode cX0_found 77 = .ok (.ireturn, 1) := dk_172 (dk_at dksX0_found_3 9 rfl rfl)
theorem dX0_found_78 : decode cX0_found 78 = .ok (.aload_n 0, 1) := dk_42 (dk_at dksX0_found_3 10 rfl rfl)
theorem dX0_found_79 : decode cX0_found 79 = .ok (.getfield 278, 3) := dk_180 1 22 (dk_at dksX0_found_3 11 rfl rfl)
theorem dX0_found_82 : decode cX0_found 82 = .ok (.ireturn, 1) := dk_172 (dk_at dksX0_found_3 14 rfl rfl)
theorem dX0_found_83 : decode cX0_found 83 = .ok (.aload_n 0, 1) := dk_42 (dk_at dksX0_found_3 15 rfl rfl)
theorem dX0_found_84 : decode cX0_found 84 = .ok (.getfield 281, 3) := dk_180 1 25 (dk_at dksX0_found_3 16 rfl rfl)
theorem dX0_found_87 : decode cX0_found 87 = .ok (.ireturn, 1) := dk_172 (dk_at dksX0_found_3 19 rfl rfl)
theorem dX0_found_88 : decode cX0_found 88 = .ok (.aload_n 0, 1) := dk_42 (dk_at dksX0_found_3 20 rfl rfl)
theorem dX0_found_89 : decode cX0_found 89 = .ok (.getfield 66, 3) := dk_180 0 66 (dk_at dksX0_found_3 21 rfl rfl)
theorem dX0_found_92 : decode cX0_found 92 = .ok (.iload_n 2, 1) := dk_28 (dk_at dksX0_found_4 0 rfl rfl)
theorem dX0_found_93 : decode cX0_found 93 = .ok (.iaload, 1) := dk_46 (dk_at dksX0_found_4 1 rfl rfl)
theorem dX0_found_94 : decode cX0_found 94 = .ok (.ireturn, 1) := dk_172 (dk_at dksX0_found_4 2 rfl rfl)
abbrev cX0_goRounds : ByteArray := prog_1_method_34_code
def yX0_goRounds : MethodName := ⟨RX0, "goRounds", "(I)V"⟩
def dkwX0_goRounds_7 : List UInt8 := [132, 2, 1, 167, 255, 230, 177]
abbrev dktX0_goRounds_7 : List UInt8 := dkwX0_goRounds_7 ++ []
def dkwX0_goRounds_6 : List UInt8 := [28, 42, 180, 0, 87, 162, 0, 24, 42, 180, 0, 11, 28, 50, 42, 180, 0, 60, 28, 46, 181, 0, 155]
abbrev dktX0_goRounds_6 : List UInt8 := dkwX0_goRounds_6 ++ dktX0_goRounds_7
def dkwX0_goRounds_5 : List UInt8 := [132, 2, 1, 167, 255, 197, 42, 42, 182, 1, 16, 181, 1, 36, 42, 42, 180, 0, 66, 182, 1, 28, 3, 61]
abbrev dktX0_goRounds_5 : List UInt8 := dkwX0_goRounds_5 ++ dktX0_goRounds_6
def dkwX0_goRounds_4 : List UInt8 := [167, 0, 24, 42, 42, 182, 1, 16, 181, 1, 22, 42, 28, 181, 1, 25, 42, 42, 180, 0, 63, 182, 1, 28]
abbrev dktX0_goRounds_4 : List UInt8 := dkwX0_goRounds_4 ++ dktX0_goRounds_5
def dkwX0_goRounds_3 : List UInt8 := [153, 0, 53, 42, 28, 181, 1, 19, 42, 182, 1, 13, 42, 182, 1, 16, 42, 180, 1, 22, 161, 0, 6]
abbrev dktX0_goRounds_3 : List UInt8 := dkwX0_goRounds_3 ++ dktX0_goRounds_4
def dkwX0_goRounds_2 : List UInt8 := [42, 3, 181, 1, 25, 42, 42, 180, 0, 63, 182, 1, 28, 4, 61, 28, 27, 163, 0, 60, 42, 182, 1, 32]
abbrev dktX0_goRounds_2 : List UInt8 := dkwX0_goRounds_2 ++ dktX0_goRounds_3
def dkwX0_goRounds_1 : List UInt8 := [79, 132, 2, 1, 167, 255, 230, 42, 182, 1, 13, 42, 3, 181, 1, 19, 42, 42, 182, 1, 16, 181, 1, 22]
abbrev dktX0_goRounds_1 : List UInt8 := dkwX0_goRounds_1 ++ dktX0_goRounds_2
def dkwX0_goRounds_0 : List UInt8 := [3, 61, 28, 42, 180, 0, 87, 162, 0, 24, 42, 180, 0, 60, 28, 42, 180, 0, 11, 28, 50, 180, 0, 155]
abbrev dktX0_goRounds_0 : List UInt8 := dkwX0_goRounds_0 ++ dktX0_goRounds_1
theorem dksX0_goRounds_0 : cX0_goRounds.data.toList.drop 0 = dktX0_goRounds_0 := by decide +kernel
theorem dksX0_goRounds_1 : cX0_goRounds.data.toList.drop 24 = dktX0_goRounds_1 := dk_seg dksX0_goRounds_0 24 rfl rfl
theorem dksX0_goRounds_2 : cX0_goRounds.data.toList.drop 48 = dktX0_goRounds_2 := dk_seg dksX0_goRounds_1 24 rfl rfl
theorem dksX0_goRounds_3 : cX0_goRounds.data.toList.drop 72 = dktX0_goRounds_3 := dk_seg dksX0_goRounds_2 24 rfl rfl
theorem dksX0_goRounds_4 : cX0_goRounds.data.toList.drop 95 = dktX0_goRounds_4 := dk_seg dksX0_goRounds_3 23 rfl rfl
theorem dksX0_goRounds_5 : cX0_goRounds.data.toList.drop 119 = dktX0_goRounds_5 := dk_seg dksX0_goRounds_4 24 rfl rfl
theorem dksX0_goRounds_6 : cX0_goRounds.data.toList.drop 143 = dktX0_goRounds_6 := dk_seg dksX0_goRounds_5 24 rfl rfl
theorem dksX0_goRounds_7 : cX0_goRounds.data.toList.drop 166 = dktX0_goRounds_7 := dk_seg dksX0_goRounds_6 23 rfl rfl
theorem dX0_goRounds_0 : decode cX0_goRounds 0 = .ok (.iconst 0, 1) := dk_3 (dk_at dksX0_goRounds_0 0 rfl rfl)
theorem dX0_goRounds_1 : decode cX0_goRounds 1 = .ok (.istore_n 2, 1) := dk_61 (dk_at dksX0_goRounds_0 1 rfl rfl)
theorem dX0_goRounds_2 : decode cX0_goRounds 2 = .ok (.iload_n 2, 1) := dk_28 (dk_at dksX0_goRounds_0 2 rfl rfl)
theorem dX0_goRounds_3 : decode cX0_goRounds 3 = .ok (.aload_n 0, 1) := dk_42 (dk_at dksX0_goRounds_0 3 rfl rfl)
theorem dX0_goRounds_4 : decode cX0_goRounds 4 = .ok (.getfield 87, 3) := dk_180 0 87 (dk_at dksX0_goRounds_0 4 rfl rfl)
theorem dX0_goRounds_7 : decode cX0_goRounds 7 = .ok (.if_icmp .ge 24, 3) := dk_162 0 24 (dk_at dksX0_goRounds_0 7 rfl rfl)
theorem dX0_goRounds_10 : decode cX0_goRounds 10 = .ok (.aload_n 0, 1) := dk_42 (dk_at dksX0_goRounds_0 10 rfl rfl)
theorem dX0_goRounds_11 : decode cX0_goRounds 11 = .ok (.getfield 60, 3) := dk_180 0 60 (dk_at dksX0_goRounds_0 11 rfl rfl)
theorem dX0_goRounds_14 : decode cX0_goRounds 14 = .ok (.iload_n 2, 1) := dk_28 (dk_at dksX0_goRounds_0 14 rfl rfl)
theorem dX0_goRounds_15 : decode cX0_goRounds 15 = .ok (.aload_n 0, 1) := dk_42 (dk_at dksX0_goRounds_0 15 rfl rfl)
theorem dX0_goRounds_16 : decode cX0_goRounds 16 = .ok (.getfield 11, 3) := dk_180 0 11 (dk_at dksX0_goRounds_0 16 rfl rfl)
theorem dX0_goRounds_19 : decode cX0_goRounds 19 = .ok (.iload_n 2, 1) := dk_28 (dk_at dksX0_goRounds_0 19 rfl rfl)
theorem dX0_goRounds_20 : decode cX0_goRounds 20 = .ok (.aaload, 1) := dk_50 (dk_at dksX0_goRounds_0 20 rfl rfl)
theorem dX0_goRounds_21 : decode cX0_goRounds 21 = .ok (.getfield 155, 3) := dk_180 0 155 (dk_at dksX0_goRounds_0 21 rfl rfl)
theorem dX0_goRounds_24 : decode cX0_goRounds 24 = .ok (.iastore, 1) := dk_79 (dk_at dksX0_goRounds_1 0 rfl rfl)
theorem dX0_goRounds_25 : decode cX0_goRounds 25 = .ok (.iinc 2 1, 3) := dk_132 2 1 (dk_at dksX0_goRounds_1 1 rfl rfl)
theorem dX0_goRounds_28 : decode cX0_goRounds 28 = .ok (.goto (-26), 3) := dk_167 255 230 (dk_at dksX0_goRounds_1 4 rfl rfl)
theorem dX0_goRounds_31 : decode cX0_goRounds 31 = .ok (.aload_n 0, 1) := dk_42 (dk_at dksX0_goRounds_1 7 rfl rfl)
theorem dX0_goRounds_32 : decode cX0_goRounds 32 = .ok (.invokevirtual 269, 3) := dk_182 1 13 (dk_at dksX0_goRounds_1 8 rfl rfl)
theorem dX0_goRounds_35 : decode cX0_goRounds 35 = .ok (.aload_n 0, 1) := dk_42 (dk_at dksX0_goRounds_1 11 rfl rfl)
theorem dX0_goRounds_36 : decode cX0_goRounds 36 = .ok (.iconst 0, 1) := dk_3 (dk_at dksX0_goRounds_1 12 rfl rfl)
theorem dX0_goRounds_37 : decode cX0_goRounds 37 = .ok (.putfield 275, 3) := dk_181 1 19 (dk_at dksX0_goRounds_1 13 rfl rfl)
theorem dX0_goRounds_40 : decode cX0_goRounds 40 = .ok (.aload_n 0, 1) := dk_42 (dk_at dksX0_goRounds_1 16 rfl rfl)
theorem dX0_goRounds_41 : decode cX0_goRounds 41 = .ok (.aload_n 0, 1) := dk_42 (dk_at dksX0_goRounds_1 17 rfl rfl)
theorem dX0_goRounds_42 : decode cX0_goRounds 42 = .ok (.invokevirtual 272, 3) := dk_182 1 16 (dk_at dksX0_goRounds_1 18 rfl rfl)
theorem dX0_goRounds_45 : decode cX0_goRounds 45 = .ok (.putfield 278, 3) := dk_181 1 22 (dk_at dksX0_goRounds_1 21 rfl rfl)
theorem dX0_goRounds_48 : decode cX0_goRounds 48 = .ok (.aload_n 0, 1) := dk_42 (dk_at dksX0_goRounds_2 0 rfl rfl)
theorem dX0_goRounds_49 : decode cX0_goRounds 49 = .ok (.iconst 0, 1) := dk_3 (dk_at dksX0_goRounds_2 1 rfl rfl)
theorem dX0_goRounds_50 : decode cX0_goRounds 50 = .ok (.putfield 281, 3) := dk_181 1 25 (dk_at dksX0_goRounds_2 2 rfl rfl)
theorem dX0_goRounds_53 : decode cX0_goRounds 53 = .ok (.aload_n 0, 1) := dk_42 (dk_at dksX0_goRounds_2 5 rfl rfl)
theorem dX0_goRounds_54 : decode cX0_goRounds 54 = .ok (.aload_n 0, 1) := dk_42 (dk_at dksX0_goRounds_2 6 rfl rfl)
theorem dX0_goRounds_55 : decode cX0_goRounds 55 = .ok (.getfield 63, 3) := dk_180 0 63 (dk_at dksX0_goRounds_2 7 rfl rfl)
theorem dX0_goRounds_58 : decode cX0_goRounds 58 = .ok (.invokevirtual 284, 3) := dk_182 1 28 (dk_at dksX0_goRounds_2 10 rfl rfl)
theorem dX0_goRounds_61 : decode cX0_goRounds 61 = .ok (.iconst 1, 1) := dk_4 (dk_at dksX0_goRounds_2 13 rfl rfl)
theorem dX0_goRounds_62 : decode cX0_goRounds 62 = .ok (.istore_n 2, 1) := dk_61 (dk_at dksX0_goRounds_2 14 rfl rfl)
theorem dX0_goRounds_63 : decode cX0_goRounds 63 = .ok (.iload_n 2, 1) := dk_28 (dk_at dksX0_goRounds_2 15 rfl rfl)
theorem dX0_goRounds_64 : decode cX0_goRounds 64 = .ok (.iload_n 1, 1) := dk_27 (dk_at dksX0_goRounds_2 16 rfl rfl)
theorem dX0_goRounds_65 : decode cX0_goRounds 65 = .ok (.if_icmp .gt 60, 3) := dk_163 0 60 (dk_at dksX0_goRounds_2 17 rfl rfl)
theorem dX0_goRounds_68 : decode cX0_goRounds 68 = .ok (.aload_n 0, 1) := dk_42 (dk_at dksX0_goRounds_2 20 rfl rfl)
theorem dX0_goRounds_69 : decode cX0_goRounds 69 = .ok (.invokevirtual 288, 3) := dk_182 1 32 (dk_at dksX0_goRounds_2 21 rfl rfl)
theorem dX0_goRounds_72 : decode cX0_goRounds 72 = .ok (.ifCond .eq 53, 3) := dk_153 0 53 (dk_at dksX0_goRounds_3 0 rfl rfl)
theorem dX0_goRounds_75 : decode cX0_goRounds 75 = .ok (.aload_n 0, 1) := dk_42 (dk_at dksX0_goRounds_3 3 rfl rfl)
theorem dX0_goRounds_76 : decode cX0_goRounds 76 = .ok (.iload_n 2, 1) := dk_28 (dk_at dksX0_goRounds_3 4 rfl rfl)
theorem dX0_goRounds_77 : decode cX0_goRounds 77 = .ok (.putfield 275, 3) := dk_181 1 19 (dk_at dksX0_goRounds_3 5 rfl rfl)
theorem dX0_goRounds_80 : decode cX0_goRounds 80 = .ok (.aload_n 0, 1) := dk_42 (dk_at dksX0_goRounds_3 8 rfl rfl)
theorem dX0_goRounds_81 : decode cX0_goRounds 81 = .ok (.invokevirtual 269, 3) := dk_182 1 13 (dk_at dksX0_goRounds_3 9 rfl rfl)
theorem dX0_goRounds_84 : decode cX0_goRounds 84 = .ok (.aload_n 0, 1) := dk_42 (dk_at dksX0_goRounds_3 12 rfl rfl)
theorem dX0_goRounds_85 : decode cX0_goRounds 85 = .ok (.invokevirtual 272, 3) := dk_182 1 16 (dk_at dksX0_goRounds_3 13 rfl rfl)
theorem dX0_goRounds_88 : decode cX0_goRounds 88 = .ok (.aload_n 0, 1) := dk_42 (dk_at dksX0_goRounds_3 16 rfl rfl)
theorem dX0_goRounds_89 : decode cX0_goRounds 89 = .ok (.getfield 278, 3) := dk_180 1 22 (dk_at dksX0_goRounds_3 17 rfl rfl)
theorem dX0_goRounds_92 : decode cX0_goRounds 92 = .ok (.if_icmp .lt 6, 3) := dk_161 0 6 (dk_at dksX0_goRounds_3 20 rfl rfl)
theorem dX0_goRounds_95 : decode cX0_goRounds 95 = .ok (.goto 24, 3) := dk_167 0 24 (dk_at dksX0_goRounds_4 0 rfl rfl)
theorem dX0_goRounds_98 : decode cX0_goRounds 98 = .ok (.aload_n 0, 1) := dk_42 (dk_at dksX0_goRounds_4 3 rfl rfl)
theorem dX0_goRounds_99 : decode cX0_goRounds 99 = .ok (.aload_n 0, 1) := dk_42 (dk_at dksX0_goRounds_4 4 rfl rfl)
theorem dX0_goRounds_100 : decode cX0_goRounds 100 = .ok (.invokevirtual 272, 3) := dk_182 1 16 (dk_at dksX0_goRounds_4 5 rfl rfl)
theorem dX0_goRounds_103 : decode cX0_goRounds 103 = .ok (.putfield 278, 3) := dk_181 1 22 (dk_at dksX0_goRounds_4 8 rfl rfl)
theorem dX0_goRounds_106 : decode cX0_goRounds 106 = .ok (.aload_n 0, 1) := dk_42 (dk_at dksX0_goRounds_4 11 rfl rfl)
theorem dX0_goRounds_107 : decode cX0_goRounds 107 = .ok (.iload_n 2, 1) := dk_28 (dk_at dksX0_goRounds_4 12 rfl rfl)
theorem dX0_goRounds_108 : decode cX0_goRounds 108 = .ok (.putfield 281, 3) := dk_181 1 25 (dk_at dksX0_goRounds_4 13 rfl rfl)
theorem dX0_goRounds_111 : decode cX0_goRounds 111 = .ok (.aload_n 0, 1) := dk_42 (dk_at dksX0_goRounds_4 16 rfl rfl)
theorem dX0_goRounds_112 : decode cX0_goRounds 112 = .ok (.aload_n 0, 1) := dk_42 (dk_at dksX0_goRounds_4 17 rfl rfl)
theorem dX0_goRounds_113 : decode cX0_goRounds 113 = .ok (.getfield 63, 3) := dk_180 0 63 (dk_at dksX0_goRounds_4 18 rfl rfl)
theorem dX0_goRounds_116 : decode cX0_goRounds 116 = .ok (.invokevirtual 284, 3) := dk_182 1 28 (dk_at dksX0_goRounds_4 21 rfl rfl)
theorem dX0_goRounds_119 : decode cX0_goRounds 119 = .ok (.iinc 2 1, 3) := dk_132 2 1 (dk_at dksX0_goRounds_5 0 rfl rfl)
theorem dX0_goRounds_122 : decode cX0_goRounds 122 = .ok (.goto (-59), 3) := dk_167 255 197 (dk_at dksX0_goRounds_5 3 rfl rfl)
theorem dX0_goRounds_125 : decode cX0_goRounds 125 = .ok (.aload_n 0, 1) := dk_42 (dk_at dksX0_goRounds_5 6 rfl rfl)
theorem dX0_goRounds_126 : decode cX0_goRounds 126 = .ok (.aload_n 0, 1) := dk_42 (dk_at dksX0_goRounds_5 7 rfl rfl)
theorem dX0_goRounds_127 : decode cX0_goRounds 127 = .ok (.invokevirtual 272, 3) := dk_182 1 16 (dk_at dksX0_goRounds_5 8 rfl rfl)
theorem dX0_goRounds_130 : decode cX0_goRounds 130 = .ok (.putfield 292, 3) := dk_181 1 36 (dk_at dksX0_goRounds_5 11 rfl rfl)
theorem dX0_goRounds_133 : decode cX0_goRounds 133 = .ok (.aload_n 0, 1) := dk_42 (dk_at dksX0_goRounds_5 14 rfl rfl)
theorem dX0_goRounds_134 : decode cX0_goRounds 134 = .ok (.aload_n 0, 1) := dk_42 (dk_at dksX0_goRounds_5 15 rfl rfl)
theorem dX0_goRounds_135 : decode cX0_goRounds 135 = .ok (.getfield 66, 3) := dk_180 0 66 (dk_at dksX0_goRounds_5 16 rfl rfl)
theorem dX0_goRounds_138 : decode cX0_goRounds 138 = .ok (.invokevirtual 284, 3) := dk_182 1 28 (dk_at dksX0_goRounds_5 19 rfl rfl)
theorem dX0_goRounds_141 : decode cX0_goRounds 141 = .ok (.iconst 0, 1) := dk_3 (dk_at dksX0_goRounds_5 22 rfl rfl)
theorem dX0_goRounds_142 : decode cX0_goRounds 142 = .ok (.istore_n 2, 1) := dk_61 (dk_at dksX0_goRounds_5 23 rfl rfl)
theorem dX0_goRounds_143 : decode cX0_goRounds 143 = .ok (.iload_n 2, 1) := dk_28 (dk_at dksX0_goRounds_6 0 rfl rfl)
theorem dX0_goRounds_144 : decode cX0_goRounds 144 = .ok (.aload_n 0, 1) := dk_42 (dk_at dksX0_goRounds_6 1 rfl rfl)
theorem dX0_goRounds_145 : decode cX0_goRounds 145 = .ok (.getfield 87, 3) := dk_180 0 87 (dk_at dksX0_goRounds_6 2 rfl rfl)
theorem dX0_goRounds_148 : decode cX0_goRounds 148 = .ok (.if_icmp .ge 24, 3) := dk_162 0 24 (dk_at dksX0_goRounds_6 5 rfl rfl)
theorem dX0_goRounds_151 : decode cX0_goRounds 151 = .ok (.aload_n 0, 1) := dk_42 (dk_at dksX0_goRounds_6 8 rfl rfl)
theorem dX0_goRounds_152 : decode cX0_goRounds 152 = .ok (.getfield 11, 3) := dk_180 0 11 (dk_at dksX0_goRounds_6 9 rfl rfl)
theorem dX0_goRounds_155 : decode cX0_goRounds 155 = .ok (.iload_n 2, 1) := dk_28 (dk_at dksX0_goRounds_6 12 rfl rfl)
theorem dX0_goRounds_156 : decode cX0_goRounds 156 = .ok (.aaload, 1) := dk_50 (dk_at dksX0_goRounds_6 13 rfl rfl)
theorem dX0_goRounds_157 : decode cX0_goRounds 157 = .ok (.aload_n 0, 1) := dk_42 (dk_at dksX0_goRounds_6 14 rfl rfl)
theorem dX0_goRounds_158 : decode cX0_goRounds 158 = .ok (.getfield 60, 3) := dk_180 0 60 (dk_at dksX0_goRounds_6 15 rfl rfl)
theorem dX0_goRounds_161 : decode cX0_goRounds 161 = .ok (.iload_n 2, 1) := dk_28 (dk_at dksX0_goRounds_6 18 rfl rfl)
theorem dX0_goRounds_162 : decode cX0_goRounds 162 = .ok (.iaload, 1) := dk_46 (dk_at dksX0_goRounds_6 19 rfl rfl)
theorem dX0_goRounds_163 : decode cX0_goRounds 163 = .ok (.putfield 155, 3) := dk_181 0 155 (dk_at dksX0_goRounds_6 20 rfl rfl)
theorem dX0_goRounds_166 : decode cX0_goRounds 166 = .ok (.iinc 2 1, 3) := dk_132 2 1 (dk_at dksX0_goRounds_7 0 rfl rfl)
theorem dX0_goRounds_169 : decode cX0_goRounds 169 = .ok (.goto (-26), 3) := dk_167 255 230 (dk_at dksX0_goRounds_7 3 rfl rfl)
theorem dX0_goRounds_172 : decode cX0_goRounds 172 = .ok (.return_, 1) := dk_177 (dk_at dksX0_goRounds_7 6 rfl rfl)
abbrev cX0_takePoints : ByteArray := prog_1_method_35_code
def yX0_takePoints : MethodName := ⟨RX0, "takePoints", "([I)V"⟩
def dkwX0_takePoints_1 : List UInt8 := [132, 2, 1, 167, 255, 233, 177]
abbrev dktX0_takePoints_1 : List UInt8 := dkwX0_takePoints_1 ++ []
def dkwX0_takePoints_0 : List UInt8 := [3, 61, 28, 42, 180, 0, 87, 162, 0, 21, 43, 28, 42, 180, 0, 11, 28, 50, 180, 0, 155, 79]
abbrev dktX0_takePoints_0 : List UInt8 := dkwX0_takePoints_0 ++ dktX0_takePoints_1
theorem dksX0_takePoints_0 : cX0_takePoints.data.toList.drop 0 = dktX0_takePoints_0 := by decide +kernel
theorem dksX0_takePoints_1 : cX0_takePoints.data.toList.drop 22 = dktX0_takePoints_1 := dk_seg dksX0_takePoints_0 22 rfl rfl
theorem dX0_takePoints_0 : decode cX0_takePoints 0 = .ok (.iconst 0, 1) := dk_3 (dk_at dksX0_takePoints_0 0 rfl rfl)
theorem dX0_takePoints_1 : decode cX0_takePoints 1 = .ok (.istore_n 2, 1) := dk_61 (dk_at dksX0_takePoints_0 1 rfl rfl)
theorem dX0_takePoints_2 : decode cX0_takePoints 2 = .ok (.iload_n 2, 1) := dk_28 (dk_at dksX0_takePoints_0 2 rfl rfl)
theorem dX0_takePoints_3 : decode cX0_takePoints 3 = .ok (.aload_n 0, 1) := dk_42 (dk_at dksX0_takePoints_0 3 rfl rfl)
theorem dX0_takePoints_4 : decode cX0_takePoints 4 = .ok (.getfield 87, 3) := dk_180 0 87 (dk_at dksX0_takePoints_0 4 rfl rfl)
theorem dX0_takePoints_7 : decode cX0_takePoints 7 = .ok (.if_icmp .ge 21, 3) := dk_162 0 21 (dk_at dksX0_takePoints_0 7 rfl rfl)
theorem dX0_takePoints_10 : decode cX0_takePoints 10 = .ok (.aload_n 1, 1) := dk_43 (dk_at dksX0_takePoints_0 10 rfl rfl)
theorem dX0_takePoints_11 : decode cX0_takePoints 11 = .ok (.iload_n 2, 1) := dk_28 (dk_at dksX0_takePoints_0 11 rfl rfl)
theorem dX0_takePoints_12 : decode cX0_takePoints 12 = .ok (.aload_n 0, 1) := dk_42 (dk_at dksX0_takePoints_0 12 rfl rfl)
theorem dX0_takePoints_13 : decode cX0_takePoints 13 = .ok (.getfield 11, 3) := dk_180 0 11 (dk_at dksX0_takePoints_0 13 rfl rfl)
theorem dX0_takePoints_16 : decode cX0_takePoints 16 = .ok (.iload_n 2, 1) := dk_28 (dk_at dksX0_takePoints_0 16 rfl rfl)
theorem dX0_takePoints_17 : decode cX0_takePoints 17 = .ok (.aaload, 1) := dk_50 (dk_at dksX0_takePoints_0 17 rfl rfl)
theorem dX0_takePoints_18 : decode cX0_takePoints 18 = .ok (.getfield 155, 3) := dk_180 0 155 (dk_at dksX0_takePoints_0 18 rfl rfl)
theorem dX0_takePoints_21 : decode cX0_takePoints 21 = .ok (.iastore, 1) := dk_79 (dk_at dksX0_takePoints_0 21 rfl rfl)
theorem dX0_takePoints_22 : decode cX0_takePoints 22 = .ok (.iinc 2 1, 3) := dk_132 2 1 (dk_at dksX0_takePoints_1 0 rfl rfl)
theorem dX0_takePoints_25 : decode cX0_takePoints 25 = .ok (.goto (-23), 3) := dk_167 255 233 (dk_at dksX0_takePoints_1 3 rfl rfl)
theorem dX0_takePoints_28 : decode cX0_takePoints 28 = .ok (.return_, 1) := dk_177 (dk_at dksX0_takePoints_1 6 rfl rfl)
abbrev cX0_step : ByteArray := prog_1_method_36_code
def yX0_step : MethodName := ⟨RX0, "step", "()Z"⟩
def dkwX0_step_4 : List UInt8 := [167, 255, 166, 27, 172]
abbrev dktX0_step_4 : List UInt8 := dkwX0_step_4 ++ []
def dkwX0_step_3 : List UInt8 := [180, 0, 155, 29, 96, 181, 0, 155, 27, 29, 153, 0, 7, 4, 167, 0, 4, 3, 128, 60, 132, 2, 1]
abbrev dktX0_step_3 : List UInt8 := dkwX0_step_3 ++ dktX0_step_4
def dkwX0_step_2 : List UInt8 := [180, 0, 11, 28, 50, 180, 0, 155, 158, 0, 7, 2, 167, 0, 4, 3, 62, 42, 180, 0, 11, 28, 50, 89]
abbrev dktX0_step_2 : List UInt8 := dkwX0_step_2 ++ dktX0_step_3
def dkwX0_step_1 : List UInt8 := [28, 50, 180, 0, 155, 16, 99, 162, 0, 7, 4, 167, 0, 28, 42, 28, 182, 1, 6, 158, 0, 19, 42]
abbrev dktX0_step_1 : List UInt8 := dkwX0_step_1 ++ dktX0_step_2
def dkwX0_step_0 : List UInt8 := [3, 60, 3, 61, 28, 42, 180, 0, 87, 162, 0, 88, 42, 28, 182, 1, 6, 156, 0, 21, 42, 180, 0, 11]
abbrev dktX0_step_0 : List UInt8 := dkwX0_step_0 ++ dktX0_step_1
theorem dksX0_step_0 : cX0_step.data.toList.drop 0 = dktX0_step_0 := by decide +kernel
theorem dksX0_step_1 : cX0_step.data.toList.drop 24 = dktX0_step_1 := dk_seg dksX0_step_0 24 rfl rfl
theorem dksX0_step_2 : cX0_step.data.toList.drop 47 = dktX0_step_2 := dk_seg dksX0_step_1 23 rfl rfl
theorem dksX0_step_3 : cX0_step.data.toList.drop 71 = dktX0_step_3 := dk_seg dksX0_step_2 24 rfl rfl
theorem dksX0_step_4 : cX0_step.data.toList.drop 94 = dktX0_step_4 := dk_seg dksX0_step_3 23 rfl rfl
theorem dX0_step_0 : decode cX0_step 0 = .ok (.iconst 0, 1) := dk_3 (dk_at dksX0_step_0 0 rfl rfl)
theorem dX0_step_1 : decode cX0_step 1 = .ok (.istore_n 1, 1) := dk_60 (dk_at dksX0_step_0 1 rfl rfl)
theorem dX0_step_2 : decode cX0_step 2 = .ok (.iconst 0, 1) := dk_3 (dk_at dksX0_step_0 2 rfl rfl)
theorem dX0_step_3 : decode cX0_step 3 = .ok (.istore_n 2, 1) := dk_61 (dk_at dksX0_step_0 3 rfl rfl)
theorem dX0_step_4 : decode cX0_step 4 = .ok (.iload_n 2, 1) := dk_28 (dk_at dksX0_step_0 4 rfl rfl)
theorem dX0_step_5 : decode cX0_step 5 = .ok (.aload_n 0, 1) := dk_42 (dk_at dksX0_step_0 5 rfl rfl)
theorem dX0_step_6 : decode cX0_step 6 = .ok (.getfield 87, 3) := dk_180 0 87 (dk_at dksX0_step_0 6 rfl rfl)
theorem dX0_step_9 : decode cX0_step 9 = .ok (.if_icmp .ge 88, 3) := dk_162 0 88 (dk_at dksX0_step_0 9 rfl rfl)
theorem dX0_step_12 : decode cX0_step 12 = .ok (.aload_n 0, 1) := dk_42 (dk_at dksX0_step_0 12 rfl rfl)
theorem dX0_step_13 : decode cX0_step 13 = .ok (.iload_n 2, 1) := dk_28 (dk_at dksX0_step_0 13 rfl rfl)
theorem dX0_step_14 : decode cX0_step 14 = .ok (.invokevirtual 262, 3) := dk_182 1 6 (dk_at dksX0_step_0 14 rfl rfl)
theorem dX0_step_17 : decode cX0_step 17 = .ok (.ifCond .ge 21, 3) := dk_156 0 21 (dk_at dksX0_step_0 17 rfl rfl)
theorem dX0_step_20 : decode cX0_step 20 = .ok (.aload_n 0, 1) := dk_42 (dk_at dksX0_step_0 20 rfl rfl)
theorem dX0_step_21 : decode cX0_step 21 = .ok (.getfield 11, 3) := dk_180 0 11 (dk_at dksX0_step_0 21 rfl rfl)
theorem dX0_step_24 : decode cX0_step 24 = .ok (.iload_n 2, 1) := dk_28 (dk_at dksX0_step_1 0 rfl rfl)
theorem dX0_step_25 : decode cX0_step 25 = .ok (.aaload, 1) := dk_50 (dk_at dksX0_step_1 1 rfl rfl)
theorem dX0_step_26 : decode cX0_step 26 = .ok (.getfield 155, 3) := dk_180 0 155 (dk_at dksX0_step_1 2 rfl rfl)
theorem dX0_step_29 : decode cX0_step 29 = .ok (.bipush 99, 2) := dk_16 99 (dk_at dksX0_step_1 5 rfl rfl)
theorem dX0_step_31 : decode cX0_step 31 = .ok (.if_icmp .ge 7, 3) := dk_162 0 7 (dk_at dksX0_step_1 7 rfl rfl)
theorem dX0_step_34 : decode cX0_step 34 = .ok (.iconst 1, 1) := dk_4 (dk_at dksX0_step_1 10 rfl rfl)
theorem dX0_step_35 : decode cX0_step 35 = .ok (.goto 28, 3) := dk_167 0 28 (dk_at dksX0_step_1 11 rfl rfl)
theorem dX0_step_38 : decode cX0_step 38 = .ok (.aload_n 0, 1) := dk_42 (dk_at dksX0_step_1 14 rfl rfl)
theorem dX0_step_39 : decode cX0_step 39 = .ok (.iload_n 2, 1) := dk_28 (dk_at dksX0_step_1 15 rfl rfl)
theorem dX0_step_40 : decode cX0_step 40 = .ok (.invokevirtual 262, 3) := dk_182 1 6 (dk_at dksX0_step_1 16 rfl rfl)
theorem dX0_step_43 : decode cX0_step 43 = .ok (.ifCond .le 19, 3) := dk_158 0 19 (dk_at dksX0_step_1 19 rfl rfl)
theorem dX0_step_46 : decode cX0_step 46 = .ok (.aload_n 0, 1) := dk_42 (dk_at dksX0_step_1 22 rfl rfl)
theorem dX0_step_47 : decode cX0_step 47 = .ok (.getfield 11, 3) := dk_180 0 11 (dk_at dksX0_step_2 0 rfl rfl)
theorem dX0_step_50 : decode cX0_step 50 = .ok (.iload_n 2, 1) := dk_28 (dk_at dksX0_step_2 3 rfl rfl)
theorem dX0_step_51 : decode cX0_step 51 = .ok (.aaload, 1) := dk_50 (dk_at dksX0_step_2 4 rfl rfl)
theorem dX0_step_52 : decode cX0_step 52 = .ok (.getfield 155, 3) := dk_180 0 155 (dk_at dksX0_step_2 5 rfl rfl)
theorem dX0_step_55 : decode cX0_step 55 = .ok (.ifCond .le 7, 3) := dk_158 0 7 (dk_at dksX0_step_2 8 rfl rfl)
theorem dX0_step_58 : decode cX0_step 58 = .ok (.iconst (-1), 1) := dk_2 (dk_at dksX0_step_2 11 rfl rfl)
theorem dX0_step_59 : decode cX0_step 59 = .ok (.goto 4, 3) := dk_167 0 4 (dk_at dksX0_step_2 12 rfl rfl)
theorem dX0_step_62 : decode cX0_step 62 = .ok (.iconst 0, 1) := dk_3 (dk_at dksX0_step_2 15 rfl rfl)
theorem dX0_step_63 : decode cX0_step 63 = .ok (.istore_n 3, 1) := dk_62 (dk_at dksX0_step_2 16 rfl rfl)
theorem dX0_step_64 : decode cX0_step 64 = .ok (.aload_n 0, 1) := dk_42 (dk_at dksX0_step_2 17 rfl rfl)
theorem dX0_step_65 : decode cX0_step 65 = .ok (.getfield 11, 3) := dk_180 0 11 (dk_at dksX0_step_2 18 rfl rfl)
theorem dX0_step_68 : decode cX0_step 68 = .ok (.iload_n 2, 1) := dk_28 (dk_at dksX0_step_2 21 rfl rfl)
theorem dX0_step_69 : decode cX0_step 69 = .ok (.aaload, 1) := dk_50 (dk_at dksX0_step_2 22 rfl rfl)
theorem dX0_step_70 : decode cX0_step 70 = .ok (.dup, 1) := dk_89 (dk_at dksX0_step_2 23 rfl rfl)
theorem dX0_step_71 : decode cX0_step 71 = .ok (.getfield 155, 3) := dk_180 0 155 (dk_at dksX0_step_3 0 rfl rfl)
theorem dX0_step_74 : decode cX0_step 74 = .ok (.iload_n 3, 1) := dk_29 (dk_at dksX0_step_3 3 rfl rfl)
theorem dX0_step_75 : decode cX0_step 75 = .ok (.iadd, 1) := dk_96 (dk_at dksX0_step_3 4 rfl rfl)
theorem dX0_step_76 : decode cX0_step 76 = .ok (.putfield 155, 3) := dk_181 0 155 (dk_at dksX0_step_3 5 rfl rfl)
theorem dX0_step_79 : decode cX0_step 79 = .ok (.iload_n 1, 1) := dk_27 (dk_at dksX0_step_3 8 rfl rfl)
theorem dX0_step_80 : decode cX0_step 80 = .ok (.iload_n 3, 1) := dk_29 (dk_at dksX0_step_3 9 rfl rfl)
theorem dX0_step_81 : decode cX0_step 81 = .ok (.ifCond .eq 7, 3) := dk_153 0 7 (dk_at dksX0_step_3 10 rfl rfl)
theorem dX0_step_84 : decode cX0_step 84 = .ok (.iconst 1, 1) := dk_4 (dk_at dksX0_step_3 13 rfl rfl)
theorem dX0_step_85 : decode cX0_step 85 = .ok (.goto 4, 3) := dk_167 0 4 (dk_at dksX0_step_3 14 rfl rfl)
theorem dX0_step_88 : decode cX0_step 88 = .ok (.iconst 0, 1) := dk_3 (dk_at dksX0_step_3 17 rfl rfl)
theorem dX0_step_89 : decode cX0_step 89 = .ok (.ior, 1) := dk_128 (dk_at dksX0_step_3 18 rfl rfl)
theorem dX0_step_90 : decode cX0_step 90 = .ok (.istore_n 1, 1) := dk_60 (dk_at dksX0_step_3 19 rfl rfl)
theorem dX0_step_91 : decode cX0_step 91 = .ok (.iinc 2 1, 3) := dk_132 2 1 (dk_at dksX0_step_3 20 rfl rfl)
theorem dX0_step_94 : decode cX0_step 94 = .ok (.goto (-90), 3) := dk_167 255 166 (dk_at dksX0_step_4 0 rfl rfl)
theorem dX0_step_97 : decode cX0_step 97 = .ok (.iload_n 1, 1) := dk_27 (dk_at dksX0_step_4 3 rfl rfl)
theorem dX0_step_98 : decode cX0_step 98 = .ok (.ireturn, 1) := dk_172 (dk_at dksX0_step_4 4 rfl rfl)
abbrev cX0_set : ByteArray := prog_1_method_38_code
def yX0_set : MethodName := ⟨RX0, "set", "(I)I"⟩
def dkwX0_set_2 : List UInt8 := [180, 1, 22, 172]
abbrev dktX0_set_2 : List UInt8 := dkwX0_set_2 ++ []
def dkwX0_set_1 : List UInt8 := [162, 0, 22, 42, 5, 28, 42, 180, 0, 63, 28, 46, 182, 0, 189, 87, 132, 2, 1, 167, 255, 232, 42]
abbrev dktX0_set_1 : List UInt8 := dkwX0_set_1 ++ dktX0_set_2
def dkwX0_set_0 : List UInt8 := [27, 4, 16, 60, 184, 0, 91, 154, 0, 5, 2, 172, 42, 27, 182, 1, 39, 3, 61, 28, 42, 180, 0, 87]
abbrev dktX0_set_0 : List UInt8 := dkwX0_set_0 ++ dktX0_set_1
theorem dksX0_set_0 : cX0_set.data.toList.drop 0 = dktX0_set_0 := by decide +kernel
theorem dksX0_set_1 : cX0_set.data.toList.drop 24 = dktX0_set_1 := dk_seg dksX0_set_0 24 rfl rfl
theorem dksX0_set_2 : cX0_set.data.toList.drop 47 = dktX0_set_2 := dk_seg dksX0_set_1 23 rfl rfl
theorem dX0_set_0 : decode cX0_set 0 = .ok (.iload_n 1, 1) := dk_27 (dk_at dksX0_set_0 0 rfl rfl)
theorem dX0_set_1 : decode cX0_set 1 = .ok (.iconst 1, 1) := dk_4 (dk_at dksX0_set_0 1 rfl rfl)
theorem dX0_set_2 : decode cX0_set 2 = .ok (.bipush 60, 2) := dk_16 60 (dk_at dksX0_set_0 2 rfl rfl)
theorem dX0_set_4 : decode cX0_set 4 = .ok (.invokestatic 91, 3) := dk_184 0 91 (dk_at dksX0_set_0 4 rfl rfl)
theorem dX0_set_7 : decode cX0_set 7 = .ok (.ifCond .ne 5, 3) := dk_154 0 5 (dk_at dksX0_set_0 7 rfl rfl)
theorem dX0_set_10 : decode cX0_set 10 = .ok (.iconst (-1), 1) := dk_2 (dk_at dksX0_set_0 10 rfl rfl)
theorem dX0_set_11 : decode cX0_set 11 = .ok (.ireturn, 1) := dk_172 (dk_at dksX0_set_0 11 rfl rfl)
theorem dX0_set_12 : decode cX0_set 12 = .ok (.aload_n 0, 1) := dk_42 (dk_at dksX0_set_0 12 rfl rfl)
theorem dX0_set_13 : decode cX0_set 13 = .ok (.iload_n 1, 1) := dk_27 (dk_at dksX0_set_0 13 rfl rfl)
theorem dX0_set_14 : decode cX0_set 14 = .ok (.invokevirtual 295, 3) := dk_182 1 39 (dk_at dksX0_set_0 14 rfl rfl)
theorem dX0_set_17 : decode cX0_set 17 = .ok (.iconst 0, 1) := dk_3 (dk_at dksX0_set_0 17 rfl rfl)
theorem dX0_set_18 : decode cX0_set 18 = .ok (.istore_n 2, 1) := dk_61 (dk_at dksX0_set_0 18 rfl rfl)
theorem dX0_set_19 : decode cX0_set 19 = .ok (.iload_n 2, 1) := dk_28 (dk_at dksX0_set_0 19 rfl rfl)
theorem dX0_set_20 : decode cX0_set 20 = .ok (.aload_n 0, 1) := dk_42 (dk_at dksX0_set_0 20 rfl rfl)
theorem dX0_set_21 : decode cX0_set 21 = .ok (.getfield 87, 3) := dk_180 0 87 (dk_at dksX0_set_0 21 rfl rfl)
theorem dX0_set_24 : decode cX0_set 24 = .ok (.if_icmp .ge 22, 3) := dk_162 0 22 (dk_at dksX0_set_1 0 rfl rfl)
theorem dX0_set_27 : decode cX0_set 27 = .ok (.aload_n 0, 1) := dk_42 (dk_at dksX0_set_1 3 rfl rfl)
theorem dX0_set_28 : decode cX0_set 28 = .ok (.iconst 2, 1) := dk_5 (dk_at dksX0_set_1 4 rfl rfl)
theorem dX0_set_29 : decode cX0_set 29 = .ok (.iload_n 2, 1) := dk_28 (dk_at dksX0_set_1 5 rfl rfl)
theorem dX0_set_30 : decode cX0_set 30 = .ok (.aload_n 0, 1) := dk_42 (dk_at dksX0_set_1 6 rfl rfl)
theorem dX0_set_31 : decode cX0_set 31 = .ok (.getfield 63, 3) := dk_180 0 63 (dk_at dksX0_set_1 7 rfl rfl)
theorem dX0_set_34 : decode cX0_set 34 = .ok (.iload_n 2, 1) := dk_28 (dk_at dksX0_set_1 10 rfl rfl)
theorem dX0_set_35 : decode cX0_set 35 = .ok (.iaload, 1) := dk_46 (dk_at dksX0_set_1 11 rfl rfl)
theorem dX0_set_36 : decode cX0_set 36 = .ok (.invokevirtual 189, 3) := dk_182 0 189 (dk_at dksX0_set_1 12 rfl rfl)
theorem dX0_set_39 : decode cX0_set 39 = .ok (.pop, 1) := dk_87 (dk_at dksX0_set_1 15 rfl rfl)
theorem dX0_set_40 : decode cX0_set 40 = .ok (.iinc 2 1, 3) := dk_132 2 1 (dk_at dksX0_set_1 16 rfl rfl)
theorem dX0_set_43 : decode cX0_set 43 = .ok (.goto (-24), 3) := dk_167 255 232 (dk_at dksX0_set_1 19 rfl rfl)
theorem dX0_set_46 : decode cX0_set 46 = .ok (.aload_n 0, 1) := dk_42 (dk_at dksX0_set_1 22 rfl rfl)
theorem dX0_set_47 : decode cX0_set 47 = .ok (.getfield 278, 3) := dk_180 1 22 (dk_at dksX0_set_2 0 rfl rfl)
theorem dX0_set_50 : decode cX0_set 50 = .ok (.ireturn, 1) := dk_172 (dk_at dksX0_set_2 3 rfl rfl)
abbrev cX0_tell : ByteArray := prog_1_method_40_code
def yX0_tell : MethodName := ⟨RX0, "tell", "(II)I"⟩
def dkwX0_tell_1 : List UInt8 := [180, 0, 17, 27, 50, 180, 1, 45, 62, 42, 180, 0, 17, 27, 50, 28, 181, 1, 45, 29, 172]
abbrev dktX0_tell_1 : List UInt8 := dkwX0_tell_1 ++ []
def dkwX0_tell_0 : List UInt8 := [42, 27, 182, 0, 127, 153, 0, 15, 28, 155, 0, 11, 42, 28, 182, 1, 42, 156, 0, 5, 2, 172, 42]
abbrev dktX0_tell_0 : List UInt8 := dkwX0_tell_0 ++ dktX0_tell_1
theorem dksX0_tell_0 : cX0_tell.data.toList.drop 0 = dktX0_tell_0 := by decide +kernel
theorem dksX0_tell_1 : cX0_tell.data.toList.drop 23 = dktX0_tell_1 := dk_seg dksX0_tell_0 23 rfl rfl
theorem dX0_tell_0 : decode cX0_tell 0 = .ok (.aload_n 0, 1) := dk_42 (dk_at dksX0_tell_0 0 rfl rfl)
theorem dX0_tell_1 : decode cX0_tell 1 = .ok (.iload_n 1, 1) := dk_27 (dk_at dksX0_tell_0 1 rfl rfl)
theorem dX0_tell_2 : decode cX0_tell 2 = .ok (.invokevirtual 127, 3) := dk_182 0 127 (dk_at dksX0_tell_0 2 rfl rfl)
theorem dX0_tell_5 : decode cX0_tell 5 = .ok (.ifCond .eq 15, 3) := dk_153 0 15 (dk_at dksX0_tell_0 5 rfl rfl)
theorem dX0_tell_8 : decode cX0_tell 8 = .ok (.iload_n 2, 1) := dk_28 (dk_at dksX0_tell_0 8 rfl rfl)
theorem dX0_tell_9 : decode cX0_tell 9 = .ok (.ifCond .lt 11, 3) := dk_155 0 11 (dk_at dksX0_tell_0 9 rfl rfl)
theorem dX0_tell_12 : decode cX0_tell 12 = .ok (.aload_n 0, 1) := dk_42 (dk_at dksX0_tell_0 12 rfl rfl)
theorem dX0_tell_13 : decode cX0_tell 13 = .ok (.iload_n 2, 1) := dk_28 (dk_at dksX0_tell_0 13 rfl rfl)
theorem dX0_tell_14 : decode cX0_tell 14 = .ok (.invokevirtual 298, 3) := dk_182 1 42 (dk_at dksX0_tell_0 14 rfl rfl)
theorem dX0_tell_17 : decode cX0_tell 17 = .ok (.ifCond .ge 5, 3) := dk_156 0 5 (dk_at dksX0_tell_0 17 rfl rfl)
theorem dX0_tell_20 : decode cX0_tell 20 = .ok (.iconst (-1), 1) := dk_2 (dk_at dksX0_tell_0 20 rfl rfl)
theorem dX0_tell_21 : decode cX0_tell 21 = .ok (.ireturn, 1) := dk_172 (dk_at dksX0_tell_0 21 rfl rfl)
theorem dX0_tell_22 : decode cX0_tell 22 = .ok (.aload_n 0, 1) := dk_42 (dk_at dksX0_tell_0 22 rfl rfl)
theorem dX0_tell_23 : decode cX0_tell 23 = .ok (.getfield 17, 3) := dk_180 0 17 (dk_at dksX0_tell_1 0 rfl rfl)
theorem dX0_tell_26 : decode cX0_tell 26 = .ok (.iload_n 1, 1) := dk_27 (dk_at dksX0_tell_1 3 rfl rfl)
theorem dX0_tell_27 : decode cX0_tell 27 = .ok (.aaload, 1) := dk_50 (dk_at dksX0_tell_1 4 rfl rfl)
theorem dX0_tell_28 : decode cX0_tell 28 = .ok (.getfield 301, 3) := dk_180 1 45 (dk_at dksX0_tell_1 5 rfl rfl)
theorem dX0_tell_31 : decode cX0_tell 31 = .ok (.istore_n 3, 1) := dk_62 (dk_at dksX0_tell_1 8 rfl rfl)
theorem dX0_tell_32 : decode cX0_tell 32 = .ok (.aload_n 0, 1) := dk_42 (dk_at dksX0_tell_1 9 rfl rfl)
theorem dX0_tell_33 : decode cX0_tell 33 = .ok (.getfield 17, 3) := dk_180 0 17 (dk_at dksX0_tell_1 10 rfl rfl)
theorem dX0_tell_36 : decode cX0_tell 36 = .ok (.iload_n 1, 1) := dk_27 (dk_at dksX0_tell_1 13 rfl rfl)
theorem dX0_tell_37 : decode cX0_tell 37 = .ok (.aaload, 1) := dk_50 (dk_at dksX0_tell_1 14 rfl rfl)
theorem dX0_tell_38 : decode cX0_tell 38 = .ok (.iload_n 2, 1) := dk_28 (dk_at dksX0_tell_1 15 rfl rfl)
theorem dX0_tell_39 : decode cX0_tell 39 = .ok (.putfield 301, 3) := dk_181 1 45 (dk_at dksX0_tell_1 16 rfl rfl)
theorem dX0_tell_42 : decode cX0_tell 42 = .ok (.iload_n 3, 1) := dk_29 (dk_at dksX0_tell_1 19 rfl rfl)
theorem dX0_tell_43 : decode cX0_tell 43 = .ok (.ireturn, 1) := dk_172 (dk_at dksX0_tell_1 20 rfl rfl)
abbrev cX0_toldBasket : ByteArray := prog_1_method_39_code
def yX0_toldBasket : MethodName := ⟨RX0, "toldBasket", "(I)I"⟩
def dkwX0_toldBasket_2 : List UInt8 := [28, 16, 10, 108, 61, 132, 4, 255, 167, 255, 214, 28, 154, 0, 7, 29, 167, 0, 4, 2, 172]
abbrev dktX0_toldBasket_2 : List UInt8 := dkwX0_toldBasket_2 ++ []
def dkwX0_toldBasket_1 : List UInt8 := [164, 0, 5, 2, 172, 29, 28, 16, 10, 112, 5, 42, 180, 0, 87, 4, 100, 21, 4, 100, 104, 120, 128, 62]
abbrev dktX0_toldBasket_1 : List UInt8 := dkwX0_toldBasket_1 ++ dktX0_toldBasket_2
def dkwX0_toldBasket_0 : List UInt8 := [27, 61, 3, 62, 42, 180, 0, 87, 4, 100, 54, 4, 21, 4, 155, 0, 43, 28, 16, 10, 112, 6]
abbrev dktX0_toldBasket_0 : List UInt8 := dkwX0_toldBasket_0 ++ dktX0_toldBasket_1
theorem dksX0_toldBasket_0 : cX0_toldBasket.data.toList.drop 0 = dktX0_toldBasket_0 := by decide +kernel
theorem dksX0_toldBasket_1 : cX0_toldBasket.data.toList.drop 22 = dktX0_toldBasket_1 := dk_seg dksX0_toldBasket_0 22 rfl rfl
theorem dksX0_toldBasket_2 : cX0_toldBasket.data.toList.drop 46 = dktX0_toldBasket_2 := dk_seg dksX0_toldBasket_1 24 rfl rfl
theorem dX0_toldBasket_0 : decode cX0_toldBasket 0 = .ok (.iload_n 1, 1) := dk_27 (dk_at dksX0_toldBasket_0 0 rfl rfl)
theorem dX0_toldBasket_1 : decode cX0_toldBasket 1 = .ok (.istore_n 2, 1) := dk_61 (dk_at dksX0_toldBasket_0 1 rfl rfl)
theorem dX0_toldBasket_2 : decode cX0_toldBasket 2 = .ok (.iconst 0, 1) := dk_3 (dk_at dksX0_toldBasket_0 2 rfl rfl)
theorem dX0_toldBasket_3 : decode cX0_toldBasket 3 = .ok (.istore_n 3, 1) := dk_62 (dk_at dksX0_toldBasket_0 3 rfl rfl)
theorem dX0_toldBasket_4 : decode cX0_toldBasket 4 = .ok (.aload_n 0, 1) := dk_42 (dk_at dksX0_toldBasket_0 4 rfl rfl)
theorem dX0_toldBasket_5 : decode cX0_toldBasket 5 = .ok (.getfield 87, 3) := dk_180 0 87 (dk_at dksX0_toldBasket_0 5 rfl rfl)
theorem dX0_toldBasket_8 : decode cX0_toldBasket 8 = .ok (.iconst 1, 1) := dk_4 (dk_at dksX0_toldBasket_0 8 rfl rfl)
theorem dX0_toldBasket_9 : decode cX0_toldBasket 9 = .ok (.isub, 1) := dk_100 (dk_at dksX0_toldBasket_0 9 rfl rfl)
theorem dX0_toldBasket_10 : decode cX0_toldBasket 10 = .ok (.istore 4, 2) := dk_54 4 (dk_at dksX0_toldBasket_0 10 rfl rfl)
theorem dX0_toldBasket_12 : decode cX0_toldBasket 12 = .ok (.iload 4, 2) := dk_21 4 (dk_at dksX0_toldBasket_0 12 rfl rfl)
theorem dX0_toldBasket_14 : decode cX0_toldBasket 14 = .ok (.ifCond .lt 43, 3) := dk_155 0 43 (dk_at dksX0_toldBasket_0 14 rfl rfl)
theorem dX0_toldBasket_17 : decode cX0_toldBasket 17 = .ok (.iload_n 2, 1) := dk_28 (dk_at dksX0_toldBasket_0 17 rfl rfl)
theorem dX0_toldBasket_18 : decode cX0_toldBasket 18 = .ok (.bipush 10, 2) := dk_16 10 (dk_at dksX0_toldBasket_0 18 rfl rfl)
theorem dX0_toldBasket_20 : decode cX0_toldBasket 20 = .ok (.irem, 1) := dk_112 (dk_at dksX0_toldBasket_0 20 rfl rfl)
theorem dX0_toldBasket_21 : decode cX0_toldBasket 21 = .ok (.iconst 3, 1) := dk_6 (dk_at dksX0_toldBasket_0 21 rfl rfl)
theorem dX0_toldBasket_22 : decode cX0_toldBasket 22 = .ok (.if_icmp .le 5, 3) := dk_164 0 5 (dk_at dksX0_toldBasket_1 0 rfl rfl)
theorem dX0_toldBasket_25 : decode cX0_toldBasket 25 = .ok (.iconst (-1), 1) := dk_2 (dk_at dksX0_toldBasket_1 3 rfl rfl)
theorem dX0_toldBasket_26 : decode cX0_toldBasket 26 = .ok (.ireturn, 1) := dk_172 (dk_at dksX0_toldBasket_1 4 rfl rfl)
theorem dX0_toldBasket_27 : decode cX0_toldBasket 27 = .ok (.iload_n 3, 1) := dk_29 (dk_at dksX0_toldBasket_1 5 rfl rfl)
theorem dX0_toldBasket_28 : decode cX0_toldBasket 28 = .ok (.iload_n 2, 1) := dk_28 (dk_at dksX0_toldBasket_1 6 rfl rfl)
theorem dX0_toldBasket_29 : decode cX0_toldBasket 29 = .ok (.bipush 10, 2) := dk_16 10 (dk_at dksX0_toldBasket_1 7 rfl rfl)
theorem dX0_toldBasket_31 : decode cX0_toldBasket 31 = .ok (.irem, 1) := dk_112 (dk_at dksX0_toldBasket_1 9 rfl rfl)
theorem dX0_toldBasket_32 : decode cX0_toldBasket 32 = .ok (.iconst 2, 1) := dk_5 (dk_at dksX0_toldBasket_1 10 rfl rfl)
theorem dX0_toldBasket_33 : decode cX0_toldBasket 33 = .ok (.aload_n 0, 1) := dk_42 (dk_at dksX0_toldBasket_1 11 rfl rfl)
theorem dX0_toldBasket_34 : decode cX0_toldBasket 34 = .ok (.getfield 87, 3) := dk_180 0 87 (dk_at dksX0_toldBasket_1 12 rfl rfl)
theorem dX0_toldBasket_37 : decode cX0_toldBasket 37 = .ok (.iconst 1, 1) := dk_4 (dk_at dksX0_toldBasket_1 15 rfl rfl)
theorem dX0_toldBasket_38 : decode cX0_toldBasket 38 = .ok (.isub, 1) := dk_100 (dk_at dksX0_toldBasket_1 16 rfl rfl)
theorem dX0_toldBasket_39 : decode cX0_toldBasket 39 = .ok (.iload 4, 2) := dk_21 4 (dk_at dksX0_toldBasket_1 17 rfl rfl)
theorem dX0_toldBasket_41 : decode cX0_toldBasket 41 = .ok (.isub, 1) := dk_100 (dk_at dksX0_toldBasket_1 19 rfl rfl)
theorem dX0_toldBasket_42 : decode cX0_toldBasket 42 = .ok (.imul, 1) := dk_104 (dk_at dksX0_toldBasket_1 20 rfl rfl)
theorem dX0_toldBasket_43 : decode cX0_toldBasket 43 = .ok (.ishl, 1) := dk_120 (dk_at dksX0_toldBasket_1 21 rfl rfl)
theorem dX0_toldBasket_44 : decode cX0_toldBasket 44 = .ok (.ior, 1) := dk_128 (dk_at dksX0_toldBasket_1 22 rfl rfl)
theorem dX0_toldBasket_45 : decode cX0_toldBasket 45 = .ok (.istore_n 3, 1) := dk_62 (dk_at dksX0_toldBasket_1 23 rfl rfl)
theorem dX0_toldBasket_46 : decode cX0_toldBasket 46 = .ok (.iload_n 2, 1) := dk_28 (dk_at dksX0_toldBasket_2 0 rfl rfl)
theorem dX0_toldBasket_47 : decode cX0_toldBasket 47 = .ok (.bipush 10, 2) := dk_16 10 (dk_at dksX0_toldBasket_2 1 rfl rfl)
theorem dX0_toldBasket_49 : decode cX0_toldBasket 49 = .ok (.idiv, 1) := dk_108 (dk_at dksX0_toldBasket_2 3 rfl rfl)
theorem dX0_toldBasket_50 : decode cX0_toldBasket 50 = .ok (.istore_n 2, 1) := dk_61 (dk_at dksX0_toldBasket_2 4 rfl rfl)
theorem dX0_toldBasket_51 : decode cX0_toldBasket 51 = .ok (.iinc 4 (-1), 3) := dk_132 4 255 (dk_at dksX0_toldBasket_2 5 rfl rfl)
theorem dX0_toldBasket_54 : decode cX0_toldBasket 54 = .ok (.goto (-42), 3) := dk_167 255 214 (dk_at dksX0_toldBasket_2 8 rfl rfl)
theorem dX0_toldBasket_57 : decode cX0_toldBasket 57 = .ok (.iload_n 2, 1) := dk_28 (dk_at dksX0_toldBasket_2 11 rfl rfl)
theorem dX0_toldBasket_58 : decode cX0_toldBasket 58 = .ok (.ifCond .ne 7, 3) := dk_154 0 7 (dk_at dksX0_toldBasket_2 12 rfl rfl)
theorem dX0_toldBasket_61 : decode cX0_toldBasket 61 = .ok (.iload_n 3, 1) := dk_29 (dk_at dksX0_toldBasket_2 15 rfl rfl)
theorem dX0_toldBasket_62 : decode cX0_toldBasket 62 = .ok (.goto 4, 3) := dk_167 0 4 (dk_at dksX0_toldBasket_2 16 rfl rfl)
theorem dX0_toldBasket_65 : decode cX0_toldBasket 65 = .ok (.iconst (-1), 1) := dk_2 (dk_at dksX0_toldBasket_2 19 rfl rfl)
theorem dX0_toldBasket_66 : decode cX0_toldBasket 66 = .ok (.ireturn, 1) := dk_172 (dk_at dksX0_toldBasket_2 20 rfl rfl)
abbrev cX0_judge : ByteArray := prog_1_method_41_code
def yX0_judge : MethodName := ⟨RX0, "judge", "()I"⟩
def dkwX0_judge_7 : List UInt8 := [27, 50, 180, 0, 149, 164, 0, 8, 16, 30, 27, 96, 172, 132, 1, 1, 167, 255, 178, 16, 254, 172]
abbrev dktX0_judge_7 : List UInt8 := dkwX0_judge_7 ++ []
def dkwX0_judge_6 : List UInt8 := [180, 1, 45, 182, 1, 42, 27, 182, 0, 242, 104, 96, 61, 132, 3, 1, 167, 255, 214, 28, 42, 180, 0, 11]
abbrev dktX0_judge_6 : List UInt8 := dkwX0_judge_6 ++ dktX0_judge_7
def dkwX0_judge_5 : List UInt8 := [180, 0, 95, 162, 0, 40, 28, 42, 180, 0, 17, 29, 50, 180, 0, 130, 42, 42, 42, 180, 0, 17, 29, 50]
abbrev dktX0_judge_5 : List UInt8 := dkwX0_judge_5 ++ dktX0_judge_6
def dkwX0_judge_4 : List UInt8 := [132, 1, 1, 167, 255, 164, 3, 60, 27, 42, 180, 0, 87, 162, 0, 76, 3, 61, 3, 62, 29, 42]
abbrev dktX0_judge_4 : List UInt8 := dkwX0_judge_4 ++ dktX0_judge_5
def dkwX0_judge_3 : List UInt8 := [96, 172, 42, 180, 0, 44, 29, 46, 42, 180, 0, 44, 28, 46, 162, 0, 8, 16, 20, 27, 96, 172]
abbrev dktX0_judge_3 : List UInt8 := dkwX0_judge_3 ++ dktX0_judge_4
def dkwX0_judge_2 : List UInt8 := [163, 0, 21, 42, 180, 0, 51, 29, 46, 42, 180, 0, 17, 27, 50, 182, 0, 136, 164, 0, 8, 16, 10, 27]
abbrev dktX0_judge_2 : List UInt8 := dkwX0_judge_2 ++ dktX0_judge_3
def dkwX0_judge_1 : List UInt8 := [180, 1, 45, 182, 1, 42, 62, 42, 180, 0, 48, 29, 46, 42, 180, 0, 17, 27, 50, 180, 0, 133]
abbrev dktX0_judge_1 : List UInt8 := dkwX0_judge_1 ++ dktX0_judge_2
def dkwX0_judge_0 : List UInt8 := [3, 60, 27, 42, 180, 0, 95, 162, 0, 90, 42, 27, 182, 0, 255, 61, 42, 42, 180, 0, 17, 27, 50]
abbrev dktX0_judge_0 : List UInt8 := dkwX0_judge_0 ++ dktX0_judge_1
theorem dksX0_judge_0 : cX0_judge.data.toList.drop 0 = dktX0_judge_0 := by decide +kernel
theorem dksX0_judge_1 : cX0_judge.data.toList.drop 23 = dktX0_judge_1 := dk_seg dksX0_judge_0 23 rfl rfl
theorem dksX0_judge_2 : cX0_judge.data.toList.drop 45 = dktX0_judge_2 := dk_seg dksX0_judge_1 22 rfl rfl
theorem dksX0_judge_3 : cX0_judge.data.toList.drop 69 = dktX0_judge_3 := dk_seg dksX0_judge_2 24 rfl rfl
theorem dksX0_judge_4 : cX0_judge.data.toList.drop 91 = dktX0_judge_4 := dk_seg dksX0_judge_3 22 rfl rfl
theorem dksX0_judge_5 : cX0_judge.data.toList.drop 113 = dktX0_judge_5 := dk_seg dksX0_judge_4 22 rfl rfl
theorem dksX0_judge_6 : cX0_judge.data.toList.drop 137 = dktX0_judge_6 := dk_seg dksX0_judge_5 24 rfl rfl
theorem dksX0_judge_7 : cX0_judge.data.toList.drop 161 = dktX0_judge_7 := dk_seg dksX0_judge_6 24 rfl rfl
theorem dX0_judge_0 : decode cX0_judge 0 = .ok (.iconst 0, 1) := dk_3 (dk_at dksX0_judge_0 0 rfl rfl)
theorem dX0_judge_1 : decode cX0_judge 1 = .ok (.istore_n 1, 1) := dk_60 (dk_at dksX0_judge_0 1 rfl rfl)
theorem dX0_judge_2 : decode cX0_judge 2 = .ok (.iload_n 1, 1) := dk_27 (dk_at dksX0_judge_0 2 rfl rfl)
theorem dX0_judge_3 : decode cX0_judge 3 = .ok (.aload_n 0, 1) := dk_42 (dk_at dksX0_judge_0 3 rfl rfl)
theorem dX0_judge_4 : decode cX0_judge 4 = .ok (.getfield 95, 3) := dk_180 0 95 (dk_at dksX0_judge_0 4 rfl rfl)
theorem dX0_judge_7 : decode cX0_judge 7 = .ok (.if_icmp .ge 90, 3) := dk_162 0 90 (dk_at dksX0_judge_0 7 rfl rfl)
theorem dX0_judge_10 : decode cX0_judge 10 = .ok (.aload_n 0, 1) := dk_42 (dk_at dksX0_judge_0 10 rfl rfl)
theorem dX0_judge_11 : decode cX0_judge 11 = .ok (.iload_n 1, 1) := dk_27 (dk_at dksX0_judge_0 11 rfl rfl)
theorem dX0_judge_12 : decode cX0_judge 12 = .ok (.invokevirtual 255, 3) := dk_182 0 255 (dk_at dksX0_judge_0 12 rfl rfl)
theorem dX0_judge_15 : decode cX0_judge 15 = .ok (.istore_n 2, 1) := dk_61 (dk_at dksX0_judge_0 15 rfl rfl)
theorem dX0_judge_16 : decode cX0_judge 16 = .ok (.aload_n 0, 1) := dk_42 (dk_at dksX0_judge_0 16 rfl rfl)
theorem dX0_judge_17 : decode cX0_judge 17 = .ok (.aload_n 0, 1) := dk_42 (dk_at dksX0_judge_0 17 rfl rfl)
theorem dX0_judge_18 : decode cX0_judge 18 = .ok (.getfield 17, 3) := dk_180 0 17 (dk_at dksX0_judge_0 18 rfl rfl)
theorem dX0_judge_21 : decode cX0_judge 21 = .ok (.iload_n 1, 1) := dk_27 (dk_at dksX0_judge_0 21 rfl rfl)
theorem dX0_judge_22 : decode cX0_judge 22 = .ok (.aaload, 1) := dk_50 (dk_at dksX0_judge_0 22 rfl rfl)
theorem dX0_judge_23 : decode cX0_judge 23 = .ok (.getfield 301, 3) := dk_180 1 45 (dk_at dksX0_judge_1 0 rfl rfl)
theorem dX0_judge_26 : decode cX0_judge 26 = .ok (.invokevirtual 298, 3) := dk_182 1 42 (dk_at dksX0_judge_1 3 rfl rfl)
theorem dX0_judge_29 : decode cX0_judge 29 = .ok (.istore_n 3, 1) := dk_62 (dk_at dksX0_judge_1 6 rfl rfl)
theorem dX0_judge_30 : decode cX0_judge 30 = .ok (.aload_n 0, 1) := dk_42 (dk_at dksX0_judge_1 7 rfl rfl)
theorem dX0_judge_31 : decode cX0_judge 31 = .ok (.getfield 48, 3) := dk_180 0 48 (dk_at dksX0_judge_1 8 rfl rfl)
theorem dX0_judge_34 : decode cX0_judge 34 = .ok (.iload_n 3, 1) := dk_29 (dk_at dksX0_judge_1 11 rfl rfl)
theorem dX0_judge_35 : decode cX0_judge 35 = .ok (.iaload, 1) := dk_46 (dk_at dksX0_judge_1 12 rfl rfl)
theorem dX0_judge_36 : decode cX0_judge 36 = .ok (.aload_n 0, 1) := dk_42 (dk_at dksX0_judge_1 13 rfl rfl)
theorem dX0_judge_37 : decode cX0_judge 37 = .ok (.getfield 17, 3) := dk_180 0 17 (dk_at dksX0_judge_1 14 rfl rfl)
theorem dX0_judge_40 : decode cX0_judge 40 = .ok (.iload_n 1, 1) := dk_27 (dk_at dksX0_judge_1 17 rfl rfl)
theorem dX0_judge_41 : decode cX0_judge 41 = .ok (.aaload, 1) := dk_50 (dk_at dksX0_judge_1 18 rfl rfl)
theorem dX0_judge_42 : decode cX0_judge 42 = .ok (.getfield 133, 3) := dk_180 0 133 (dk_at dksX0_judge_1 19 rfl rfl)
theorem dX0_judge_45 : decode cX0_judge 45 = .ok (.if_icmp .gt 21, 3) := dk_163 0 21 (dk_at dksX0_judge_2 0 rfl rfl)
theorem dX0_judge_48 : decode cX0_judge 48 = .ok (.aload_n 0, 1) := dk_42 (dk_at dksX0_judge_2 3 rfl rfl)
theorem dX0_judge_49 : decode cX0_judge 49 = .ok (.getfield 51, 3) := dk_180 0 51 (dk_at dksX0_judge_2 4 rfl rfl)
theorem dX0_judge_52 : decode cX0_judge 52 = .ok (.iload_n 3, 1) := dk_29 (dk_at dksX0_judge_2 7 rfl rfl)
theorem dX0_judge_53 : decode cX0_judge 53 = .ok (.iaload, 1) := dk_46 (dk_at dksX0_judge_2 8 rfl rfl)
theorem dX0_judge_54 : decode cX0_judge 54 = .ok (.aload_n 0, 1) := dk_42 (dk_at dksX0_judge_2 9 rfl rfl)
theorem dX0_judge_55 : decode cX0_judge 55 = .ok (.getfield 17, 3) := dk_180 0 17 (dk_at dksX0_judge_2 10 rfl rfl)
theorem dX0_judge_58 : decode cX0_judge 58 = .ok (.iload_n 1, 1) := dk_27 (dk_at dksX0_judge_2 13 rfl rfl)
theorem dX0_judge_59 : decode cX0_judge 59 = .ok (.aaload, 1) := dk_50 (dk_at dksX0_judge_2 14 rfl rfl)
theorem dX0_judge_60 : decode cX0_judge 60 = .ok (.invokevirtual 136, 3) := dk_182 0 136 (dk_at dksX0_judge_2 15 rfl rfl)
theorem dX0_judge_63 : decode cX0_judge 63 = .ok (.if_icmp .le 8, 3) := dk_164 0 8 (dk_at dksX0_judge_2 18 rfl rfl)
theorem dX0_judge_66 : decode cX0_judge 66 = .ok (.bipush 10, 2) := dk_16 10 (dk_at dksX0_judge_2 21 rfl rfl)
theorem dX0_judge_68 : decode cX0_judge 68 = .ok (.iload_n 1, 1) := dk_27 (dk_at dksX0_judge_2 23 rfl rfl)
theorem dX0_judge_69 : decode cX0_judge 69 = .ok (.iadd, 1) := dk_96 (dk_at dksX0_judge_3 0 rfl rfl)
theorem dX0_judge_70 : decode cX0_judge 70 = .ok (.ireturn, 1) := dk_172 (dk_at dksX0_judge_3 1 rfl rfl)
theorem dX0_judge_71 : decode cX0_judge 71 = .ok (.aload_n 0, 1) := dk_42 (dk_at dksX0_judge_3 2 rfl rfl)
theorem dX0_judge_72 : decode cX0_judge 72 = .ok (.getfield 44, 3) := dk_180 0 44 (dk_at dksX0_judge_3 3 rfl rfl)
theorem dX0_judge_75 : decode cX0_judge 75 = .ok (.iload_n 3, 1) := dk_29 (dk_at dksX0_judge_3 6 rfl rfl)
theorem dX0_judge_76 : decode cX0_judge 76 = .ok (.iaload, 1) := dk_46 (dk_at dksX0_judge_3 7 rfl rfl)
theorem dX0_judge_77 : decode cX0_judge 77 = .ok (.aload_n 0, 1) := dk_42 (dk_at dksX0_judge_3 8 rfl rfl)
theorem dX0_judge_78 : decode cX0_judge 78 = .ok (.getfield 44, 3) := dk_180 0 44 (dk_at dksX0_judge_3 9 rfl rfl)
theorem dX0_judge_81 : decode cX0_judge 81 = .ok (.iload_n 2, 1) := dk_28 (dk_at dksX0_judge_3 12 rfl rfl)
theorem dX0_judge_82 : decode cX0_judge 82 = .ok (.iaload, 1) := dk_46 (dk_at dksX0_judge_3 13 rfl rfl)
theorem dX0_judge_83 : decode cX0_judge 83 = .ok (.if_icmp .ge 8, 3) := dk_162 0 8 (dk_at dksX0_judge_3 14 rfl rfl)
theorem dX0_judge_86 : decode cX0_judge 86 = .ok (.bipush 20, 2) := dk_16 20 (dk_at dksX0_judge_3 17 rfl rfl)
theorem dX0_judge_88 : decode cX0_judge 88 = .ok (.iload_n 1, 1) := dk_27 (dk_at dksX0_judge_3 19 rfl rfl)
theorem dX0_judge_89 : decode cX0_judge 89 = .ok (.iadd, 1) := dk_96 (dk_at dksX0_judge_3 20 rfl rfl)
theorem dX0_judge_90 : decode cX0_judge 90 = .ok (.ireturn, 1) := dk_172 (dk_at dksX0_judge_3 21 rfl rfl)
theorem dX0_judge_91 : decode cX0_judge 91 = .ok (.iinc 1 1, 3) := dk_132 1 1 (dk_at dksX0_judge_4 0 rfl rfl)
theorem dX0_judge_94 : decode cX0_judge 94 = .ok (.goto (-92), 3) := dk_167 255 164 (dk_at dksX0_judge_4 3 rfl rfl)
theorem dX0_judge_97 : decode cX0_judge 97 = .ok (.iconst 0, 1) := dk_3 (dk_at dksX0_judge_4 6 rfl rfl)
theorem dX0_judge_98 : decode cX0_judge 98 = .ok (.istore_n 1, 1) := dk_60 (dk_at dksX0_judge_4 7 rfl rfl)
theorem dX0_judge_99 : decode cX0_judge 99 = .ok (.iload_n 1, 1) := dk_27 (dk_at dksX0_judge_4 8 rfl rfl)
theorem dX0_judge_100 : decode cX0_judge 100 = .ok (.aload_n 0, 1) := dk_42 (dk_at dksX0_judge_4 9 rfl rfl)
theorem dX0_judge_101 : decode cX0_judge 101 = .ok (.getfield 87, 3) := dk_180 0 87 (dk_at dksX0_judge_4 10 rfl rfl)
theorem dX0_judge_104 : decode cX0_judge 104 = .ok (.if_icmp .ge 76, 3) := dk_162 0 76 (dk_at dksX0_judge_4 13 rfl rfl)
theorem dX0_judge_107 : decode cX0_judge 107 = .ok (.iconst 0, 1) := dk_3 (dk_at dksX0_judge_4 16 rfl rfl)
theorem dX0_judge_108 : decode cX0_judge 108 = .ok (.istore_n 2, 1) := dk_61 (dk_at dksX0_judge_4 17 rfl rfl)
theorem dX0_judge_109 : decode cX0_judge 109 = .ok (.iconst 0, 1) := dk_3 (dk_at dksX0_judge_4 18 rfl rfl)
theorem dX0_judge_110 : decode cX0_judge 110 = .ok (.istore_n 3, 1) := dk_62 (dk_at dksX0_judge_4 19 rfl rfl)
theorem dX0_judge_111 : decode cX0_judge 111 = .ok (.iload_n 3, 1) := dk_29 (dk_at dksX0_judge_4 20 rfl rfl)
theorem dX0_judge_112 : decode cX0_judge 112 = .ok (.aload_n 0, 1) := dk_42 (dk_at dksX0_judge_4 21 rfl rfl)
theorem dX0_judge_113 : decode cX0_judge 113 = .ok (.getfield 95, 3) := dk_180 0 95 (dk_at dksX0_judge_5 0 rfl rfl)
theorem dX0_judge_116 : decode cX0_judge 116 = .ok (.if_icmp .ge 40, 3) := dk_162 0 40 (dk_at dksX0_judge_5 3 rfl rfl)
theorem dX0_judge_119 : decode cX0_judge 119 = .ok (.iload_n 2, 1) := dk_28 (dk_at dksX0_judge_5 6 rfl rfl)
theorem dX0_judge_120 : decode cX0_judge 120 = .ok (.aload_n 0, 1) := dk_42 (dk_at dksX0_judge_5 7 rfl rfl)
theorem dX0_judge_121 : decode cX0_judge 121 = .ok (.getfield 17, 3) := dk_180 0 17 (dk_at dksX0_judge_5 8 rfl rfl)
theorem dX0_judge_124 : decode cX0_judge 124 = .ok (.iload_n 3, 1) := dk_29 (dk_at dksX0_judge_5 11 rfl rfl)
theorem dX0_judge_125 : decode cX0_judge 125 = .ok (.aaload, 1) := dk_50 (dk_at dksX0_judge_5 12 rfl rfl)
theorem dX0_judge_126 : decode cX0_judge 126 = .ok (.getfield 130, 3) := dk_180 0 130 (dk_at dksX0_judge_5 13 rfl rfl)
theorem dX0_judge_129 : decode cX0_judge 129 = .ok (.aload_n 0, 1) := dk_42 (dk_at dksX0_judge_5 16 rfl rfl)
theorem dX0_judge_130 : decode cX0_judge 130 = .ok (.aload_n 0, 1) := dk_42 (dk_at dksX0_judge_5 17 rfl rfl)
theorem dX0_judge_131 : decode cX0_judge 131 = .ok (.aload_n 0, 1) := dk_42 (dk_at dksX0_judge_5 18 rfl rfl)
theorem dX0_judge_132 : decode cX0_judge 132 = .ok (.getfield 17, 3) := dk_180 0 17 (dk_at dksX0_judge_5 19 rfl rfl)
theorem dX0_judge_135 : decode cX0_judge 135 = .ok (.iload_n 3, 1) := dk_29 (dk_at dksX0_judge_5 22 rfl rfl)
theorem dX0_judge_136 : decode cX0_judge 136 = .ok (.aaload, 1) := dk_50 (dk_at dksX0_judge_5 23 rfl rfl)
theorem dX0_judge_137 : decode cX0_judge 137 = .ok (.getfield 301, 3) := dk_180 1 45 (dk_at dksX0_judge_6 0 rfl rfl)
theorem dX0_judge_140 : decode cX0_judge 140 = .ok (.invokevirtual 298, 3) := dk_182 1 42 (dk_at dksX0_judge_6 3 rfl rfl)
theorem dX0_judge_143 : decode cX0_judge 143 = .ok (.iload_n 1, 1) := dk_27 (dk_at dksX0_judge_6 6 rfl rfl)
theorem dX0_judge_144 : decode cX0_judge 144 = .ok (.invokevirtual 242, 3) := dk_182 0 242 (dk_at dksX0_judge_6 7 rfl rfl)
theorem dX0_judge_147 : decode cX0_judge 147 = .ok (.imul, 1) := dk_104 (dk_at dksX0_judge_6 10 rfl rfl)
theorem dX0_judge_148 : decode cX0_judge 148 = .ok (.iadd, 1) := dk_96 (dk_at dksX0_judge_6 11 rfl rfl)
theorem dX0_judge_149 : decode cX0_judge 149 = .ok (.istore_n 2, 1) := dk_61 (dk_at dksX0_judge_6 12 rfl rfl)
theorem dX0_judge_150 : decode cX0_judge 150 = .ok (.iinc 3 1, 3) := dk_132 3 1 (dk_at dksX0_judge_6 13 rfl rfl)
theorem dX0_judge_153 : decode cX0_judge 153 = .ok (.goto (-42), 3) := dk_167 255 214 (dk_at dksX0_judge_6 16 rfl rfl)
theorem dX0_judge_156 : decode cX0_judge 156 = .ok (.iload_n 2, 1) := dk_28 (dk_at dksX0_judge_6 19 rfl rfl)
theorem dX0_judge_157 : decode cX0_judge 157 = .ok (.aload_n 0, 1) := dk_42 (dk_at dksX0_judge_6 20 rfl rfl)
theorem dX0_judge_158 : decode cX0_judge 158 = .ok (.getfield 11, 3) := dk_180 0 11 (dk_at dksX0_judge_6 21 rfl rfl)
theorem dX0_judge_161 : decode cX0_judge 161 = .ok (.iload_n 1, 1) := dk_27 (dk_at dksX0_judge_7 0 rfl rfl)
theorem dX0_judge_162 : decode cX0_judge 162 = .ok (.aaload, 1) := dk_50 (dk_at dksX0_judge_7 1 rfl rfl)
theorem dX0_judge_163 : decode cX0_judge 163 = .ok (.getfield 149, 3) := dk_180 0 149 (dk_at dksX0_judge_7 2 rfl rfl)
theorem dX0_judge_166 : decode cX0_judge 166 = .ok (.if_icmp .le 8, 3) := dk_164 0 8 (dk_at dksX0_judge_7 5 rfl rfl)
theorem dX0_judge_169 : decode cX0_judge 169 = .ok (.bipush 30, 2) := dk_16 30 (dk_at dksX0_judge_7 8 rfl rfl)
theorem dX0_judge_171 : decode cX0_judge 171 = .ok (.iload_n 1, 1) := dk_27 (dk_at dksX0_judge_7 10 rfl rfl)
theorem dX0_judge_172 : decode cX0_judge 172 = .ok (.iadd, 1) := dk_96 (dk_at dksX0_judge_7 11 rfl rfl)
theorem dX0_judge_173 : decode cX0_judge 173 = .ok (.ireturn, 1) := dk_172 (dk_at dksX0_judge_7 12 rfl rfl)
theorem dX0_judge_174 : decode cX0_judge 174 = .ok (.iinc 1 1, 3) := dk_132 1 1 (dk_at dksX0_judge_7 13 rfl rfl)
theorem dX0_judge_177 : decode cX0_judge 177 = .ok (.goto (-78), 3) := dk_167 255 178 (dk_at dksX0_judge_7 16 rfl rfl)
theorem dX0_judge_180 : decode cX0_judge 180 = .ok (.bipush (-2), 2) := dk_16 254 (dk_at dksX0_judge_7 19 rfl rfl)
theorem dX0_judge_182 : decode cX0_judge 182 = .ok (.ireturn, 1) := dk_172 (dk_at dksX0_judge_7 21 rfl rfl)
abbrev cX0_changed : ByteArray := prog_1_method_43_code
def yX0_changed : MethodName := ⟨RX0, "changed", "(III)I"⟩
def dkwX0_changed_2 : List UInt8 := [182, 1, 51, 46, 54, 5, 29, 154, 0, 8, 21, 5, 167, 0, 8, 21, 5, 21, 4, 100, 172]
abbrev dktX0_changed_2 : List UInt8 := dkwX0_changed_2 ++ []
def dkwX0_changed_1 : List UInt8 := [154, 0, 5, 2, 172, 42, 27, 182, 1, 48, 54, 4, 42, 180, 0, 44, 42, 42, 180, 0, 17, 27, 50, 28]
abbrev dktX0_changed_1 : List UInt8 := dkwX0_changed_1 ++ dktX0_changed_2
def dkwX0_changed_0 : List UInt8 := [42, 27, 182, 0, 127, 153, 0, 22, 28, 4, 16, 99, 184, 0, 91, 153, 0, 12, 29, 3, 4, 184, 0, 91]
abbrev dktX0_changed_0 : List UInt8 := dkwX0_changed_0 ++ dktX0_changed_1
theorem dksX0_changed_0 : cX0_changed.data.toList.drop 0 = dktX0_changed_0 := by decide +kernel
theorem dksX0_changed_1 : cX0_changed.data.toList.drop 24 = dktX0_changed_1 := dk_seg dksX0_changed_0 24 rfl rfl
theorem dksX0_changed_2 : cX0_changed.data.toList.drop 48 = dktX0_changed_2 := dk_seg dksX0_changed_1 24 rfl rfl
theorem dX0_changed_0 : decode cX0_changed 0 = .ok (.aload_n 0, 1) := dk_42 (dk_at dksX0_changed_0 0 rfl rfl)
theorem dX0_changed_1 : decode cX0_changed 1 = .ok (.iload_n 1, 1) := dk_27 (dk_at dksX0_changed_0 1 rfl rfl)
theorem dX0_changed_2 : decode cX0_changed 2 = .ok (.invokevirtual 127, 3) := dk_182 0 127 (dk_at dksX0_changed_0 2 rfl rfl)
theorem dX0_changed_5 : decode cX0_changed 5 = .ok (.ifCond .eq 22, 3) := dk_153 0 22 (dk_at dksX0_changed_0 5 rfl rfl)
theorem dX0_changed_8 : decode cX0_changed 8 = .ok (.iload_n 2, 1) := dk_28 (dk_at dksX0_changed_0 8 rfl rfl)
theorem dX0_changed_9 : decode cX0_changed 9 = .ok (.iconst 1, 1) := dk_4 (dk_at dksX0_changed_0 9 rfl rfl)
theorem dX0_changed_10 : decode cX0_changed 10 = .ok (.bipush 99, 2) := dk_16 99 (dk_at dksX0_changed_0 10 rfl rfl)
theorem dX0_changed_12 : decode cX0_changed 12 = .ok (.invokestatic 91, 3) := dk_184 0 91 (dk_at dksX0_changed_0 12 rfl rfl)
theorem dX0_changed_15 : decode cX0_changed 15 = .ok (.ifCond .eq 12, 3) := dk_153 0 12 (dk_at dksX0_changed_0 15 rfl rfl)
theorem dX0_changed_18 : decode cX0_changed 18 = .ok (.iload_n 3, 1) := dk_29 (dk_at dksX0_changed_0 18 rfl rfl)
theorem dX0_changed_19 : decode cX0_changed 19 = .ok (.iconst 0, 1) := dk_3 (dk_at dksX0_changed_0 19 rfl rfl)
theorem dX0_changed_20 : decode cX0_changed 20 = .ok (.iconst 1, 1) := dk_4 (dk_at dksX0_changed_0 20 rfl rfl)
theorem dX0_changed_21 : decode cX0_changed 21 = .ok (.invokestatic 91, 3) := dk_184 0 91 (dk_at dksX0_changed_0 21 rfl rfl)
theorem dX0_changed_24 : decode cX0_changed 24 = .ok (.ifCond .ne 5, 3) := dk_154 0 5 (dk_at dksX0_changed_1 0 rfl rfl)
theorem dX0_changed_27 : decode cX0_changed 27 = .ok (.iconst (-1), 1) := dk_2 (dk_at dksX0_changed_1 3 rfl rfl)
theorem dX0_changed_28 : decode cX0_changed 28 = .ok (.ireturn, 1) := dk_172 (dk_at dksX0_changed_1 4 rfl rfl)
theorem dX0_changed_29 : decode cX0_changed 29 = .ok (.aload_n 0, 1) := dk_42 (dk_at dksX0_changed_1 5 rfl rfl)
theorem dX0_changed_30 : decode cX0_changed 30 = .ok (.iload_n 1, 1) := dk_27 (dk_at dksX0_changed_1 6 rfl rfl)
theorem dX0_changed_31 : decode cX0_changed 31 = .ok (.invokevirtual 304, 3) := dk_182 1 48 (dk_at dksX0_changed_1 7 rfl rfl)
theorem dX0_changed_34 : decode cX0_changed 34 = .ok (.istore 4, 2) := dk_54 4 (dk_at dksX0_changed_1 10 rfl rfl)
theorem dX0_changed_36 : decode cX0_changed 36 = .ok (.aload_n 0, 1) := dk_42 (dk_at dksX0_changed_1 12 rfl rfl)
theorem dX0_changed_37 : decode cX0_changed 37 = .ok (.getfield 44, 3) := dk_180 0 44 (dk_at dksX0_changed_1 13 rfl rfl)
theorem dX0_changed_40 : decode cX0_changed 40 = .ok (.aload_n 0, 1) := dk_42 (dk_at dksX0_changed_1 16 rfl rfl)
theorem dX0_changed_41 : decode cX0_changed 41 = .ok (.aload_n 0, 1) := dk_42 (dk_at dksX0_changed_1 17 rfl rfl)
theorem dX0_changed_42 : decode cX0_changed 42 = .ok (.getfield 17, 3) := dk_180 0 17 (dk_at dksX0_changed_1 18 rfl rfl)
theorem dX0_changed_45 : decode cX0_changed 45 = .ok (.iload_n 1, 1) := dk_27 (dk_at dksX0_changed_1 21 rfl rfl)
theorem dX0_changed_46 : decode cX0_changed 46 = .ok (.aaload, 1) := dk_50 (dk_at dksX0_changed_1 22 rfl rfl)
theorem dX0_changed_47 : decode cX0_changed 47 = .ok (.iload_n 2, 1) := dk_28 (dk_at dksX0_changed_1 23 rfl rfl)
theorem dX0_changed_48 : decode cX0_changed 48 = .ok (.invokevirtual 307, 3) := dk_182 1 51 (dk_at dksX0_changed_2 0 rfl rfl)
theorem dX0_changed_51 : decode cX0_changed 51 = .ok (.iaload, 1) := dk_46 (dk_at dksX0_changed_2 3 rfl rfl)
theorem dX0_changed_52 : decode cX0_changed 52 = .ok (.istore 5, 2) := dk_54 5 (dk_at dksX0_changed_2 4 rfl rfl)
theorem dX0_changed_54 : decode cX0_changed 54 = .ok (.iload_n 3, 1) := dk_29 (dk_at dksX0_changed_2 6 rfl rfl)
theorem dX0_changed_55 : decode cX0_changed 55 = .ok (.ifCond .ne 8, 3) := dk_154 0 8 (dk_at dksX0_changed_2 7 rfl rfl)
theorem dX0_changed_58 : decode cX0_changed 58 = .ok (.iload 5, 2) := dk_21 5 (dk_at dksX0_changed_2 10 rfl rfl)
theorem dX0_changed_60 : decode cX0_changed 60 = .ok (.goto 8, 3) := dk_167 0 8 (dk_at dksX0_changed_2 12 rfl rfl)
theorem dX0_changed_63 : decode cX0_changed 63 = .ok (.iload 5, 2) := dk_21 5 (dk_at dksX0_changed_2 15 rfl rfl)
theorem dX0_changed_65 : decode cX0_changed 65 = .ok (.iload 4, 2) := dk_21 4 (dk_at dksX0_changed_2 17 rfl rfl)
theorem dX0_changed_67 : decode cX0_changed 67 = .ok (.isub, 1) := dk_100 (dk_at dksX0_changed_2 19 rfl rfl)
theorem dX0_changed_68 : decode cX0_changed 68 = .ok (.ireturn, 1) := dk_172 (dk_at dksX0_changed_2 20 rfl rfl)
abbrev cX0_bestWorth : ByteArray := prog_1_method_27_code
def yX0_bestWorth : MethodName := ⟨RX0, "bestWorth", "(I)I"⟩
def dkwX0_bestWorth_0 : List UInt8 := [42, 180, 0, 44, 42, 27, 182, 0, 255, 46, 172]
abbrev dktX0_bestWorth_0 : List UInt8 := dkwX0_bestWorth_0 ++ []
theorem dksX0_bestWorth_0 : cX0_bestWorth.data.toList.drop 0 = dktX0_bestWorth_0 := by decide +kernel
theorem dX0_bestWorth_0 : decode cX0_bestWorth 0 = .ok (.aload_n 0, 1) := dk_42 (dk_at dksX0_bestWorth_0 0 rfl rfl)
theorem dX0_bestWorth_1 : decode cX0_bestWorth 1 = .ok (.getfield 44, 3) := dk_180 0 44 (dk_at dksX0_bestWorth_0 1 rfl rfl)
theorem dX0_bestWorth_4 : decode cX0_bestWorth 4 = .ok (.aload_n 0, 1) := dk_42 (dk_at dksX0_bestWorth_0 4 rfl rfl)
theorem dX0_bestWorth_5 : decode cX0_bestWorth 5 = .ok (.iload_n 1, 1) := dk_27 (dk_at dksX0_bestWorth_0 5 rfl rfl)
theorem dX0_bestWorth_6 : decode cX0_bestWorth 6 = .ok (.invokevirtual 255, 3) := dk_182 0 255 (dk_at dksX0_bestWorth_0 6 rfl rfl)
theorem dX0_bestWorth_9 : decode cX0_bestWorth 9 = .ok (.iaload, 1) := dk_46 (dk_at dksX0_bestWorth_0 9 rfl rfl)
theorem dX0_bestWorth_10 : decode cX0_bestWorth 10 = .ok (.ireturn, 1) := dk_172 (dk_at dksX0_bestWorth_0 10 rfl rfl)
abbrev cX0_bestChanged : ByteArray := prog_1_method_42_code
def yX0_bestChanged : MethodName := ⟨RX0, "bestChanged", "(LPointsForAll$Sort;I)I"⟩
def dkwX0_bestChanged_6 : List UInt8 := [54, 4, 132, 5, 1, 167, 255, 119, 29, 172]
abbrev dktX0_bestChanged_6 : List UInt8 := dkwX0_bestChanged_6 ++ []
def dkwX0_bestChanged_5 : List UInt8 := [42, 180, 0, 51, 21, 5, 46, 100, 54, 7, 21, 7, 157, 0, 6, 167, 0, 10, 21, 5, 62, 21, 6]
abbrev dktX0_bestChanged_5 : List UInt8 := dkwX0_bestChanged_5 ++ dktX0_bestChanged_6
def dkwX0_bestChanged_4 : List UInt8 := [167, 0, 32, 21, 6, 21, 4, 159, 0, 11, 21, 4, 21, 6, 100, 167, 0, 17, 42, 180, 0, 51, 29, 46]
abbrev dktX0_bestChanged_4 : List UInt8 := dkwX0_bestChanged_4 ++ dktX0_bestChanged_5
def dkwX0_bestChanged_3 : List UInt8 := [180, 0, 44, 29, 46, 159, 0, 20, 42, 180, 0, 44, 21, 5, 46, 42, 180, 0, 44, 29, 46, 100]
abbrev dktX0_bestChanged_3 : List UInt8 := dkwX0_bestChanged_3 ++ dktX0_bestChanged_4
def dkwX0_bestChanged_2 : List UInt8 := [96, 164, 0, 6, 167, 0, 90, 29, 156, 0, 7, 4, 167, 0, 65, 42, 180, 0, 44, 21, 5, 46, 42]
abbrev dktX0_bestChanged_2 : List UInt8 := dkwX0_bestChanged_2 ++ dktX0_bestChanged_3
def dkwX0_bestChanged_1 : List UInt8 := [28, 42, 180, 0, 51, 21, 5, 46, 104, 96, 54, 6, 21, 6, 43, 180, 0, 133, 28, 43, 182, 0, 136, 104]
abbrev dktX0_bestChanged_1 : List UInt8 := dkwX0_bestChanged_1 ++ dktX0_bestChanged_2
def dkwX0_bestChanged_0 : List UInt8 := [2, 62, 3, 54, 4, 3, 54, 5, 21, 5, 42, 182, 0, 245, 162, 0, 134, 42, 180, 0, 48, 21, 5, 46]
abbrev dktX0_bestChanged_0 : List UInt8 := dkwX0_bestChanged_0 ++ dktX0_bestChanged_1
theorem dksX0_bestChanged_0 : cX0_bestChanged.data.toList.drop 0 = dktX0_bestChanged_0 := by decide +kernel
theorem dksX0_bestChanged_1 : cX0_bestChanged.data.toList.drop 24 = dktX0_bestChanged_1 := dk_seg dksX0_bestChanged_0 24 rfl rfl
theorem dksX0_bestChanged_2 : cX0_bestChanged.data.toList.drop 48 = dktX0_bestChanged_2 := dk_seg dksX0_bestChanged_1 24 rfl rfl
theorem dksX0_bestChanged_3 : cX0_bestChanged.data.toList.drop 71 = dktX0_bestChanged_3 := dk_seg dksX0_bestChanged_2 23 rfl rfl
theorem dksX0_bestChanged_4 : cX0_bestChanged.data.toList.drop 93 = dktX0_bestChanged_4 := dk_seg dksX0_bestChanged_3 22 rfl rfl
theorem dksX0_bestChanged_5 : cX0_bestChanged.data.toList.drop 117 = dktX0_bestChanged_5 := dk_seg dksX0_bestChanged_4 24 rfl rfl
theorem dksX0_bestChanged_6 : cX0_bestChanged.data.toList.drop 140 = dktX0_bestChanged_6 := dk_seg dksX0_bestChanged_5 23 rfl rfl
theorem dX0_bestChanged_0 : decode cX0_bestChanged 0 = .ok (.iconst (-1), 1) := dk_2 (dk_at dksX0_bestChanged_0 0 rfl rfl)
theorem dX0_bestChanged_1 : decode cX0_bestChanged 1 = .ok (.istore_n 3, 1) := dk_62 (dk_at dksX0_bestChanged_0 1 rfl rfl)
theorem dX0_bestChanged_2 : decode cX0_bestChanged 2 = .ok (.iconst 0, 1) := dk_3 (dk_at dksX0_bestChanged_0 2 rfl rfl)
theorem dX0_bestChanged_3 : decode cX0_bestChanged 3 = .ok (.istore 4, 2) := dk_54 4 (dk_at dksX0_bestChanged_0 3 rfl rfl)
theorem dX0_bestChanged_5 : decode cX0_bestChanged 5 = .ok (.iconst 0, 1) := dk_3 (dk_at dksX0_bestChanged_0 5 rfl rfl)
theorem dX0_bestChanged_6 : decode cX0_bestChanged 6 = .ok (.istore 5, 2) := dk_54 5 (dk_at dksX0_bestChanged_0 6 rfl rfl)
theorem dX0_bestChanged_8 : decode cX0_bestChanged 8 = .ok (.iload 5, 2) := dk_21 5 (dk_at dksX0_bestChanged_0 8 rfl rfl)
theorem dX0_bestChanged_10 : decode cX0_bestChanged 10 = .ok (.aload_n 0, 1) := dk_42 (dk_at dksX0_bestChanged_0 10 rfl rfl)
theorem dX0_bestChanged_11 : decode cX0_bestChanged 11 = .ok (.invokevirtual 245, 3) := dk_182 0 245 (dk_at dksX0_bestChanged_0 11 rfl rfl)
theorem dX0_bestChanged_14 : decode cX0_bestChanged 14 = .ok (.if_icmp .ge 134, 3) := dk_162 0 134 (dk_at dksX0_bestChanged_0 14 rfl rfl)
theorem dX0_bestChanged_17 : decode cX0_bestChanged 17 = .ok (.aload_n 0, 1) := dk_42 (dk_at dksX0_bestChanged_0 17 rfl rfl)
theorem dX0_bestChanged_18 : decode cX0_bestChanged 18 = .ok (.getfield 48, 3) := dk_180 0 48 (dk_at dksX0_bestChanged_0 18 rfl rfl)
theorem dX0_bestChanged_21 : decode cX0_bestChanged 21 = .ok (.iload 5, 2) := dk_21 5 (dk_at dksX0_bestChanged_0 21 rfl rfl)
theorem dX0_bestChanged_23 : decode cX0_bestChanged 23 = .ok (.iaload, 1) := dk_46 (dk_at dksX0_bestChanged_0 23 rfl rfl)
theorem dX0_bestChanged_24 : decode cX0_bestChanged 24 = .ok (.iload_n 2, 1) := dk_28 (dk_at dksX0_bestChanged_1 0 rfl rfl)
theorem dX0_bestChanged_25 : decode cX0_bestChanged 25 = .ok (.aload_n 0, 1) := dk_42 (dk_at dksX0_bestChanged_1 1 rfl rfl)
theorem dX0_bestChanged_26 : decode cX0_bestChanged 26 = .ok (.getfield 51, 3) := dk_180 0 51 (dk_at dksX0_bestChanged_1 2 rfl rfl)
theorem dX0_bestChanged_29 : decode cX0_bestChanged 29 = .ok (.iload 5, 2) := dk_21 5 (dk_at dksX0_bestChanged_1 5 rfl rfl)
theorem dX0_bestChanged_31 : decode cX0_bestChanged 31 = .ok (.iaload, 1) := dk_46 (dk_at dksX0_bestChanged_1 7 rfl rfl)
theorem dX0_bestChanged_32 : decode cX0_bestChanged 32 = .ok (.imul, 1) := dk_104 (dk_at dksX0_bestChanged_1 8 rfl rfl)
theorem dX0_bestChanged_33 : decode cX0_bestChanged 33 = .ok (.iadd, 1) := dk_96 (dk_at dksX0_bestChanged_1 9 rfl rfl)
theorem dX0_bestChanged_34 : decode cX0_bestChanged 34 = .ok (.istore 6, 2) := dk_54 6 (dk_at dksX0_bestChanged_1 10 rfl rfl)
theorem dX0_bestChanged_36 : decode cX0_bestChanged 36 = .ok (.iload 6, 2) := dk_21 6 (dk_at dksX0_bestChanged_1 12 rfl rfl)
theorem dX0_bestChanged_38 : decode cX0_bestChanged 38 = .ok (.aload_n 1, 1) := dk_43 (dk_at dksX0_bestChanged_1 14 rfl rfl)
theorem dX0_bestChanged_39 : decode cX0_bestChanged 39 = .ok (.getfield 133, 3) := dk_180 0 133 (dk_at dksX0_bestChanged_1 15 rfl rfl)
theorem dX0_bestChanged_42 : decode cX0_bestChanged 42 = .ok (.iload_n 2, 1) := dk_28 (dk_at dksX0_bestChanged_1 18 rfl rfl)
theorem dX0_bestChanged_43 : decode cX0_bestChanged 43 = .ok (.aload_n 1, 1) := dk_43 (dk_at dksX0_bestChanged_1 19 rfl rfl)
theorem dX0_bestChanged_44 : decode cX0_bestChanged 44 = .ok (.invokevirtual 136, 3) := dk_182 0 136 (dk_at dksX0_bestChanged_1 20 rfl rfl)
theorem dX0_bestChanged_47 : decode cX0_bestChanged 47 = .ok (.imul, 1) := dk_104 (dk_at dksX0_bestChanged_1 23 rfl rfl)
theorem dX0_bestChanged_48 : decode cX0_bestChanged 48 = .ok (.iadd, 1) := dk_96 (dk_at dksX0_bestChanged_2 0 rfl rfl)
theorem dX0_bestChanged_49 : decode cX0_bestChanged 49 = .ok (.if_icmp .le 6, 3) := dk_164 0 6 (dk_at dksX0_bestChanged_2 1 rfl rfl)
theorem dX0_bestChanged_52 : decode cX0_bestChanged 52 = .ok (.goto 90, 3) := dk_167 0 90 (dk_at dksX0_bestChanged_2 4 rfl rfl)
theorem dX0_bestChanged_55 : decode cX0_bestChanged 55 = .ok (.iload_n 3, 1) := dk_29 (dk_at dksX0_bestChanged_2 7 rfl rfl)
theorem dX0_bestChanged_56 : decode cX0_bestChanged 56 = .ok (.ifCond .ge 7, 3) := dk_156 0 7 (dk_at dksX0_bestChanged_2 8 rfl rfl)
theorem dX0_bestChanged_59 : decode cX0_bestChanged 59 = .ok (.iconst 1, 1) := dk_4 (dk_at dksX0_bestChanged_2 11 rfl rfl)
theorem dX0_bestChanged_60 : decode cX0_bestChanged 60 = .ok (.goto 65, 3) := dk_167 0 65 (dk_at dksX0_bestChanged_2 12 rfl rfl)
theorem dX0_bestChanged_63 : decode cX0_bestChanged 63 = .ok (.aload_n 0, 1) := dk_42 (dk_at dksX0_bestChanged_2 15 rfl rfl)
theorem dX0_bestChanged_64 : decode cX0_bestChanged 64 = .ok (.getfield 44, 3) := dk_180 0 44 (dk_at dksX0_bestChanged_2 16 rfl rfl)
theorem dX0_bestChanged_67 : decode cX0_bestChanged 67 = .ok (.iload 5, 2) := dk_21 5 (dk_at dksX0_bestChanged_2 19 rfl rfl)
theorem dX0_bestChanged_69 : decode cX0_bestChanged 69 = .ok (.iaload, 1) := dk_46 (dk_at dksX0_bestChanged_2 21 rfl rfl)
theorem dX0_bestChanged_70 : decode cX0_bestChanged 70 = .ok (.aload_n 0, 1) := dk_42 (dk_at dksX0_bestChanged_2 22 rfl rfl)
theorem dX0_bestChanged_71 : decode cX0_bestChanged 71 = .ok (.getfield 44, 3) := dk_180 0 44 (dk_at dksX0_bestChanged_3 0 rfl rfl)
theorem dX0_bestChanged_74 : decode cX0_bestChanged 74 = .ok (.iload_n 3, 1) := dk_29 (dk_at dksX0_bestChanged_3 3 rfl rfl)
theorem dX0_bestChanged_75 : decode cX0_bestChanged 75 = .ok (.iaload, 1) := dk_46 (dk_at dksX0_bestChanged_3 4 rfl rfl)
theorem dX0_bestChanged_76 : decode cX0_bestChanged 76 = .ok (.if_icmp .eq 20, 3) := dk_159 0 20 (dk_at dksX0_bestChanged_3 5 rfl rfl)
theorem dX0_bestChanged_79 : decode cX0_bestChanged 79 = .ok (.aload_n 0, 1) := dk_42 (dk_at dksX0_bestChanged_3 8 rfl rfl)
theorem dX0_bestChanged_80 : decode cX0_bestChanged 80 = .ok (.getfield 44, 3) := dk_180 0 44 (dk_at dksX0_bestChanged_3 9 rfl rfl)
theorem dX0_bestChanged_83 : decode cX0_bestChanged 83 = .ok (.iload 5, 2) := dk_21 5 (dk_at dksX0_bestChanged_3 12 rfl rfl)
theorem dX0_bestChanged_85 : decode cX0_bestChanged 85 = .ok (.iaload, 1) := dk_46 (dk_at dksX0_bestChanged_3 14 rfl rfl)
theorem dX0_bestChanged_86 : decode cX0_bestChanged 86 = .ok (.aload_n 0, 1) := dk_42 (dk_at dksX0_bestChanged_3 15 rfl rfl)
theorem dX0_bestChanged_87 : decode cX0_bestChanged 87 = .ok (.getfield 44, 3) := dk_180 0 44 (dk_at dksX0_bestChanged_3 16 rfl rfl)
theorem dX0_bestChanged_90 : decode cX0_bestChanged 90 = .ok (.iload_n 3, 1) := dk_29 (dk_at dksX0_bestChanged_3 19 rfl rfl)
theorem dX0_bestChanged_91 : decode cX0_bestChanged 91 = .ok (.iaload, 1) := dk_46 (dk_at dksX0_bestChanged_3 20 rfl rfl)
theorem dX0_bestChanged_92 : decode cX0_bestChanged 92 = .ok (.isub, 1) := dk_100 (dk_at dksX0_bestChanged_3 21 rfl rfl)
theorem dX0_bestChanged_93 : decode cX0_bestChanged 93 = .ok (.goto 32, 3) := dk_167 0 32 (dk_at dksX0_bestChanged_4 0 rfl rfl)
theorem dX0_bestChanged_96 : decode cX0_bestChanged 96 = .ok (.iload 6, 2) := dk_21 6 (dk_at dksX0_bestChanged_4 3 rfl rfl)
theorem dX0_bestChanged_98 : decode cX0_bestChanged 98 = .ok (.iload 4, 2) := dk_21 4 (dk_at dksX0_bestChanged_4 5 rfl rfl)
theorem dX0_bestChanged_100 : decode cX0_bestChanged 100 = .ok (.if_icmp .eq 11, 3) := dk_159 0 11 (dk_at dksX0_bestChanged_4 7 rfl rfl)
theorem dX0_bestChanged_103 : decode cX0_bestChanged 103 = .ok (.iload 4, 2) := dk_21 4 (dk_at dksX0_bestChanged_4 10 rfl rfl)
theorem dX0_bestChanged_105 : decode cX0_bestChanged 105 = .ok (.iload 6, 2) := dk_21 6 (dk_at dksX0_bestChanged_4 12 rfl rfl)
theorem dX0_bestChanged_107 : decode cX0_bestChanged 107 = .ok (.isub, 1) := dk_100 (dk_at dksX0_bestChanged_4 14 rfl rfl)
theorem dX0_bestChanged_108 : decode cX0_bestChanged 108 = .ok (.goto 17, 3) := dk_167 0 17 (dk_at dksX0_bestChanged_4 15 rfl rfl)
theorem dX0_bestChanged_111 : decode cX0_bestChanged 111 = .ok (.aload_n 0, 1) := dk_42 (dk_at dksX0_bestChanged_4 18 rfl rfl)
theorem dX0_bestChanged_112 : decode cX0_bestChanged 112 = .ok (.getfield 51, 3) := dk_180 0 51 (dk_at dksX0_bestChanged_4 19 rfl rfl)
theorem dX0_bestChanged_115 : decode cX0_bestChanged 115 = .ok (.iload_n 3, 1) := dk_29 (dk_at dksX0_bestChanged_4 22 rfl rfl)
theorem dX0_bestChanged_116 : decode cX0_bestChanged 116 = .ok (.iaload, 1) := dk_46 (dk_at dksX0_bestChanged_4 23 rfl rfl)
theorem dX0_bestChanged_117 : decode cX0_bestChanged 117 = .ok (.aload_n 0, 1) := dk_42 (dk_at dksX0_bestChanged_5 0 rfl rfl)
theorem dX0_bestChanged_118 : decode cX0_bestChanged 118 = .ok (.getfield 51, 3) := dk_180 0 51 (dk_at dksX0_bestChanged_5 1 rfl rfl)
theorem dX0_bestChanged_121 : decode cX0_bestChanged 121 = .ok (.iload 5, 2) := dk_21 5 (dk_at dksX0_bestChanged_5 4 rfl rfl)
theorem dX0_bestChanged_123 : decode cX0_bestChanged 123 = .ok (.iaload, 1) := dk_46 (dk_at dksX0_bestChanged_5 6 rfl rfl)
theorem dX0_bestChanged_124 : decode cX0_bestChanged 124 = .ok (.isub, 1) := dk_100 (dk_at dksX0_bestChanged_5 7 rfl rfl)
theorem dX0_bestChanged_125 : decode cX0_bestChanged 125 = .ok (.istore 7, 2) := dk_54 7 (dk_at dksX0_bestChanged_5 8 rfl rfl)
theorem dX0_bestChanged_127 : decode cX0_bestChanged 127 = .ok (.iload 7, 2) := dk_21 7 (dk_at dksX0_bestChanged_5 10 rfl rfl)
theorem dX0_bestChanged_129 : decode cX0_bestChanged 129 = .ok (.ifCond .gt 6, 3) := dk_157 0 6 (dk_at dksX0_bestChanged_5 12 rfl rfl)
theorem dX0_bestChanged_132 : decode cX0_bestChanged 132 = .ok (.goto 10, 3) := dk_167 0 10 (dk_at dksX0_bestChanged_5 15 rfl rfl)
theorem dX0_bestChanged_135 : decode cX0_bestChanged 135 = .ok (.iload 5, 2) := dk_21 5 (dk_at dksX0_bestChanged_5 18 rfl rfl)
theorem dX0_bestChanged_137 : decode cX0_bestChanged 137 = .ok (.istore_n 3, 1) := dk_62 (dk_at dksX0_bestChanged_5 20 rfl rfl)
theorem dX0_bestChanged_138 : decode cX0_bestChanged 138 = .ok (.iload 6, 2) := dk_21 6 (dk_at dksX0_bestChanged_5 21 rfl rfl)
theorem dX0_bestChanged_140 : decode cX0_bestChanged 140 = .ok (.istore 4, 2) := dk_54 4 (dk_at dksX0_bestChanged_6 0 rfl rfl)
theorem dX0_bestChanged_142 : decode cX0_bestChanged 142 = .ok (.iinc 5 1, 3) := dk_132 5 1 (dk_at dksX0_bestChanged_6 2 rfl rfl)
theorem dX0_bestChanged_145 : decode cX0_bestChanged 145 = .ok (.goto (-137), 3) := dk_167 255 119 (dk_at dksX0_bestChanged_6 5 rfl rfl)
theorem dX0_bestChanged_148 : decode cX0_bestChanged 148 = .ok (.iload_n 3, 1) := dk_29 (dk_at dksX0_bestChanged_6 8 rfl rfl)
theorem dX0_bestChanged_149 : decode cX0_bestChanged 149 = .ok (.ireturn, 1) := dk_172 (dk_at dksX0_bestChanged_6 9 rfl rfl)
abbrev cX0_free : ByteArray := prog_1_method_44_code
def yX0_free : MethodName := ⟨RX0, "free", "()I"⟩
def dkwX0_free_4 : List UInt8 := [163, 0, 5, 27, 172, 132, 1, 1, 167, 255, 157, 16, 254, 172]
abbrev dktX0_free_4 : List UInt8 := dkwX0_free_4 ++ []
def dkwX0_free_3 : List UInt8 := [180, 0, 130, 42, 180, 0, 17, 21, 4, 50, 182, 0, 136, 104, 96, 62, 132, 4, 1, 167, 255, 183, 28, 29]
abbrev dktX0_free_3 : List UInt8 := dkwX0_free_3 ++ dktX0_free_4
def dkwX0_free_2 : List UInt8 := [180, 0, 17, 21, 4, 50, 27, 182, 1, 51, 46, 104, 96, 61, 29, 42, 180, 0, 17, 21, 4, 50]
abbrev dktX0_free_2 : List UInt8 := dkwX0_free_2 ++ dktX0_free_3
def dkwX0_free_1 : List UInt8 := [42, 21, 4, 182, 0, 248, 28, 42, 180, 0, 17, 21, 4, 50, 180, 0, 130, 42, 180, 0, 51, 42, 42]
abbrev dktX0_free_1 : List UInt8 := dkwX0_free_1 ++ dktX0_free_2
def dkwX0_free_0 : List UInt8 := [4, 60, 27, 16, 99, 163, 0, 99, 3, 61, 3, 62, 3, 54, 4, 21, 4, 42, 180, 0, 95, 162, 0, 70]
abbrev dktX0_free_0 : List UInt8 := dkwX0_free_0 ++ dktX0_free_1
theorem dksX0_free_0 : cX0_free.data.toList.drop 0 = dktX0_free_0 := by decide +kernel
theorem dksX0_free_1 : cX0_free.data.toList.drop 24 = dktX0_free_1 := dk_seg dksX0_free_0 24 rfl rfl
theorem dksX0_free_2 : cX0_free.data.toList.drop 47 = dktX0_free_2 := dk_seg dksX0_free_1 23 rfl rfl
theorem dksX0_free_3 : cX0_free.data.toList.drop 69 = dktX0_free_3 := dk_seg dksX0_free_2 22 rfl rfl
theorem dksX0_free_4 : cX0_free.data.toList.drop 93 = dktX0_free_4 := dk_seg dksX0_free_3 24 rfl rfl
theorem dX0_free_0 : decode cX0_free 0 = .ok (.iconst 1, 1) := dk_4 (dk_at dksX0_free_0 0 rfl rfl)
theorem dX0_free_1 : decode cX0_free 1 = .ok (.istore_n 1, 1) := dk_60 (dk_at dksX0_free_0 1 rfl rfl)
theorem dX0_free_2 : decode cX0_free 2 = .ok (.iload_n 1, 1) := dk_27 (dk_at dksX0_free_0 2 rfl rfl)
theorem dX0_free_3 : decode cX0_free 3 = .ok (.bipush 99, 2) := dk_16 99 (dk_at dksX0_free_0 3 rfl rfl)
theorem dX0_free_5 : decode cX0_free 5 = .ok (.if_icmp .gt 99, 3) := dk_163 0 99 (dk_at dksX0_free_0 5 rfl rfl)
theorem dX0_free_8 : decode cX0_free 8 = .ok (.iconst 0, 1) := dk_3 (dk_at dksX0_free_0 8 rfl rfl)
theorem dX0_free_9 : decode cX0_free 9 = .ok (.istore_n 2, 1) := dk_61 (dk_at dksX0_free_0 9 rfl rfl)
theorem dX0_free_10 : decode cX0_free 10 = .ok (.iconst 0, 1) := dk_3 (dk_at dksX0_free_0 10 rfl rfl)
theorem dX0_free_11 : decode cX0_free 11 = .ok (.istore_n 3, 1) := dk_62 (dk_at dksX0_free_0 11 rfl rfl)
theorem dX0_free_12 : decode cX0_free 12 = .ok (.iconst 0, 1) := dk_3 (dk_at dksX0_free_0 12 rfl rfl)
theorem dX0_free_13 : decode cX0_free 13 = .ok (.istore 4, 2) := dk_54 4 (dk_at dksX0_free_0 13 rfl rfl)
theorem dX0_free_15 : decode cX0_free 15 = .ok (.iload 4, 2) := dk_21 4 (dk_at dksX0_free_0 15 rfl rfl)
theorem dX0_free_17 : decode cX0_free 17 = .ok (.aload_n 0, 1) := dk_42 (dk_at dksX0_free_0 17 rfl rfl)
theorem dX0_free_18 : decode cX0_free 18 = .ok (.getfield 95, 3) := dk_180 0 95 (dk_at dksX0_free_0 18 rfl rfl)
theorem dX0_free_21 : decode cX0_free 21 = .ok (.if_icmp .ge 70, 3) := dk_162 0 70 (dk_at dksX0_free_0 21 rfl rfl)
theorem dX0_free_24 : decode cX0_free 24 = .ok (.aload_n 0, 1) := dk_42 (dk_at dksX0_free_1 0 rfl rfl)
theorem dX0_free_25 : decode cX0_free 25 = .ok (.iload 4, 2) := dk_21 4 (dk_at dksX0_free_1 1 rfl rfl)
theorem dX0_free_27 : decode cX0_free 27 = .ok (.invokevirtual 248, 3) := dk_182 0 248 (dk_at dksX0_free_1 3 rfl rfl)
theorem dX0_free_30 : decode cX0_free 30 = .ok (.iload_n 2, 1) := dk_28 (dk_at dksX0_free_1 6 rfl rfl)
theorem dX0_free_31 : decode cX0_free 31 = .ok (.aload_n 0, 1) := dk_42 (dk_at dksX0_free_1 7 rfl rfl)
theorem dX0_free_32 : decode cX0_free 32 = .ok (.getfield 17, 3) := dk_180 0 17 (dk_at dksX0_free_1 8 rfl rfl)
theorem dX0_free_35 : decode cX0_free 35 = .ok (.iload 4, 2) := dk_21 4 (dk_at dksX0_free_1 11 rfl rfl)
theorem dX0_free_37 : decode cX0_free 37 = .ok (.aaload, 1) := dk_50 (dk_at dksX0_free_1 13 rfl rfl)
theorem dX0_free_38 : decode cX0_free 38 = .ok (.getfield 130, 3) := dk_180 0 130 (dk_at dksX0_free_1 14 rfl rfl)
theorem dX0_free_41 : decode cX0_free 41 = .ok (.aload_n 0, 1) := dk_42 (dk_at dksX0_free_1 17 rfl rfl)
theorem dX0_free_42 : decode cX0_free 42 = .ok (.getfield 51, 3) := dk_180 0 51 (dk_at dksX0_free_1 18 rfl rfl)
theorem dX0_free_45 : decode cX0_free 45 = .ok (.aload_n 0, 1) := dk_42 (dk_at dksX0_free_1 21 rfl rfl)
theorem dX0_free_46 : decode cX0_free 46 = .ok (.aload_n 0, 1) := dk_42 (dk_at dksX0_free_1 22 rfl rfl)
theorem dX0_free_47 : decode cX0_free 47 = .ok (.getfield 17, 3) := dk_180 0 17 (dk_at dksX0_free_2 0 rfl rfl)
theorem dX0_free_50 : decode cX0_free 50 = .ok (.iload 4, 2) := dk_21 4 (dk_at dksX0_free_2 3 rfl rfl)
theorem dX0_free_52 : decode cX0_free 52 = .ok (.aaload, 1) := dk_50 (dk_at dksX0_free_2 5 rfl rfl)
theorem dX0_free_53 : decode cX0_free 53 = .ok (.iload_n 1, 1) := dk_27 (dk_at dksX0_free_2 6 rfl rfl)
theorem dX0_free_54 : decode cX0_free 54 = .ok (.invokevirtual 307, 3) := dk_182 1 51 (dk_at dksX0_free_2 7 rfl rfl)
theorem dX0_free_57 : decode cX0_free 57 = .ok (.iaload, 1) := dk_46 (dk_at dksX0_free_2 10 rfl rfl)
theorem dX0_free_58 : decode cX0_free 58 = .ok (.imul, 1) := dk_104 (dk_at dksX0_free_2 11 rfl rfl)
theorem dX0_free_59 : decode cX0_free 59 = .ok (.iadd, 1) := dk_96 (dk_at dksX0_free_2 12 rfl rfl)
theorem dX0_free_60 : decode cX0_free 60 = .ok (.istore_n 2, 1) := dk_61 (dk_at dksX0_free_2 13 rfl rfl)
theorem dX0_free_61 : decode cX0_free 61 = .ok (.iload_n 3, 1) := dk_29 (dk_at dksX0_free_2 14 rfl rfl)
theorem dX0_free_62 : decode cX0_free 62 = .ok (.aload_n 0, 1) := dk_42 (dk_at dksX0_free_2 15 rfl rfl)
theorem dX0_free_63 : decode cX0_free 63 = .ok (.getfield 17, 3) := dk_180 0 17 (dk_at dksX0_free_2 16 rfl rfl)
theorem dX0_free_66 : decode cX0_free 66 = .ok (.iload 4, 2) := dk_21 4 (dk_at dksX0_free_2 19 rfl rfl)
theorem dX0_free_68 : decode cX0_free 68 = .ok (.aaload, 1) := dk_50 (dk_at dksX0_free_2 21 rfl rfl)
theorem dX0_free_69 : decode cX0_free 69 = .ok (.getfield 130, 3) := dk_180 0 130 (dk_at dksX0_free_3 0 rfl rfl)
theorem dX0_free_72 : decode cX0_free 72 = .ok (.aload_n 0, 1) := dk_42 (dk_at dksX0_free_3 3 rfl rfl)
theorem dX0_free_73 : decode cX0_free 73 = .ok (.getfield 17, 3) := dk_180 0 17 (dk_at dksX0_free_3 4 rfl rfl)
theorem dX0_free_76 : decode cX0_free 76 = .ok (.iload 4, 2) := dk_21 4 (dk_at dksX0_free_3 7 rfl rfl)
theorem dX0_free_78 : decode cX0_free 78 = .ok (.aaload, 1) := dk_50 (dk_at dksX0_free_3 9 rfl rfl)
theorem dX0_free_79 : decode cX0_free 79 = .ok (.invokevirtual 136, 3) := dk_182 0 136 (dk_at dksX0_free_3 10 rfl rfl)
theorem dX0_free_82 : decode cX0_free 82 = .ok (.imul, 1) := dk_104 (dk_at dksX0_free_3 13 rfl rfl)
theorem dX0_free_83 : decode cX0_free 83 = .ok (.iadd, 1) := dk_96 (dk_at dksX0_free_3 14 rfl rfl)
theorem dX0_free_84 : decode cX0_free 84 = .ok (.istore_n 3, 1) := dk_62 (dk_at dksX0_free_3 15 rfl rfl)
theorem dX0_free_85 : decode cX0_free 85 = .ok (.iinc 4 1, 3) := dk_132 4 1 (dk_at dksX0_free_3 16 rfl rfl)
theorem dX0_free_88 : decode cX0_free 88 = .ok (.goto (-73), 3) := dk_167 255 183 (dk_at dksX0_free_3 19 rfl rfl)
theorem dX0_free_91 : decode cX0_free 91 = .ok (.iload_n 2, 1) := dk_28 (dk_at dksX0_free_3 22 rfl rfl)
theorem dX0_free_92 : decode cX0_free 92 = .ok (.iload_n 3, 1) := dk_29 (dk_at dksX0_free_3 23 rfl rfl)
theorem dX0_free_93 : decode cX0_free 93 = .ok (.if_icmp .gt 5, 3) := dk_163 0 5 (dk_at dksX0_free_4 0 rfl rfl)
theorem dX0_free_96 : decode cX0_free 96 = .ok (.iload_n 1, 1) := dk_27 (dk_at dksX0_free_4 3 rfl rfl)
theorem dX0_free_97 : decode cX0_free 97 = .ok (.ireturn, 1) := dk_172 (dk_at dksX0_free_4 4 rfl rfl)
theorem dX0_free_98 : decode cX0_free 98 = .ok (.iinc 1 1, 3) := dk_132 1 1 (dk_at dksX0_free_4 5 rfl rfl)
theorem dX0_free_101 : decode cX0_free 101 = .ok (.goto (-99), 3) := dk_167 255 157 (dk_at dksX0_free_4 8 rfl rfl)
theorem dX0_free_104 : decode cX0_free 104 = .ok (.bipush (-2), 2) := dk_16 254 (dk_at dksX0_free_4 11 rfl rfl)
theorem dX0_free_106 : decode cX0_free 106 = .ok (.ireturn, 1) := dk_172 (dk_at dksX0_free_4 13 rfl rfl)
abbrev cX0_black : ByteArray := prog_1_method_45_code
def yX0_black : MethodName := ⟨RX0, "black", "(III)I"⟩
def dkwX0_black_6 : List UInt8 := [21, 6, 172]
abbrev dktX0_black_6 : List UInt8 := dkwX0_black_6 ++ []
def dkwX0_black_5 : List UInt8 := [163, 0, 17, 21, 6, 42, 180, 0, 44, 21, 7, 46, 184, 0, 232, 54, 6, 132, 7, 1, 167, 255, 194]
abbrev dktX0_black_5 : List UInt8 := dkwX0_black_5 ++ dktX0_black_6
def dkwX0_black_4 : List UInt8 := [42, 180, 0, 51, 21, 7, 46, 25, 4, 182, 0, 136, 100, 184, 0, 232, 104, 96, 25, 4, 180, 0, 133]
abbrev dktX0_black_4 : List UInt8 := dkwX0_black_4 ++ dktX0_black_5
def dkwX0_black_3 : List UInt8 := [54, 6, 3, 54, 7, 21, 7, 42, 182, 0, 245, 162, 0, 59, 42, 180, 0, 48, 21, 7, 46, 21, 5, 3]
abbrev dktX0_black_3 : List UInt8 := dkwX0_black_3 ++ dktX0_black_4
def dkwX0_black_2 : List UInt8 := [27, 182, 0, 248, 28, 16, 100, 108, 28, 16, 100, 112, 29, 104, 16, 99, 96, 16, 100, 108, 96, 54, 5, 3]
abbrev dktX0_black_2 : List UInt8 := dkwX0_black_2 ++ dktX0_black_3
def dkwX0_black_1 : List UInt8 := [153, 0, 13, 29, 3, 16, 100, 184, 0, 91, 154, 0, 5, 2, 172, 42, 180, 0, 17, 27, 50, 58, 4, 42]
abbrev dktX0_black_1 : List UInt8 := dkwX0_black_1 ++ dktX0_black_2
def dkwX0_black_0 : List UInt8 := [42, 27, 182, 0, 127, 153, 0, 30, 28, 155, 0, 26, 28, 16, 100, 108, 4, 16, 99, 184, 0, 91]
abbrev dktX0_black_0 : List UInt8 := dkwX0_black_0 ++ dktX0_black_1
theorem dksX0_black_0 : cX0_black.data.toList.drop 0 = dktX0_black_0 := by decide +kernel
theorem dksX0_black_1 : cX0_black.data.toList.drop 22 = dktX0_black_1 := dk_seg dksX0_black_0 22 rfl rfl
theorem dksX0_black_2 : cX0_black.data.toList.drop 46 = dktX0_black_2 := dk_seg dksX0_black_1 24 rfl rfl
theorem dksX0_black_3 : cX0_black.data.toList.drop 70 = dktX0_black_3 := dk_seg dksX0_black_2 24 rfl rfl
theorem dksX0_black_4 : cX0_black.data.toList.drop 94 = dktX0_black_4 := dk_seg dksX0_black_3 24 rfl rfl
theorem dksX0_black_5 : cX0_black.data.toList.drop 117 = dktX0_black_5 := dk_seg dksX0_black_4 23 rfl rfl
theorem dksX0_black_6 : cX0_black.data.toList.drop 140 = dktX0_black_6 := dk_seg dksX0_black_5 23 rfl rfl
theorem dX0_black_0 : decode cX0_black 0 = .ok (.aload_n 0, 1) := dk_42 (dk_at dksX0_black_0 0 rfl rfl)
theorem dX0_black_1 : decode cX0_black 1 = .ok (.iload_n 1, 1) := dk_27 (dk_at dksX0_black_0 1 rfl rfl)
theorem dX0_black_2 : decode cX0_black 2 = .ok (.invokevirtual 127, 3) := dk_182 0 127 (dk_at dksX0_black_0 2 rfl rfl)
theorem dX0_black_5 : decode cX0_black 5 = .ok (.ifCond .eq 30, 3) := dk_153 0 30 (dk_at dksX0_black_0 5 rfl rfl)
theorem dX0_black_8 : decode cX0_black 8 = .ok (.iload_n 2, 1) := dk_28 (dk_at dksX0_black_0 8 rfl rfl)
theorem dX0_black_9 : decode cX0_black 9 = .ok (.ifCond .lt 26, 3) := dk_155 0 26 (dk_at dksX0_black_0 9 rfl rfl)
theorem dX0_black_12 : decode cX0_black 12 = .ok (.iload_n 2, 1) := dk_28 (dk_at dksX0_black_0 12 rfl rfl)
theorem dX0_black_13 : decode cX0_black 13 = .ok (.bipush 100, 2) := dk_16 100 (dk_at dksX0_black_0 13 rfl rfl)
theorem dX0_black_15 : decode cX0_black 15 = .ok (.idiv, 1) := dk_108 (dk_at dksX0_black_0 15 rfl rfl)
theorem dX0_black_16 : decode cX0_black 16 = .ok (.iconst 1, 1) := dk_4 (dk_at dksX0_black_0 16 rfl rfl)
theorem dX0_black_17 : decode cX0_black 17 = .ok (.bipush 99, 2) := dk_16 99 (dk_at dksX0_black_0 17 rfl rfl)
theorem dX0_black_19 : decode cX0_black 19 = .ok (.invokestatic 91, 3) := dk_184 0 91 (dk_at dksX0_black_0 19 rfl rfl)
theorem dX0_black_22 : decode cX0_black 22 = .ok (.ifCond .eq 13, 3) := dk_153 0 13 (dk_at dksX0_black_1 0 rfl rfl)
theorem dX0_black_25 : decode cX0_black 25 = .ok (.iload_n 3, 1) := dk_29 (dk_at dksX0_black_1 3 rfl rfl)
theorem dX0_black_26 : decode cX0_black 26 = .ok (.iconst 0, 1) := dk_3 (dk_at dksX0_black_1 4 rfl rfl)
theorem dX0_black_27 : decode cX0_black 27 = .ok (.bipush 100, 2) := dk_16 100 (dk_at dksX0_black_1 5 rfl rfl)
theorem dX0_black_29 : decode cX0_black 29 = .ok (.invokestatic 91, 3) := dk_184 0 91 (dk_at dksX0_black_1 7 rfl rfl)
theorem dX0_black_32 : decode cX0_black 32 = .ok (.ifCond .ne 5, 3) := dk_154 0 5 (dk_at dksX0_black_1 10 rfl rfl)
theorem dX0_black_35 : decode cX0_black 35 = .ok (.iconst (-1), 1) := dk_2 (dk_at dksX0_black_1 13 rfl rfl)
theorem dX0_black_36 : decode cX0_black 36 = .ok (.ireturn, 1) := dk_172 (dk_at dksX0_black_1 14 rfl rfl)
theorem dX0_black_37 : decode cX0_black 37 = .ok (.aload_n 0, 1) := dk_42 (dk_at dksX0_black_1 15 rfl rfl)
theorem dX0_black_38 : decode cX0_black 38 = .ok (.getfield 17, 3) := dk_180 0 17 (dk_at dksX0_black_1 16 rfl rfl)
theorem dX0_black_41 : decode cX0_black 41 = .ok (.iload_n 1, 1) := dk_27 (dk_at dksX0_black_1 19 rfl rfl)
theorem dX0_black_42 : decode cX0_black 42 = .ok (.aaload, 1) := dk_50 (dk_at dksX0_black_1 20 rfl rfl)
theorem dX0_black_43 : decode cX0_black 43 = .ok (.astore 4, 2) := dk_58 4 (dk_at dksX0_black_1 21 rfl rfl)
theorem dX0_black_45 : decode cX0_black 45 = .ok (.aload_n 0, 1) := dk_42 (dk_at dksX0_black_1 23 rfl rfl)
theorem dX0_black_46 : decode cX0_black 46 = .ok (.iload_n 1, 1) := dk_27 (dk_at dksX0_black_2 0 rfl rfl)
theorem dX0_black_47 : decode cX0_black 47 = .ok (.invokevirtual 248, 3) := dk_182 0 248 (dk_at dksX0_black_2 1 rfl rfl)
theorem dX0_black_50 : decode cX0_black 50 = .ok (.iload_n 2, 1) := dk_28 (dk_at dksX0_black_2 4 rfl rfl)
theorem dX0_black_51 : decode cX0_black 51 = .ok (.bipush 100, 2) := dk_16 100 (dk_at dksX0_black_2 5 rfl rfl)
theorem dX0_black_53 : decode cX0_black 53 = .ok (.idiv, 1) := dk_108 (dk_at dksX0_black_2 7 rfl rfl)
theorem dX0_black_54 : decode cX0_black 54 = .ok (.iload_n 2, 1) := dk_28 (dk_at dksX0_black_2 8 rfl rfl)
theorem dX0_black_55 : decode cX0_black 55 = .ok (.bipush 100, 2) := dk_16 100 (dk_at dksX0_black_2 9 rfl rfl)
theorem dX0_black_57 : decode cX0_black 57 = .ok (.irem, 1) := dk_112 (dk_at dksX0_black_2 11 rfl rfl)
theorem dX0_black_58 : decode cX0_black 58 = .ok (.iload_n 3, 1) := dk_29 (dk_at dksX0_black_2 12 rfl rfl)
theorem dX0_black_59 : decode cX0_black 59 = .ok (.imul, 1) := dk_104 (dk_at dksX0_black_2 13 rfl rfl)
theorem dX0_black_60 : decode cX0_black 60 = .ok (.bipush 99, 2) := dk_16 99 (dk_at dksX0_black_2 14 rfl rfl)
theorem dX0_black_62 : decode cX0_black 62 = .ok (.iadd, 1) := dk_96 (dk_at dksX0_black_2 16 rfl rfl)
theorem dX0_black_63 : decode cX0_black 63 = .ok (.bipush 100, 2) := dk_16 100 (dk_at dksX0_black_2 17 rfl rfl)
theorem dX0_black_65 : decode cX0_black 65 = .ok (.idiv, 1) := dk_108 (dk_at dksX0_black_2 19 rfl rfl)
theorem dX0_black_66 : decode cX0_black 66 = .ok (.iadd, 1) := dk_96 (dk_at dksX0_black_2 20 rfl rfl)
theorem dX0_black_67 : decode cX0_black 67 = .ok (.istore 5, 2) := dk_54 5 (dk_at dksX0_black_2 21 rfl rfl)
theorem dX0_black_69 : decode cX0_black 69 = .ok (.iconst 0, 1) := dk_3 (dk_at dksX0_black_2 23 rfl rfl)
theorem dX0_black_70 : decode cX0_black 70 = .ok (.istore 6, 2) := dk_54 6 (dk_at dksX0_black_3 0 rfl rfl)
theorem dX0_black_72 : decode cX0_black 72 = .ok (.iconst 0, 1) := dk_3 (dk_at dksX0_black_3 2 rfl rfl)
theorem dX0_black_73 : decode cX0_black 73 = .ok (.istore 7, 2) := dk_54 7 (dk_at dksX0_black_3 3 rfl rfl)
theorem dX0_black_75 : decode cX0_black 75 = .ok (.iload 7, 2) := dk_21 7 (dk_at dksX0_black_3 5 rfl rfl)
theorem dX0_black_77 : decode cX0_black 77 = .ok (.aload_n 0, 1) := dk_42 (dk_at dksX0_black_3 7 rfl rfl)
theorem dX0_black_78 : decode cX0_black 78 = .ok (.invokevirtual 245, 3) := dk_182 0 245 (dk_at dksX0_black_3 8 rfl rfl)
theorem dX0_black_81 : decode cX0_black 81 = .ok (.if_icmp .ge 59, 3) := dk_162 0 59 (dk_at dksX0_black_3 11 rfl rfl)
theorem dX0_black_84 : decode cX0_black 84 = .ok (.aload_n 0, 1) := dk_42 (dk_at dksX0_black_3 14 rfl rfl)
theorem dX0_black_85 : decode cX0_black 85 = .ok (.getfield 48, 3) := dk_180 0 48 (dk_at dksX0_black_3 15 rfl rfl)
theorem dX0_black_88 : decode cX0_black 88 = .ok (.iload 7, 2) := dk_21 7 (dk_at dksX0_black_3 18 rfl rfl)
theorem dX0_black_90 : decode cX0_black 90 = .ok (.iaload, 1) := dk_46 (dk_at dksX0_black_3 20 rfl rfl)
theorem dX0_black_91 : decode cX0_black 91 = .ok (.iload 5, 2) := dk_21 5 (dk_at dksX0_black_3 21 rfl rfl)
theorem dX0_black_93 : decode cX0_black 93 = .ok (.iconst 0, 1) := dk_3 (dk_at dksX0_black_3 23 rfl rfl)
theorem dX0_black_94 : decode cX0_black 94 = .ok (.aload_n 0, 1) := dk_42 (dk_at dksX0_black_4 0 rfl rfl)
theorem dX0_black_95 : decode cX0_black 95 = .ok (.getfield 51, 3) := dk_180 0 51 (dk_at dksX0_black_4 1 rfl rfl)
theorem dX0_black_98 : decode cX0_black 98 = .ok (.iload 7, 2) := dk_21 7 (dk_at dksX0_black_4 4 rfl rfl)
theorem dX0_black_100 : decode cX0_black 100 = .ok (.iaload, 1) := dk_46 (dk_at dksX0_black_4 6 rfl rfl)
theorem dX0_black_101 : decode cX0_black 101 = .ok (.aload 4, 2) := dk_25 4 (dk_at dksX0_black_4 7 rfl rfl)
theorem dX0_black_103 : decode cX0_black 103 = .ok (.invokevirtual 136, 3) := dk_182 0 136 (dk_at dksX0_black_4 9 rfl rfl)
theorem dX0_black_106 : decode cX0_black 106 = .ok (.isub, 1) := dk_100 (dk_at dksX0_black_4 12 rfl rfl)
theorem dX0_black_107 : decode cX0_black 107 = .ok (.invokestatic 232, 3) := dk_184 0 232 (dk_at dksX0_black_4 13 rfl rfl)
theorem dX0_black_110 : decode cX0_black 110 = .ok (.imul, 1) := dk_104 (dk_at dksX0_black_4 16 rfl rfl)
theorem dX0_black_111 : decode cX0_black 111 = .ok (.iadd, 1) := dk_96 (dk_at dksX0_black_4 17 rfl rfl)
theorem dX0_black_112 : decode cX0_black 112 = .ok (.aload 4, 2) := dk_25 4 (dk_at dksX0_black_4 18 rfl rfl)
theorem dX0_black_114 : decode cX0_black 114 = .ok (.getfield 133, 3) := dk_180 0 133 (dk_at dksX0_black_4 20 rfl rfl)
theorem dX0_black_117 : decode cX0_black 117 = .ok (.if_icmp .gt 17, 3) := dk_163 0 17 (dk_at dksX0_black_5 0 rfl rfl)
theorem dX0_black_120 : decode cX0_black 120 = .ok (.iload 6, 2) := dk_21 6 (dk_at dksX0_black_5 3 rfl rfl)
theorem dX0_black_122 : decode cX0_black 122 = .ok (.aload_n 0, 1) := dk_42 (dk_at dksX0_black_5 5 rfl rfl)
theorem dX0_black_123 : decode cX0_black 123 = .ok (.getfield 44, 3) := dk_180 0 44 (dk_at dksX0_black_5 6 rfl rfl)
theorem dX0_black_126 : decode cX0_black 126 = .ok (.iload 7, 2) := dk_21 7 (dk_at dksX0_black_5 9 rfl rfl)
theorem dX0_black_128 : decode cX0_black 128 = .ok (.iaload, 1) := dk_46 (dk_at dksX0_black_5 11 rfl rfl)
theorem dX0_black_129 : decode cX0_black 129 = .ok (.invokestatic 232, 3) := dk_184 0 232 (dk_at dksX0_black_5 12 rfl rfl)
theorem dX0_black_132 : decode cX0_black 132 = .ok (.istore 6, 2) := dk_54 6 (dk_at dksX0_black_5 15 rfl rfl)
theorem dX0_black_134 : decode cX0_black 134 = .ok (.iinc 7 1, 3) := dk_132 7 1 (dk_at dksX0_black_5 17 rfl rfl)
theorem dX0_black_137 : decode cX0_black 137 = .ok (.goto (-62), 3) := dk_167 255 194 (dk_at dksX0_black_5 20 rfl rfl)
theorem dX0_black_140 : decode cX0_black 140 = .ok (.iload 6, 2) := dk_21 6 (dk_at dksX0_black_6 0 rfl rfl)
theorem dX0_black_142 : decode cX0_black 142 = .ok (.ireturn, 1) := dk_172 (dk_at dksX0_black_6 2 rfl rfl)
abbrev cX0_beside : ByteArray := prog_1_method_49_code
def yX0_beside : MethodName := ⟨RX0, "beside", "(II)I"⟩
def dkwX0_beside_1 : List UInt8 := [2, 172]
abbrev dktX0_beside_1 : List UInt8 := dkwX0_beside_1 ++ []
def dkwX0_beside_0 : List UInt8 := [42, 27, 182, 0, 127, 153, 0, 19, 28, 184, 1, 58, 153, 0, 12, 42, 27, 28, 182, 1, 61, 167, 0, 4]
abbrev dktX0_beside_0 : List UInt8 := dkwX0_beside_0 ++ dktX0_beside_1
theorem dksX0_beside_0 : cX0_beside.data.toList.drop 0 = dktX0_beside_0 := by decide +kernel
theorem dksX0_beside_1 : cX0_beside.data.toList.drop 24 = dktX0_beside_1 := dk_seg dksX0_beside_0 24 rfl rfl
theorem dX0_beside_0 : decode cX0_beside 0 = .ok (.aload_n 0, 1) := dk_42 (dk_at dksX0_beside_0 0 rfl rfl)
theorem dX0_beside_1 : decode cX0_beside 1 = .ok (.iload_n 1, 1) := dk_27 (dk_at dksX0_beside_0 1 rfl rfl)
theorem dX0_beside_2 : decode cX0_beside 2 = .ok (.invokevirtual 127, 3) := dk_182 0 127 (dk_at dksX0_beside_0 2 rfl rfl)
theorem dX0_beside_5 : decode cX0_beside 5 = .ok (.ifCond .eq 19, 3) := dk_153 0 19 (dk_at dksX0_beside_0 5 rfl rfl)
theorem dX0_beside_8 : decode cX0_beside 8 = .ok (.iload_n 2, 1) := dk_28 (dk_at dksX0_beside_0 8 rfl rfl)
theorem dX0_beside_9 : decode cX0_beside 9 = .ok (.invokestatic 314, 3) := dk_184 1 58 (dk_at dksX0_beside_0 9 rfl rfl)
theorem dX0_beside_12 : decode cX0_beside 12 = .ok (.ifCond .eq 12, 3) := dk_153 0 12 (dk_at dksX0_beside_0 12 rfl rfl)
theorem dX0_beside_15 : decode cX0_beside 15 = .ok (.aload_n 0, 1) := dk_42 (dk_at dksX0_beside_0 15 rfl rfl)
theorem dX0_beside_16 : decode cX0_beside 16 = .ok (.iload_n 1, 1) := dk_27 (dk_at dksX0_beside_0 16 rfl rfl)
theorem dX0_beside_17 : decode cX0_beside 17 = .ok (.iload_n 2, 1) := dk_28 (dk_at dksX0_beside_0 17 rfl rfl)
theorem dX0_beside_18 : decode cX0_beside 18 = .ok (.invokevirtual 317, 3) := dk_182 1 61 (dk_at dksX0_beside_0 18 rfl rfl)
theorem dX0_beside_21 : decode cX0_beside 21 = .ok (.goto 4, 3) := dk_167 0 4 (dk_at dksX0_beside_0 21 rfl rfl)
theorem dX0_beside_24 : decode cX0_beside 24 = .ok (.iconst (-1), 1) := dk_2 (dk_at dksX0_beside_1 0 rfl rfl)
theorem dX0_beside_25 : decode cX0_beside 25 = .ok (.ireturn, 1) := dk_172 (dk_at dksX0_beside_1 1 rfl rfl)
abbrev cX0_isDear : ByteArray := prog_1_method_48_code
def yX0_isDear : MethodName := ⟨RX0, "isDear", "(I)Z"⟩
def dkwX0_isDear_0 : List UInt8 := [26, 153, 0, 15, 26, 16, 100, 17, 3, 132, 184, 0, 91, 153, 0, 7, 4, 167, 0, 4, 3, 172]
abbrev dktX0_isDear_0 : List UInt8 := dkwX0_isDear_0 ++ []
theorem dksX0_isDear_0 : cX0_isDear.data.toList.drop 0 = dktX0_isDear_0 := by decide +kernel
theorem dX0_isDear_0 : decode cX0_isDear 0 = .ok (.iload_n 0, 1) := dk_26 (dk_at dksX0_isDear_0 0 rfl rfl)
theorem dX0_isDear_1 : decode cX0_isDear 1 = .ok (.ifCond .eq 15, 3) := dk_153 0 15 (dk_at dksX0_isDear_0 1 rfl rfl)
theorem dX0_isDear_4 : decode cX0_isDear 4 = .ok (.iload_n 0, 1) := dk_26 (dk_at dksX0_isDear_0 4 rfl rfl)
theorem dX0_isDear_5 : decode cX0_isDear 5 = .ok (.bipush 100, 2) := dk_16 100 (dk_at dksX0_isDear_0 5 rfl rfl)
theorem dX0_isDear_7 : decode cX0_isDear 7 = .ok (.sipush 900, 3) := dk_17 3 132 (dk_at dksX0_isDear_0 7 rfl rfl)
theorem dX0_isDear_10 : decode cX0_isDear 10 = .ok (.invokestatic 91, 3) := dk_184 0 91 (dk_at dksX0_isDear_0 10 rfl rfl)
theorem dX0_isDear_13 : decode cX0_isDear 13 = .ok (.ifCond .eq 7, 3) := dk_153 0 7 (dk_at dksX0_isDear_0 13 rfl rfl)
theorem dX0_isDear_16 : decode cX0_isDear 16 = .ok (.iconst 1, 1) := dk_4 (dk_at dksX0_isDear_0 16 rfl rfl)
theorem dX0_isDear_17 : decode cX0_isDear 17 = .ok (.goto 4, 3) := dk_167 0 4 (dk_at dksX0_isDear_0 17 rfl rfl)
theorem dX0_isDear_20 : decode cX0_isDear 20 = .ok (.iconst 0, 1) := dk_3 (dk_at dksX0_isDear_0 20 rfl rfl)
theorem dX0_isDear_21 : decode cX0_isDear 21 = .ok (.ireturn, 1) := dk_172 (dk_at dksX0_isDear_0 21 rfl rfl)
abbrev cX0_besideOf : ByteArray := prog_1_method_47_code
def yX0_besideOf : MethodName := ⟨RX0, "besideOf", "(II)I"⟩
def dkwX0_besideOf_6 : List UInt8 := [180, 0, 44, 21, 4, 46, 184, 0, 232, 62, 132, 4, 1, 167, 255, 168, 29, 172]
abbrev dktX0_besideOf_6 : List UInt8 := dkwX0_besideOf_6 ++ []
def dkwX0_besideOf_5 : List UInt8 := [132, 6, 1, 167, 255, 215, 21, 5, 42, 180, 0, 17, 27, 50, 180, 0, 133, 163, 0, 15, 29, 42]
abbrev dktX0_besideOf_5 : List UInt8 := dkwX0_besideOf_5 ++ dktX0_besideOf_6
def dkwX0_besideOf_4 : List UInt8 := [21, 6, 182, 0, 242, 42, 180, 0, 11, 21, 6, 50, 180, 0, 152, 28, 104, 16, 100, 108, 104, 96, 54, 5]
abbrev dktX0_besideOf_4 : List UInt8 := dkwX0_besideOf_4 ++ dktX0_besideOf_5
def dkwX0_besideOf_3 : List UInt8 := [162, 0, 85, 3, 54, 5, 3, 54, 6, 21, 6, 42, 180, 0, 87, 162, 0, 38, 21, 5, 42, 21, 4]
abbrev dktX0_besideOf_3 : List UInt8 := dkwX0_besideOf_3 ++ dktX0_besideOf_4
def dkwX0_besideOf_2 : List UInt8 := [184, 0, 227, 96, 46, 96, 62, 132, 4, 1, 167, 255, 212, 29, 172, 3, 54, 4, 21, 4, 42, 182, 0, 245]
abbrev dktX0_besideOf_2 : List UInt8 := dkwX0_besideOf_2 ++ dktX0_besideOf_3
def dkwX0_besideOf_1 : List UInt8 := [42, 180, 0, 54, 7, 21, 4, 104, 6, 42, 180, 0, 11, 21, 4, 50, 180, 0, 149, 42, 182, 1, 55, 108]
abbrev dktX0_besideOf_1 : List UInt8 := dkwX0_besideOf_1 ++ dktX0_besideOf_2
def dkwX0_besideOf_0 : List UInt8 := [42, 27, 182, 0, 248, 3, 62, 28, 154, 0, 55, 3, 54, 4, 21, 4, 42, 180, 0, 87, 162, 0, 41, 29]
abbrev dktX0_besideOf_0 : List UInt8 := dkwX0_besideOf_0 ++ dktX0_besideOf_1
theorem dksX0_besideOf_0 : cX0_besideOf.data.toList.drop 0 = dktX0_besideOf_0 := by decide +kernel
theorem dksX0_besideOf_1 : cX0_besideOf.data.toList.drop 24 = dktX0_besideOf_1 := dk_seg dksX0_besideOf_0 24 rfl rfl
theorem dksX0_besideOf_2 : cX0_besideOf.data.toList.drop 48 = dktX0_besideOf_2 := dk_seg dksX0_besideOf_1 24 rfl rfl
theorem dksX0_besideOf_3 : cX0_besideOf.data.toList.drop 72 = dktX0_besideOf_3 := dk_seg dksX0_besideOf_2 24 rfl rfl
theorem dksX0_besideOf_4 : cX0_besideOf.data.toList.drop 95 = dktX0_besideOf_4 := dk_seg dksX0_besideOf_3 23 rfl rfl
theorem dksX0_besideOf_5 : cX0_besideOf.data.toList.drop 119 = dktX0_besideOf_5 := dk_seg dksX0_besideOf_4 24 rfl rfl
theorem dksX0_besideOf_6 : cX0_besideOf.data.toList.drop 141 = dktX0_besideOf_6 := dk_seg dksX0_besideOf_5 22 rfl rfl
theorem dX0_besideOf_0 : decode cX0_besideOf 0 = .ok (.aload_n 0, 1) := dk_42 (dk_at dksX0_besideOf_0 0 rfl rfl)
theorem dX0_besideOf_1 : decode cX0_besideOf 1 = .ok (.iload_n 1, 1) := dk_27 (dk_at dksX0_besideOf_0 1 rfl rfl)
theorem dX0_besideOf_2 : decode cX0_besideOf 2 = .ok (.invokevirtual 248, 3) := dk_182 0 248 (dk_at dksX0_besideOf_0 2 rfl rfl)
theorem dX0_besideOf_5 : decode cX0_besideOf 5 = .ok (.iconst 0, 1) := dk_3 (dk_at dksX0_besideOf_0 5 rfl rfl)
theorem dX0_besideOf_6 : decode cX0_besideOf 6 = .ok (.istore_n 3, 1) := dk_62 (dk_at dksX0_besideOf_0 6 rfl rfl)
theorem dX0_besideOf_7 : decode cX0_besideOf 7 = .ok (.iload_n 2, 1) := dk_28 (dk_at dksX0_besideOf_0 7 rfl rfl)
theorem dX0_besideOf_8 : decode cX0_besideOf 8 = .ok (.ifCond .ne 55, 3) := dk_154 0 55 (dk_at dksX0_besideOf_0 8 rfl rfl)
theorem dX0_besideOf_11 : decode cX0_besideOf 11 = .ok (.iconst 0, 1) := dk_3 (dk_at dksX0_besideOf_0 11 rfl rfl)
theorem dX0_besideOf_12 : decode cX0_besideOf 12 = .ok (.istore 4, 2) := dk_54 4 (dk_at dksX0_besideOf_0 12 rfl rfl)
theorem dX0_besideOf_14 : decode cX0_besideOf 14 = .ok (.iload 4, 2) := dk_21 4 (dk_at dksX0_besideOf_0 14 rfl rfl)
theorem dX0_besideOf_16 : decode cX0_besideOf 16 = .ok (.aload_n 0, 1) := dk_42 (dk_at dksX0_besideOf_0 16 rfl rfl)
theorem dX0_besideOf_17 : decode cX0_besideOf 17 = .ok (.getfield 87, 3) := dk_180 0 87 (dk_at dksX0_besideOf_0 17 rfl rfl)
theorem dX0_besideOf_20 : decode cX0_besideOf 20 = .ok (.if_icmp .ge 41, 3) := dk_162 0 41 (dk_at dksX0_besideOf_0 20 rfl rfl)
theorem dX0_besideOf_23 : decode cX0_besideOf 23 = .ok (.iload_n 3, 1) := dk_29 (dk_at dksX0_besideOf_0 23 rfl rfl)
theorem dX0_besideOf_24 : decode cX0_besideOf 24 = .ok (.aload_n 0, 1) := dk_42 (dk_at dksX0_besideOf_1 0 rfl rfl)
theorem dX0_besideOf_25 : decode cX0_besideOf 25 = .ok (.getfield 54, 3) := dk_180 0 54 (dk_at dksX0_besideOf_1 1 rfl rfl)
theorem dX0_besideOf_28 : decode cX0_besideOf 28 = .ok (.iconst 4, 1) := dk_7 (dk_at dksX0_besideOf_1 4 rfl rfl)
theorem dX0_besideOf_29 : decode cX0_besideOf 29 = .ok (.iload 4, 2) := dk_21 4 (dk_at dksX0_besideOf_1 5 rfl rfl)
theorem dX0_besideOf_31 : decode cX0_besideOf 31 = .ok (.imul, 1) := dk_104 (dk_at dksX0_besideOf_1 7 rfl rfl)
theorem dX0_besideOf_32 : decode cX0_besideOf 32 = .ok (.iconst 3, 1) := dk_6 (dk_at dksX0_besideOf_1 8 rfl rfl)
theorem dX0_besideOf_33 : decode cX0_besideOf 33 = .ok (.aload_n 0, 1) := dk_42 (dk_at dksX0_besideOf_1 9 rfl rfl)
theorem dX0_besideOf_34 : decode cX0_besideOf 34 = .ok (.getfield 11, 3) := dk_180 0 11 (dk_at dksX0_besideOf_1 10 rfl rfl)
theorem dX0_besideOf_37 : decode cX0_besideOf 37 = .ok (.iload 4, 2) := dk_21 4 (dk_at dksX0_besideOf_1 13 rfl rfl)
theorem dX0_besideOf_39 : decode cX0_besideOf 39 = .ok (.aaload, 1) := dk_50 (dk_at dksX0_besideOf_1 15 rfl rfl)
theorem dX0_besideOf_40 : decode cX0_besideOf 40 = .ok (.getfield 149, 3) := dk_180 0 149 (dk_at dksX0_besideOf_1 16 rfl rfl)
theorem dX0_besideOf_43 : decode cX0_besideOf 43 = .ok (.aload_n 0, 1) := dk_42 (dk_at dksX0_besideOf_1 19 rfl rfl)
theorem dX0_besideOf_44 : decode cX0_besideOf 44 = .ok (.invokevirtual 311, 3) := dk_182 1 55 (dk_at dksX0_besideOf_1 20 rfl rfl)
theorem dX0_besideOf_47 : decode cX0_besideOf 47 = .ok (.idiv, 1) := dk_108 (dk_at dksX0_besideOf_1 23 rfl rfl)
theorem dX0_besideOf_48 : decode cX0_besideOf 48 = .ok (.invokestatic 227, 3) := dk_184 0 227 (dk_at dksX0_besideOf_2 0 rfl rfl)
theorem dX0_besideOf_51 : decode cX0_besideOf 51 = .ok (.iadd, 1) := dk_96 (dk_at dksX0_besideOf_2 3 rfl rfl)
theorem dX0_besideOf_52 : decode cX0_besideOf 52 = .ok (.iaload, 1) := dk_46 (dk_at dksX0_besideOf_2 4 rfl rfl)
theorem dX0_besideOf_53 : decode cX0_besideOf 53 = .ok (.iadd, 1) := dk_96 (dk_at dksX0_besideOf_2 5 rfl rfl)
theorem dX0_besideOf_54 : decode cX0_besideOf 54 = .ok (.istore_n 3, 1) := dk_62 (dk_at dksX0_besideOf_2 6 rfl rfl)
theorem dX0_besideOf_55 : decode cX0_besideOf 55 = .ok (.iinc 4 1, 3) := dk_132 4 1 (dk_at dksX0_besideOf_2 7 rfl rfl)
theorem dX0_besideOf_58 : decode cX0_besideOf 58 = .ok (.goto (-44), 3) := dk_167 255 212 (dk_at dksX0_besideOf_2 10 rfl rfl)
theorem dX0_besideOf_61 : decode cX0_besideOf 61 = .ok (.iload_n 3, 1) := dk_29 (dk_at dksX0_besideOf_2 13 rfl rfl)
theorem dX0_besideOf_62 : decode cX0_besideOf 62 = .ok (.ireturn, 1) := dk_172 (dk_at dksX0_besideOf_2 14 rfl rfl)
theorem dX0_besideOf_63 : decode cX0_besideOf 63 = .ok (.iconst 0, 1) := dk_3 (dk_at dksX0_besideOf_2 15 rfl rfl)
theorem dX0_besideOf_64 : decode cX0_besideOf 64 = .ok (.istore 4, 2) := dk_54 4 (dk_at dksX0_besideOf_2 16 rfl rfl)
theorem dX0_besideOf_66 : decode cX0_besideOf 66 = .ok (.iload 4, 2) := dk_21 4 (dk_at dksX0_besideOf_2 18 rfl rfl)
theorem dX0_besideOf_68 : decode cX0_besideOf 68 = .ok (.aload_n 0, 1) := dk_42 (dk_at dksX0_besideOf_2 20 rfl rfl)
theorem dX0_besideOf_69 : decode cX0_besideOf 69 = .ok (.invokevirtual 245, 3) := dk_182 0 245 (dk_at dksX0_besideOf_2 21 rfl rfl)
theorem dX0_besideOf_72 : decode cX0_besideOf 72 = .ok (.if_icmp .ge 85, 3) := dk_162 0 85 (dk_at dksX0_besideOf_3 0 rfl rfl)
theorem dX0_besideOf_75 : decode cX0_besideOf 75 = .ok (.iconst 0, 1) := dk_3 (dk_at dksX0_besideOf_3 3 rfl rfl)
theorem dX0_besideOf_76 : decode cX0_besideOf 76 = .ok (.istore 5, 2) := dk_54 5 (dk_at dksX0_besideOf_3 4 rfl rfl)
theorem dX0_besideOf_78 : decode cX0_besideOf 78 = .ok (.iconst 0, 1) := dk_3 (dk_at dksX0_besideOf_3 6 rfl rfl)
theorem dX0_besideOf_79 : decode cX0_besideOf 79 = .ok (.istore 6, 2) := dk_54 6 (dk_at dksX0_besideOf_3 7 rfl rfl)
theorem dX0_besideOf_81 : decode cX0_besideOf 81 = .ok (.iload 6, 2) := dk_21 6 (dk_at dksX0_besideOf_3 9 rfl rfl)
theorem dX0_besideOf_83 : decode cX0_besideOf 83 = .ok (.aload_n 0, 1) := dk_42 (dk_at dksX0_besideOf_3 11 rfl rfl)
theorem dX0_besideOf_84 : decode cX0_besideOf 84 = .ok (.getfield 87, 3) := dk_180 0 87 (dk_at dksX0_besideOf_3 12 rfl rfl)
theorem dX0_besideOf_87 : decode cX0_besideOf 87 = .ok (.if_icmp .ge 38, 3) := dk_162 0 38 (dk_at dksX0_besideOf_3 15 rfl rfl)
theorem dX0_besideOf_90 : decode cX0_besideOf 90 = .ok (.iload 5, 2) := dk_21 5 (dk_at dksX0_besideOf_3 18 rfl rfl)
theorem dX0_besideOf_92 : decode cX0_besideOf 92 = .ok (.aload_n 0, 1) := dk_42 (dk_at dksX0_besideOf_3 20 rfl rfl)
theorem dX0_besideOf_93 : decode cX0_besideOf 93 = .ok (.iload 4, 2) := dk_21 4 (dk_at dksX0_besideOf_3 21 rfl rfl)
theorem dX0_besideOf_95 : decode cX0_besideOf 95 = .ok (.iload 6, 2) := dk_21 6 (dk_at dksX0_besideOf_4 0 rfl rfl)
theorem dX0_besideOf_97 : decode cX0_besideOf 97 = .ok (.invokevirtual 242, 3) := dk_182 0 242 (dk_at dksX0_besideOf_4 2 rfl rfl)
theorem dX0_besideOf_100 : decode cX0_besideOf 100 = .ok (.aload_n 0, 1) := dk_42 (dk_at dksX0_besideOf_4 5 rfl rfl)
theorem dX0_besideOf_101 : decode cX0_besideOf 101 = .ok (.getfield 11, 3) := dk_180 0 11 (dk_at dksX0_besideOf_4 6 rfl rfl)
theorem dX0_besideOf_104 : decode cX0_besideOf 104 = .ok (.iload 6, 2) := dk_21 6 (dk_at dksX0_besideOf_4 9 rfl rfl)
theorem dX0_besideOf_106 : decode cX0_besideOf 106 = .ok (.aaload, 1) := dk_50 (dk_at dksX0_besideOf_4 11 rfl rfl)
theorem dX0_besideOf_107 : decode cX0_besideOf 107 = .ok (.getfield 152, 3) := dk_180 0 152 (dk_at dksX0_besideOf_4 12 rfl rfl)
theorem dX0_besideOf_110 : decode cX0_besideOf 110 = .ok (.iload_n 2, 1) := dk_28 (dk_at dksX0_besideOf_4 15 rfl rfl)
theorem dX0_besideOf_111 : decode cX0_besideOf 111 = .ok (.imul, 1) := dk_104 (dk_at dksX0_besideOf_4 16 rfl rfl)
theorem dX0_besideOf_112 : decode cX0_besideOf 112 = .ok (.bipush 100, 2) := dk_16 100 (dk_at dksX0_besideOf_4 17 rfl rfl)
theorem dX0_besideOf_114 : decode cX0_besideOf 114 = .ok (.idiv, 1) := dk_108 (dk_at dksX0_besideOf_4 19 rfl rfl)
theorem dX0_besideOf_115 : decode cX0_besideOf 115 = .ok (.imul, 1) := dk_104 (dk_at dksX0_besideOf_4 20 rfl rfl)
theorem dX0_besideOf_116 : decode cX0_besideOf 116 = .ok (.iadd, 1) := dk_96 (dk_at dksX0_besideOf_4 21 rfl rfl)
theorem dX0_besideOf_117 : decode cX0_besideOf 117 = .ok (.istore 5, 2) := dk_54 5 (dk_at dksX0_besideOf_4 22 rfl rfl)
theorem dX0_besideOf_119 : decode cX0_besideOf 119 = .ok (.iinc 6 1, 3) := dk_132 6 1 (dk_at dksX0_besideOf_5 0 rfl rfl)
theorem dX0_besideOf_122 : decode cX0_besideOf 122 = .ok (.goto (-41), 3) := dk_167 255 215 (dk_at dksX0_besideOf_5 3 rfl rfl)
theorem dX0_besideOf_125 : decode cX0_besideOf 125 = .ok (.iload 5, 2) := dk_21 5 (dk_at dksX0_besideOf_5 6 rfl rfl)
theorem dX0_besideOf_127 : decode cX0_besideOf 127 = .ok (.aload_n 0, 1) := dk_42 (dk_at dksX0_besideOf_5 8 rfl rfl)
theorem dX0_besideOf_128 : decode cX0_besideOf 128 = .ok (.getfield 17, 3) := dk_180 0 17 (dk_at dksX0_besideOf_5 9 rfl rfl)
theorem dX0_besideOf_131 : decode cX0_besideOf 131 = .ok (.iload_n 1, 1) := dk_27 (dk_at dksX0_besideOf_5 12 rfl rfl)
theorem dX0_besideOf_132 : decode cX0_besideOf 132 = .ok (.aaload, 1) := dk_50 (dk_at dksX0_besideOf_5 13 rfl rfl)
theorem dX0_besideOf_133 : decode cX0_besideOf 133 = .ok (.getfield 133, 3) := dk_180 0 133 (dk_at dksX0_besideOf_5 14 rfl rfl)
theorem dX0_besideOf_136 : decode cX0_besideOf 136 = .ok (.if_icmp .gt 15, 3) := dk_163 0 15 (dk_at dksX0_besideOf_5 17 rfl rfl)
theorem dX0_besideOf_139 : decode cX0_besideOf 139 = .ok (.iload_n 3, 1) := dk_29 (dk_at dksX0_besideOf_5 20 rfl rfl)
theorem dX0_besideOf_140 : decode cX0_besideOf 140 = .ok (.aload_n 0, 1) := dk_42 (dk_at dksX0_besideOf_5 21 rfl rfl)
theorem dX0_besideOf_141 : decode cX0_besideOf 141 = .ok (.getfield 44, 3) := dk_180 0 44 (dk_at dksX0_besideOf_6 0 rfl rfl)
theorem dX0_besideOf_144 : decode cX0_besideOf 144 = .ok (.iload 4, 2) := dk_21 4 (dk_at dksX0_besideOf_6 3 rfl rfl)
theorem dX0_besideOf_146 : decode cX0_besideOf 146 = .ok (.iaload, 1) := dk_46 (dk_at dksX0_besideOf_6 5 rfl rfl)
theorem dX0_besideOf_147 : decode cX0_besideOf 147 = .ok (.invokestatic 232, 3) := dk_184 0 232 (dk_at dksX0_besideOf_6 6 rfl rfl)
theorem dX0_besideOf_150 : decode cX0_besideOf 150 = .ok (.istore_n 3, 1) := dk_62 (dk_at dksX0_besideOf_6 9 rfl rfl)
theorem dX0_besideOf_151 : decode cX0_besideOf 151 = .ok (.iinc 4 1, 3) := dk_132 4 1 (dk_at dksX0_besideOf_6 10 rfl rfl)
theorem dX0_besideOf_154 : decode cX0_besideOf 154 = .ok (.goto (-88), 3) := dk_167 255 168 (dk_at dksX0_besideOf_6 13 rfl rfl)
theorem dX0_besideOf_157 : decode cX0_besideOf 157 = .ok (.iload_n 3, 1) := dk_29 (dk_at dksX0_besideOf_6 16 rfl rfl)
theorem dX0_besideOf_158 : decode cX0_besideOf 158 = .ok (.ireturn, 1) := dk_172 (dk_at dksX0_besideOf_6 17 rfl rfl)
abbrev cX0_allHeads : ByteArray := prog_1_method_46_code
def yX0_allHeads : MethodName := ⟨RX0, "allHeads", "()I"⟩
def dkwX0_allHeads_1 : List UInt8 := [132, 2, 1, 167, 255, 233, 27, 172]
abbrev dktX0_allHeads_1 : List UInt8 := dkwX0_allHeads_1 ++ []
def dkwX0_allHeads_0 : List UInt8 := [3, 60, 3, 61, 28, 42, 180, 0, 95, 162, 0, 21, 27, 42, 180, 0, 17, 28, 50, 180, 0, 130, 96, 60]
abbrev dktX0_allHeads_0 : List UInt8 := dkwX0_allHeads_0 ++ dktX0_allHeads_1
theorem dksX0_allHeads_0 : cX0_allHeads.data.toList.drop 0 = dktX0_allHeads_0 := by decide +kernel
theorem dksX0_allHeads_1 : cX0_allHeads.data.toList.drop 24 = dktX0_allHeads_1 := dk_seg dksX0_allHeads_0 24 rfl rfl
theorem dX0_allHeads_0 : decode cX0_allHeads 0 = .ok (.iconst 0, 1) := dk_3 (dk_at dksX0_allHeads_0 0 rfl rfl)
theorem dX0_allHeads_1 : decode cX0_allHeads 1 = .ok (.istore_n 1, 1) := dk_60 (dk_at dksX0_allHeads_0 1 rfl rfl)
theorem dX0_allHeads_2 : decode cX0_allHeads 2 = .ok (.iconst 0, 1) := dk_3 (dk_at dksX0_allHeads_0 2 rfl rfl)
theorem dX0_allHeads_3 : decode cX0_allHeads 3 = .ok (.istore_n 2, 1) := dk_61 (dk_at dksX0_allHeads_0 3 rfl rfl)
theorem dX0_allHeads_4 : decode cX0_allHeads 4 = .ok (.iload_n 2, 1) := dk_28 (dk_at dksX0_allHeads_0 4 rfl rfl)
theorem dX0_allHeads_5 : decode cX0_allHeads 5 = .ok (.aload_n 0, 1) := dk_42 (dk_at dksX0_allHeads_0 5 rfl rfl)
theorem dX0_allHeads_6 : decode cX0_allHeads 6 = .ok (.getfield 95, 3) := dk_180 0 95 (dk_at dksX0_allHeads_0 6 rfl rfl)
theorem dX0_allHeads_9 : decode cX0_allHeads 9 = .ok (.if_icmp .ge 21, 3) := dk_162 0 21 (dk_at dksX0_allHeads_0 9 rfl rfl)
theorem dX0_allHeads_12 : decode cX0_allHeads 12 = .ok (.iload_n 1, 1) := dk_27 (dk_at dksX0_allHeads_0 12 rfl rfl)
theorem dX0_allHeads_13 : decode cX0_allHeads 13 = .ok (.aload_n 0, 1) := dk_42 (dk_at dksX0_allHeads_0 13 rfl rfl)
theorem dX0_allHeads_14 : decode cX0_allHeads 14 = .ok (.getfield 17, 3) := dk_180 0 17 (dk_at dksX0_allHeads_0 14 rfl rfl)
theorem dX0_allHeads_17 : decode cX0_allHeads 17 = .ok (.iload_n 2, 1) := dk_28 (dk_at dksX0_allHeads_0 17 rfl rfl)
theorem dX0_allHeads_18 : decode cX0_allHeads 18 = .ok (.aaload, 1) := dk_50 (dk_at dksX0_allHeads_0 18 rfl rfl)
theorem dX0_allHeads_19 : decode cX0_allHeads 19 = .ok (.getfield 130, 3) := dk_180 0 130 (dk_at dksX0_allHeads_0 19 rfl rfl)
theorem dX0_allHeads_22 : decode cX0_allHeads 22 = .ok (.iadd, 1) := dk_96 (dk_at dksX0_allHeads_0 22 rfl rfl)
theorem dX0_allHeads_23 : decode cX0_allHeads 23 = .ok (.istore_n 1, 1) := dk_60 (dk_at dksX0_allHeads_0 23 rfl rfl)
theorem dX0_allHeads_24 : decode cX0_allHeads 24 = .ok (.iinc 2 1, 3) := dk_132 2 1 (dk_at dksX0_allHeads_1 0 rfl rfl)
theorem dX0_allHeads_27 : decode cX0_allHeads 27 = .ok (.goto (-23), 3) := dk_167 255 233 (dk_at dksX0_allHeads_1 3 rfl rfl)
theorem dX0_allHeads_30 : decode cX0_allHeads 30 = .ok (.iload_n 1, 1) := dk_27 (dk_at dksX0_allHeads_1 6 rfl rfl)
theorem dX0_allHeads_31 : decode cX0_allHeads 31 = .ok (.ireturn, 1) := dk_172 (dk_at dksX0_allHeads_1 7 rfl rfl)
abbrev cX0_loses : ByteArray := prog_1_method_50_code
def yX0_loses : MethodName := ⟨RX0, "loses", "(I)I"⟩
def dkwX0_loses_2 : List UInt8 := [28, 172]
abbrev dktX0_loses_2 : List UInt8 := dkwX0_loses_2 ++ []
def dkwX0_loses_1 : List UInt8 := [182, 1, 48, 42, 29, 27, 182, 1, 61, 162, 0, 9, 28, 4, 29, 120, 128, 61, 132, 3, 1, 167, 255, 225]
abbrev dktX0_loses_1 : List UInt8 := dkwX0_loses_1 ++ dktX0_loses_2
def dkwX0_loses_0 : List UInt8 := [27, 184, 1, 58, 154, 0, 5, 2, 172, 3, 61, 3, 62, 29, 42, 180, 0, 95, 162, 0, 29, 42, 29]
abbrev dktX0_loses_0 : List UInt8 := dkwX0_loses_0 ++ dktX0_loses_1
theorem dksX0_loses_0 : cX0_loses.data.toList.drop 0 = dktX0_loses_0 := by decide +kernel
theorem dksX0_loses_1 : cX0_loses.data.toList.drop 23 = dktX0_loses_1 := dk_seg dksX0_loses_0 23 rfl rfl
theorem dksX0_loses_2 : cX0_loses.data.toList.drop 47 = dktX0_loses_2 := dk_seg dksX0_loses_1 24 rfl rfl
theorem dX0_loses_0 : decode cX0_loses 0 = .ok (.iload_n 1, 1) := dk_27 (dk_at dksX0_loses_0 0 rfl rfl)
theorem dX0_loses_1 : decode cX0_loses 1 = .ok (.invokestatic 314, 3) := dk_184 1 58 (dk_at dksX0_loses_0 1 rfl rfl)
theorem dX0_loses_4 : decode cX0_loses 4 = .ok (.ifCond .ne 5, 3) := dk_154 0 5 (dk_at dksX0_loses_0 4 rfl rfl)
theorem dX0_loses_7 : decode cX0_loses 7 = .ok (.iconst (-1), 1) := dk_2 (dk_at dksX0_loses_0 7 rfl rfl)
theorem dX0_loses_8 : decode cX0_loses 8 = .ok (.ireturn, 1) := dk_172 (dk_at dksX0_loses_0 8 rfl rfl)
theorem dX0_loses_9 : decode cX0_loses 9 = .ok (.iconst 0, 1) := dk_3 (dk_at dksX0_loses_0 9 rfl rfl)
theorem dX0_loses_10 : decode cX0_loses 10 = .ok (.istore_n 2, 1) := dk_61 (dk_at dksX0_loses_0 10 rfl rfl)
theorem dX0_loses_11 : decode cX0_loses 11 = .ok (.iconst 0, 1) := dk_3 (dk_at dksX0_loses_0 11 rfl rfl)
theorem dX0_loses_12 : decode cX0_loses 12 = .ok (.istore_n 3, 1) := dk_62 (dk_at dksX0_loses_0 12 rfl rfl)
theorem dX0_loses_13 : decode cX0_loses 13 = .ok (.iload_n 3, 1) := dk_29 (dk_at dksX0_loses_0 13 rfl rfl)
theorem dX0_loses_14 : decode cX0_loses 14 = .ok (.aload_n 0, 1) := dk_42 (dk_at dksX0_loses_0 14 rfl rfl)
theorem dX0_loses_15 : decode cX0_loses 15 = .ok (.getfield 95, 3) := dk_180 0 95 (dk_at dksX0_loses_0 15 rfl rfl)
theorem dX0_loses_18 : decode cX0_loses 18 = .ok (.if_icmp .ge 29, 3) := dk_162 0 29 (dk_at dksX0_loses_0 18 rfl rfl)
theorem dX0_loses_21 : decode cX0_loses 21 = .ok (.aload_n 0, 1) := dk_42 (dk_at dksX0_loses_0 21 rfl rfl)
theorem dX0_loses_22 : decode cX0_loses 22 = .ok (.iload_n 3, 1) := dk_29 (dk_at dksX0_loses_0 22 rfl rfl)
theorem dX0_loses_23 : decode cX0_loses 23 = .ok (.invokevirtual 304, 3) := dk_182 1 48 (dk_at dksX0_loses_1 0 rfl rfl)
theorem dX0_loses_26 : decode cX0_loses 26 = .ok (.aload_n 0, 1) := dk_42 (dk_at dksX0_loses_1 3 rfl rfl)
theorem dX0_loses_27 : decode cX0_loses 27 = .ok (.iload_n 3, 1) := dk_29 (dk_at dksX0_loses_1 4 rfl rfl)
theorem dX0_loses_28 : decode cX0_loses 28 = .ok (.iload_n 1, 1) := dk_27 (dk_at dksX0_loses_1 5 rfl rfl)
theorem dX0_loses_29 : decode cX0_loses 29 = .ok (.invokevirtual 317, 3) := dk_182 1 61 (dk_at dksX0_loses_1 6 rfl rfl)
theorem dX0_loses_32 : decode cX0_loses 32 = .ok (.if_icmp .ge 9, 3) := dk_162 0 9 (dk_at dksX0_loses_1 9 rfl rfl)
theorem dX0_loses_35 : decode cX0_loses 35 = .ok (.iload_n 2, 1) := dk_28 (dk_at dksX0_loses_1 12 rfl rfl)
theorem dX0_loses_36 : decode cX0_loses 36 = .ok (.iconst 1, 1) := dk_4 (dk_at dksX0_loses_1 13 rfl rfl)
theorem dX0_loses_37 : decode cX0_loses 37 = .ok (.iload_n 3, 1) := dk_29 (dk_at dksX0_loses_1 14 rfl rfl)
theorem dX0_loses_38 : decode cX0_loses 38 = .ok (.ishl, 1) := dk_120 (dk_at dksX0_loses_1 15 rfl rfl)
theorem dX0_loses_39 : decode cX0_loses 39 = .ok (.ior, 1) := dk_128 (dk_at dksX0_loses_1 16 rfl rfl)
theorem dX0_loses_40 : decode cX0_loses 40 = .ok (.istore_n 2, 1) := dk_61 (dk_at dksX0_loses_1 17 rfl rfl)
theorem dX0_loses_41 : decode cX0_loses 41 = .ok (.iinc 3 1, 3) := dk_132 3 1 (dk_at dksX0_loses_1 18 rfl rfl)
theorem dX0_loses_44 : decode cX0_loses 44 = .ok (.goto (-31), 3) := dk_167 255 225 (dk_at dksX0_loses_1 21 rfl rfl)
theorem dX0_loses_47 : decode cX0_loses 47 = .ok (.iload_n 2, 1) := dk_28 (dk_at dksX0_loses_2 0 rfl rfl)
theorem dX0_loses_48 : decode cX0_loses 48 = .ok (.ireturn, 1) := dk_172 (dk_at dksX0_loses_2 1 rfl rfl)
abbrev cX0_fewest : ByteArray := prog_1_method_51_code
def yX0_fewest : MethodName := ⟨RX0, "fewest", "()I"⟩
def dkwX0_fewest_8 : List UInt8 := [167, 255, 230, 27, 172]
abbrev dktX0_fewest_8 : List UInt8 := dkwX0_fewest_8 ++ []
def dkwX0_fewest_7 : List UInt8 := [180, 0, 87, 162, 0, 24, 42, 180, 0, 11, 28, 50, 42, 180, 0, 60, 28, 46, 181, 0, 155, 132, 2, 1]
abbrev dktX0_fewest_7 : List UInt8 := dkwX0_fewest_7 ++ dktX0_fewest_8
def dkwX0_fewest_6 : List UInt8 := [132, 4, 1, 167, 255, 227, 29, 153, 0, 5, 28, 60, 132, 2, 1, 167, 255, 134, 3, 61, 28, 42]
abbrev dktX0_fewest_6 : List UInt8 := dkwX0_fewest_6 ++ dktX0_fewest_7
def dkwX0_fewest_5 : List UInt8 := [42, 180, 0, 87, 162, 0, 26, 29, 42, 21, 4, 182, 1, 6, 155, 0, 7, 4, 167, 0, 4, 3, 126, 62]
abbrev dktX0_fewest_5 : List UInt8 := dkwX0_fewest_5 ++ dktX0_fewest_6
def dkwX0_fewest_4 : List UInt8 := [167, 0, 4, 3, 181, 0, 155, 132, 3, 1, 167, 255, 217, 42, 182, 1, 13, 4, 62, 3, 54, 4, 21, 4]
abbrev dktX0_fewest_4 : List UInt8 := dkwX0_fewest_4 ++ dktX0_fewest_5
def dkwX0_fewest_3 : List UInt8 := [162, 0, 37, 42, 180, 0, 11, 29, 50, 28, 29, 122, 4, 126, 4, 160, 0, 12, 42, 180, 0, 60, 29, 46]
abbrev dktX0_fewest_3 : List UInt8 := dkwX0_fewest_3 ++ dktX0_fewest_4
def dkwX0_fewest_2 : List UInt8 := [155, 0, 17, 28, 184, 1, 64, 27, 184, 1, 64, 161, 0, 6, 167, 0, 94, 3, 62, 29, 42, 180, 0, 87]
abbrev dktX0_fewest_2 : List UInt8 := dkwX0_fewest_2 ++ dktX0_fewest_3
def dkwX0_fewest_1 : List UInt8 := [79, 132, 1, 1, 167, 255, 230, 16, 254, 60, 3, 61, 28, 4, 42, 180, 0, 87, 120, 162, 0, 118, 27]
abbrev dktX0_fewest_1 : List UInt8 := dkwX0_fewest_1 ++ dktX0_fewest_2
def dkwX0_fewest_0 : List UInt8 := [3, 60, 27, 42, 180, 0, 87, 162, 0, 24, 42, 180, 0, 60, 27, 42, 180, 0, 11, 27, 50, 180, 0, 155]
abbrev dktX0_fewest_0 : List UInt8 := dkwX0_fewest_0 ++ dktX0_fewest_1
theorem dksX0_fewest_0 : cX0_fewest.data.toList.drop 0 = dktX0_fewest_0 := by decide +kernel
theorem dksX0_fewest_1 : cX0_fewest.data.toList.drop 24 = dktX0_fewest_1 := dk_seg dksX0_fewest_0 24 rfl rfl
theorem dksX0_fewest_2 : cX0_fewest.data.toList.drop 47 = dktX0_fewest_2 := dk_seg dksX0_fewest_1 23 rfl rfl
theorem dksX0_fewest_3 : cX0_fewest.data.toList.drop 71 = dktX0_fewest_3 := dk_seg dksX0_fewest_2 24 rfl rfl
theorem dksX0_fewest_4 : cX0_fewest.data.toList.drop 95 = dktX0_fewest_4 := dk_seg dksX0_fewest_3 24 rfl rfl
theorem dksX0_fewest_5 : cX0_fewest.data.toList.drop 119 = dktX0_fewest_5 := dk_seg dksX0_fewest_4 24 rfl rfl
theorem dksX0_fewest_6 : cX0_fewest.data.toList.drop 143 = dktX0_fewest_6 := dk_seg dksX0_fewest_5 24 rfl rfl
theorem dksX0_fewest_7 : cX0_fewest.data.toList.drop 165 = dktX0_fewest_7 := dk_seg dksX0_fewest_6 22 rfl rfl
theorem dksX0_fewest_8 : cX0_fewest.data.toList.drop 189 = dktX0_fewest_8 := dk_seg dksX0_fewest_7 24 rfl rfl
theorem dX0_fewest_0 : decode cX0_fewest 0 = .ok (.iconst 0, 1) := dk_3 (dk_at dksX0_fewest_0 0 rfl rfl)
theorem dX0_fewest_1 : decode cX0_fewest 1 = .ok (.istore_n 1, 1) := dk_60 (dk_at dksX0_fewest_0 1 rfl rfl)
theorem dX0_fewest_2 : decode cX0_fewest 2 = .ok (.iload_n 1, 1) := dk_27 (dk_at dksX0_fewest_0 2 rfl rfl)
theorem dX0_fewest_3 : decode cX0_fewest 3 = .ok (.aload_n 0, 1) := dk_42 (dk_at dksX0_fewest_0 3 rfl rfl)
theorem dX0_fewest_4 : decode cX0_fewest 4 = .ok (.getfield 87, 3) := dk_180 0 87 (dk_at dksX0_fewest_0 4 rfl rfl)
theorem dX0_fewest_7 : decode cX0_fewest 7 = .ok (.if_icmp .ge 24, 3) := dk_162 0 24 (dk_at dksX0_fewest_0 7 rfl rfl)
theorem dX0_fewest_10 : decode cX0_fewest 10 = .ok (.aload_n 0, 1) := dk_42 (dk_at dksX0_fewest_0 10 rfl rfl)
theorem dX0_fewest_11 : decode cX0_fewest 11 = .ok (.getfield 60, 3) := dk_180 0 60 (dk_at dksX0_fewest_0 11 rfl rfl)
theorem dX0_fewest_14 : decode cX0_fewest 14 = .ok (.iload_n 1, 1) := dk_27 (dk_at dksX0_fewest_0 14 rfl rfl)
theorem dX0_fewest_15 : decode cX0_fewest 15 = .ok (.aload_n 0, 1) := dk_42 (dk_at dksX0_fewest_0 15 rfl rfl)
theorem dX0_fewest_16 : decode cX0_fewest 16 = .ok (.getfield 11, 3) := dk_180 0 11 (dk_at dksX0_fewest_0 16 rfl rfl)
theorem dX0_fewest_19 : decode cX0_fewest 19 = .ok (.iload_n 1, 1) := dk_27 (dk_at dksX0_fewest_0 19 rfl rfl)
theorem dX0_fewest_20 : decode cX0_fewest 20 = .ok (.aaload, 1) := dk_50 (dk_at dksX0_fewest_0 20 rfl rfl)
theorem dX0_fewest_21 : decode cX0_fewest 21 = .ok (.getfield 155, 3) := dk_180 0 155 (dk_at dksX0_fewest_0 21 rfl rfl)
theorem dX0_fewest_24 : decode cX0_fewest 24 = .ok (.iastore, 1) := dk_79 (dk_at dksX0_fewest_1 0 rfl rfl)
theorem dX0_fewest_25 : decode cX0_fewest 25 = .ok (.iinc 1 1, 3) := dk_132 1 1 (dk_at dksX0_fewest_1 1 rfl rfl)
theorem dX0_fewest_28 : decode cX0_fewest 28 = .ok (.goto (-26), 3) := dk_167 255 230 (dk_at dksX0_fewest_1 4 rfl rfl)
theorem dX0_fewest_31 : decode cX0_fewest 31 = .ok (.bipush (-2), 2) := dk_16 254 (dk_at dksX0_fewest_1 7 rfl rfl)
theorem dX0_fewest_33 : decode cX0_fewest 33 = .ok (.istore_n 1, 1) := dk_60 (dk_at dksX0_fewest_1 9 rfl rfl)
theorem dX0_fewest_34 : decode cX0_fewest 34 = .ok (.iconst 0, 1) := dk_3 (dk_at dksX0_fewest_1 10 rfl rfl)
theorem dX0_fewest_35 : decode cX0_fewest 35 = .ok (.istore_n 2, 1) := dk_61 (dk_at dksX0_fewest_1 11 rfl rfl)
theorem dX0_fewest_36 : decode cX0_fewest 36 = .ok (.iload_n 2, 1) := dk_28 (dk_at dksX0_fewest_1 12 rfl rfl)
theorem dX0_fewest_37 : decode cX0_fewest 37 = .ok (.iconst 1, 1) := dk_4 (dk_at dksX0_fewest_1 13 rfl rfl)
theorem dX0_fewest_38 : decode cX0_fewest 38 = .ok (.aload_n 0, 1) := dk_42 (dk_at dksX0_fewest_1 14 rfl rfl)
theorem dX0_fewest_39 : decode cX0_fewest 39 = .ok (.getfield 87, 3) := dk_180 0 87 (dk_at dksX0_fewest_1 15 rfl rfl)
theorem dX0_fewest_42 : decode cX0_fewest 42 = .ok (.ishl, 1) := dk_120 (dk_at dksX0_fewest_1 18 rfl rfl)
theorem dX0_fewest_43 : decode cX0_fewest 43 = .ok (.if_icmp .ge 118, 3) := dk_162 0 118 (dk_at dksX0_fewest_1 19 rfl rfl)
theorem dX0_fewest_46 : decode cX0_fewest 46 = .ok (.iload_n 1, 1) := dk_27 (dk_at dksX0_fewest_1 22 rfl rfl)
theorem dX0_fewest_47 : decode cX0_fewest 47 = .ok (.ifCond .lt 17, 3) := dk_155 0 17 (dk_at dksX0_fewest_2 0 rfl rfl)
theorem dX0_fewest_50 : decode cX0_fewest 50 = .ok (.iload_n 2, 1) := dk_28 (dk_at dksX0_fewest_2 3 rfl rfl)
theorem dX0_fewest_51 : decode cX0_fewest 51 = .ok (.invokestatic 320, 3) := dk_184 1 64 (dk_at dksX0_fewest_2 4 rfl rfl)
theorem dX0_fewest_54 : decode cX0_fewest 54 = .ok (.iload_n 1, 1) := dk_27 (dk_at dksX0_fewest_2 7 rfl rfl)
theorem dX0_fewest_55 : decode cX0_fewest 55 = .ok (.invokestatic 320, 3) := dk_184 1 64 (dk_at dksX0_fewest_2 8 rfl rfl)
theorem dX0_fewest_58 : decode cX0_fewest 58 = .ok (.if_icmp .lt 6, 3) := dk_161 0 6 (dk_at dksX0_fewest_2 11 rfl rfl)
theorem dX0_fewest_61 : decode cX0_fewest 61 = .ok (.goto 94, 3) := dk_167 0 94 (dk_at dksX0_fewest_2 14 rfl rfl)
theorem dX0_fewest_64 : decode cX0_fewest 64 = .ok (.iconst 0, 1) := dk_3 (dk_at dksX0_fewest_2 17 rfl rfl)
theorem dX0_fewest_65 : decode cX0_fewest 65 = .ok (.istore_n 3, 1) := dk_62 (dk_at dksX0_fewest_2 18 rfl rfl)
theorem dX0_fewest_66 : decode cX0_fewest 66 = .ok (.iload_n 3, 1) := dk_29 (dk_at dksX0_fewest_2 19 rfl rfl)
theorem dX0_fewest_67 : decode cX0_fewest 67 = .ok (.aload_n 0, 1) := dk_42 (dk_at dksX0_fewest_2 20 rfl rfl)
theorem dX0_fewest_68 : decode cX0_fewest 68 = .ok (.getfield 87, 3) := dk_180 0 87 (dk_at dksX0_fewest_2 21 rfl rfl)
theorem dX0_fewest_71 : decode cX0_fewest 71 = .ok (.if_icmp .ge 37, 3) := dk_162 0 37 (dk_at dksX0_fewest_3 0 rfl rfl)
theorem dX0_fewest_74 : decode cX0_fewest 74 = .ok (.aload_n 0, 1) := dk_42 (dk_at dksX0_fewest_3 3 rfl rfl)
theorem dX0_fewest_75 : decode cX0_fewest 75 = .ok (.getfield 11, 3) := dk_180 0 11 (dk_at dksX0_fewest_3 4 rfl rfl)
theorem dX0_fewest_78 : decode cX0_fewest 78 = .ok (.iload_n 3, 1) := dk_29 (dk_at dksX0_fewest_3 7 rfl rfl)
theorem dX0_fewest_79 : decode cX0_fewest 79 = .ok (.aaload, 1) := dk_50 (dk_at dksX0_fewest_3 8 rfl rfl)
theorem dX0_fewest_80 : decode cX0_fewest 80 = .ok (.iload_n 2, 1) := dk_28 (dk_at dksX0_fewest_3 9 rfl rfl)
theorem dX0_fewest_81 : decode cX0_fewest 81 = .ok (.iload_n 3, 1) := dk_29 (dk_at dksX0_fewest_3 10 rfl rfl)
theorem dX0_fewest_82 : decode cX0_fewest 82 = .ok (.ishr, 1) := dk_122 (dk_at dksX0_fewest_3 11 rfl rfl)
theorem dX0_fewest_83 : decode cX0_fewest 83 = .ok (.iconst 1, 1) := dk_4 (dk_at dksX0_fewest_3 12 rfl rfl)
theorem dX0_fewest_84 : decode cX0_fewest 84 = .ok (.iand, 1) := dk_126 (dk_at dksX0_fewest_3 13 rfl rfl)
theorem dX0_fewest_85 : decode cX0_fewest 85 = .ok (.iconst 1, 1) := dk_4 (dk_at dksX0_fewest_3 14 rfl rfl)
theorem dX0_fewest_86 : decode cX0_fewest 86 = .ok (.if_icmp .ne 12, 3) := dk_160 0 12 (dk_at dksX0_fewest_3 15 rfl rfl)
theorem dX0_fewest_89 : decode cX0_fewest 89 = .ok (.aload_n 0, 1) := dk_42 (dk_at dksX0_fewest_3 18 rfl rfl)
theorem dX0_fewest_90 : decode cX0_fewest 90 = .ok (.getfield 60, 3) := dk_180 0 60 (dk_at dksX0_fewest_3 19 rfl rfl)
theorem dX0_fewest_93 : decode cX0_fewest 93 = .ok (.iload_n 3, 1) := dk_29 (dk_at dksX0_fewest_3 22 rfl rfl)
theorem dX0_fewest_94 : decode cX0_fewest 94 = .ok (.iaload, 1) := dk_46 (dk_at dksX0_fewest_3 23 rfl rfl)
theorem dX0_fewest_95 : decode cX0_fewest 95 = .ok (.goto 4, 3) := dk_167 0 4 (dk_at dksX0_fewest_4 0 rfl rfl)
theorem dX0_fewest_98 : decode cX0_fewest 98 = .ok (.iconst 0, 1) := dk_3 (dk_at dksX0_fewest_4 3 rfl rfl)
theorem dX0_fewest_99 : decode cX0_fewest 99 = .ok (.putfield 155, 3) := dk_181 0 155 (dk_at dksX0_fewest_4 4 rfl rfl)
theorem dX0_fewest_102 : decode cX0_fewest 102 = .ok (.iinc 3 1, 3) := dk_132 3 1 (dk_at dksX0_fewest_4 7 rfl rfl)
theorem dX0_fewest_105 : decode cX0_fewest 105 = .ok (.goto (-39), 3) := dk_167 255 217 (dk_at dksX0_fewest_4 10 rfl rfl)
theorem dX0_fewest_108 : decode cX0_fewest 108 = .ok (.aload_n 0, 1) := dk_42 (dk_at dksX0_fewest_4 13 rfl rfl)
theorem dX0_fewest_109 : decode cX0_fewest 109 = .ok (.invokevirtual 269, 3) := dk_182 1 13 (dk_at dksX0_fewest_4 14 rfl rfl)
theorem dX0_fewest_112 : decode cX0_fewest 112 = .ok (.iconst 1, 1) := dk_4 (dk_at dksX0_fewest_4 17 rfl rfl)
theorem dX0_fewest_113 : decode cX0_fewest 113 = .ok (.istore_n 3, 1) := dk_62 (dk_at dksX0_fewest_4 18 rfl rfl)
theorem dX0_fewest_114 : decode cX0_fewest 114 = .ok (.iconst 0, 1) := dk_3 (dk_at dksX0_fewest_4 19 rfl rfl)
theorem dX0_fewest_115 : decode cX0_fewest 115 = .ok (.istore 4, 2) := dk_54 4 (dk_at dksX0_fewest_4 20 rfl rfl)
theorem dX0_fewest_117 : decode cX0_fewest 117 = .ok (.iload 4, 2) := dk_21 4 (dk_at dksX0_fewest_4 22 rfl rfl)
theorem dX0_fewest_119 : decode cX0_fewest 119 = .ok (.aload_n 0, 1) := dk_42 (dk_at dksX0_fewest_5 0 rfl rfl)
theorem dX0_fewest_120 : decode cX0_fewest 120 = .ok (.getfield 87, 3) := dk_180 0 87 (dk_at dksX0_fewest_5 1 rfl rfl)
theorem dX0_fewest_123 : decode cX0_fewest 123 = .ok (.if_icmp .ge 26, 3) := dk_162 0 26 (dk_at dksX0_fewest_5 4 rfl rfl)
theorem dX0_fewest_126 : decode cX0_fewest 126 = .ok (.iload_n 3, 1) := dk_29 (dk_at dksX0_fewest_5 7 rfl rfl)
theorem dX0_fewest_127 : decode cX0_fewest 127 = .ok (.aload_n 0, 1) := dk_42 (dk_at dksX0_fewest_5 8 rfl rfl)
theorem dX0_fewest_128 : decode cX0_fewest 128 = .ok (.iload 4, 2) := dk_21 4 (dk_at dksX0_fewest_5 9 rfl rfl)
theorem dX0_fewest_130 : decode cX0_fewest 130 = .ok (.invokevirtual 262, 3) := dk_182 1 6 (dk_at dksX0_fewest_5 11 rfl rfl)
theorem dX0_fewest_133 : decode cX0_fewest 133 = .ok (.ifCond .lt 7, 3) := dk_155 0 7 (dk_at dksX0_fewest_5 14 rfl rfl)
theorem dX0_fewest_136 : decode cX0_fewest 136 = .ok (.iconst 1, 1) := dk_4 (dk_at dksX0_fewest_5 17 rfl rfl)
theorem dX0_fewest_137 : decode cX0_fewest 137 = .ok (.goto 4, 3) := dk_167 0 4 (dk_at dksX0_fewest_5 18 rfl rfl)
theorem dX0_fewest_140 : decode cX0_fewest 140 = .ok (.iconst 0, 1) := dk_3 (dk_at dksX0_fewest_5 21 rfl rfl)
theorem dX0_fewest_141 : decode cX0_fewest 141 = .ok (.iand, 1) := dk_126 (dk_at dksX0_fewest_5 22 rfl rfl)
theorem dX0_fewest_142 : decode cX0_fewest 142 = .ok (.istore_n 3, 1) := dk_62 (dk_at dksX0_fewest_5 23 rfl rfl)
theorem dX0_fewest_143 : decode cX0_fewest 143 = .ok (.iinc 4 1, 3) := dk_132 4 1 (dk_at dksX0_fewest_6 0 rfl rfl)
theorem dX0_fewest_146 : decode cX0_fewest 146 = .ok (.goto (-29), 3) := dk_167 255 227 (dk_at dksX0_fewest_6 3 rfl rfl)
theorem dX0_fewest_149 : decode cX0_fewest 149 = .ok (.iload_n 3, 1) := dk_29 (dk_at dksX0_fewest_6 6 rfl rfl)
theorem dX0_fewest_150 : decode cX0_fewest 150 = .ok (.ifCond .eq 5, 3) := dk_153 0 5 (dk_at dksX0_fewest_6 7 rfl rfl)
theorem dX0_fewest_153 : decode cX0_fewest 153 = .ok (.iload_n 2, 1) := dk_28 (dk_at dksX0_fewest_6 10 rfl rfl)
theorem dX0_fewest_154 : decode cX0_fewest 154 = .ok (.istore_n 1, 1) := dk_60 (dk_at dksX0_fewest_6 11 rfl rfl)
theorem dX0_fewest_155 : decode cX0_fewest 155 = .ok (.iinc 2 1, 3) := dk_132 2 1 (dk_at dksX0_fewest_6 12 rfl rfl)
theorem dX0_fewest_158 : decode cX0_fewest 158 = .ok (.goto (-122), 3) := dk_167 255 134 (dk_at dksX0_fewest_6 15 rfl rfl)
theorem dX0_fewest_161 : decode cX0_fewest 161 = .ok (.iconst 0, 1) := dk_3 (dk_at dksX0_fewest_6 18 rfl rfl)
theorem dX0_fewest_162 : decode cX0_fewest 162 = .ok (.istore_n 2, 1) := dk_61 (dk_at dksX0_fewest_6 19 rfl rfl)
theorem dX0_fewest_163 : decode cX0_fewest 163 = .ok (.iload_n 2, 1) := dk_28 (dk_at dksX0_fewest_6 20 rfl rfl)
theorem dX0_fewest_164 : decode cX0_fewest 164 = .ok (.aload_n 0, 1) := dk_42 (dk_at dksX0_fewest_6 21 rfl rfl)
theorem dX0_fewest_165 : decode cX0_fewest 165 = .ok (.getfield 87, 3) := dk_180 0 87 (dk_at dksX0_fewest_7 0 rfl rfl)
theorem dX0_fewest_168 : decode cX0_fewest 168 = .ok (.if_icmp .ge 24, 3) := dk_162 0 24 (dk_at dksX0_fewest_7 3 rfl rfl)
theorem dX0_fewest_171 : decode cX0_fewest 171 = .ok (.aload_n 0, 1) := dk_42 (dk_at dksX0_fewest_7 6 rfl rfl)
theorem dX0_fewest_172 : decode cX0_fewest 172 = .ok (.getfield 11, 3) := dk_180 0 11 (dk_at dksX0_fewest_7 7 rfl rfl)
theorem dX0_fewest_175 : decode cX0_fewest 175 = .ok (.iload_n 2, 1) := dk_28 (dk_at dksX0_fewest_7 10 rfl rfl)
theorem dX0_fewest_176 : decode cX0_fewest 176 = .ok (.aaload, 1) := dk_50 (dk_at dksX0_fewest_7 11 rfl rfl)
theorem dX0_fewest_177 : decode cX0_fewest 177 = .ok (.aload_n 0, 1) := dk_42 (dk_at dksX0_fewest_7 12 rfl rfl)
theorem dX0_fewest_178 : decode cX0_fewest 178 = .ok (.getfield 60, 3) := dk_180 0 60 (dk_at dksX0_fewest_7 13 rfl rfl)
theorem dX0_fewest_181 : decode cX0_fewest 181 = .ok (.iload_n 2, 1) := dk_28 (dk_at dksX0_fewest_7 16 rfl rfl)
theorem dX0_fewest_182 : decode cX0_fewest 182 = .ok (.iaload, 1) := dk_46 (dk_at dksX0_fewest_7 17 rfl rfl)
theorem dX0_fewest_183 : decode cX0_fewest 183 = .ok (.putfield 155, 3) := dk_181 0 155 (dk_at dksX0_fewest_7 18 rfl rfl)
theorem dX0_fewest_186 : decode cX0_fewest 186 = .ok (.iinc 2 1, 3) := dk_132 2 1 (dk_at dksX0_fewest_7 21 rfl rfl)
theorem dX0_fewest_189 : decode cX0_fewest 189 = .ok (.goto (-26), 3) := dk_167 255 230 (dk_at dksX0_fewest_8 0 rfl rfl)
theorem dX0_fewest_192 : decode cX0_fewest 192 = .ok (.iload_n 1, 1) := dk_27 (dk_at dksX0_fewest_8 3 rfl rfl)
theorem dX0_fewest_193 : decode cX0_fewest 193 = .ok (.ireturn, 1) := dk_172 (dk_at dksX0_fewest_8 4 rfl rfl)
abbrev cX0_least : ByteArray := prog_1_method_52_code
def yX0_least : MethodName := ⟨RX0, "least", "(I)I"⟩
def dkwX0_least_2 : List UInt8 := [172]
abbrev dktX0_least_2 : List UInt8 := dkwX0_least_2 ++ []
def dkwX0_least_1 : List UInt8 := [29, 182, 0, 255, 27, 182, 0, 242, 158, 0, 9, 28, 4, 29, 120, 128, 61, 132, 3, 1, 167, 255, 226, 28]
abbrev dktX0_least_1 : List UInt8 := dkwX0_least_1 ++ dktX0_least_2
def dkwX0_least_0 : List UInt8 := [42, 27, 182, 0, 146, 154, 0, 5, 2, 172, 3, 61, 3, 62, 29, 42, 180, 0, 95, 162, 0, 28, 42, 42]
abbrev dktX0_least_0 : List UInt8 := dkwX0_least_0 ++ dktX0_least_1
theorem dksX0_least_0 : cX0_least.data.toList.drop 0 = dktX0_least_0 := by decide +kernel
theorem dksX0_least_1 : cX0_least.data.toList.drop 24 = dktX0_least_1 := dk_seg dksX0_least_0 24 rfl rfl
theorem dksX0_least_2 : cX0_least.data.toList.drop 48 = dktX0_least_2 := dk_seg dksX0_least_1 24 rfl rfl
theorem dX0_least_0 : decode cX0_least 0 = .ok (.aload_n 0, 1) := dk_42 (dk_at dksX0_least_0 0 rfl rfl)
theorem dX0_least_1 : decode cX0_least 1 = .ok (.iload_n 1, 1) := dk_27 (dk_at dksX0_least_0 1 rfl rfl)
theorem dX0_least_2 : decode cX0_least 2 = .ok (.invokevirtual 146, 3) := dk_182 0 146 (dk_at dksX0_least_0 2 rfl rfl)
theorem dX0_least_5 : decode cX0_least 5 = .ok (.ifCond .ne 5, 3) := dk_154 0 5 (dk_at dksX0_least_0 5 rfl rfl)
theorem dX0_least_8 : decode cX0_least 8 = .ok (.iconst (-1), 1) := dk_2 (dk_at dksX0_least_0 8 rfl rfl)
theorem dX0_least_9 : decode cX0_least 9 = .ok (.ireturn, 1) := dk_172 (dk_at dksX0_least_0 9 rfl rfl)
theorem dX0_least_10 : decode cX0_least 10 = .ok (.iconst 0, 1) := dk_3 (dk_at dksX0_least_0 10 rfl rfl)
theorem dX0_least_11 : decode cX0_least 11 = .ok (.istore_n 2, 1) := dk_61 (dk_at dksX0_least_0 11 rfl rfl)
theorem dX0_least_12 : decode cX0_least 12 = .ok (.iconst 0, 1) := dk_3 (dk_at dksX0_least_0 12 rfl rfl)
theorem dX0_least_13 : decode cX0_least 13 = .ok (.istore_n 3, 1) := dk_62 (dk_at dksX0_least_0 13 rfl rfl)
theorem dX0_least_14 : decode cX0_least 14 = .ok (.iload_n 3, 1) := dk_29 (dk_at dksX0_least_0 14 rfl rfl)
theorem dX0_least_15 : decode cX0_least 15 = .ok (.aload_n 0, 1) := dk_42 (dk_at dksX0_least_0 15 rfl rfl)
theorem dX0_least_16 : decode cX0_least 16 = .ok (.getfield 95, 3) := dk_180 0 95 (dk_at dksX0_least_0 16 rfl rfl)
theorem dX0_least_19 : decode cX0_least 19 = .ok (.if_icmp .ge 28, 3) := dk_162 0 28 (dk_at dksX0_least_0 19 rfl rfl)
theorem dX0_least_22 : decode cX0_least 22 = .ok (.aload_n 0, 1) := dk_42 (dk_at dksX0_least_0 22 rfl rfl)
theorem dX0_least_23 : decode cX0_least 23 = .ok (.aload_n 0, 1) := dk_42 (dk_at dksX0_least_0 23 rfl rfl)
theorem dX0_least_24 : decode cX0_least 24 = .ok (.iload_n 3, 1) := dk_29 (dk_at dksX0_least_1 0 rfl rfl)
theorem dX0_least_25 : decode cX0_least 25 = .ok (.invokevirtual 255, 3) := dk_182 0 255 (dk_at dksX0_least_1 1 rfl rfl)
theorem dX0_least_28 : decode cX0_least 28 = .ok (.iload_n 1, 1) := dk_27 (dk_at dksX0_least_1 4 rfl rfl)
theorem dX0_least_29 : decode cX0_least 29 = .ok (.invokevirtual 242, 3) := dk_182 0 242 (dk_at dksX0_least_1 5 rfl rfl)
theorem dX0_least_32 : decode cX0_least 32 = .ok (.ifCond .le 9, 3) := dk_158 0 9 (dk_at dksX0_least_1 8 rfl rfl)
theorem dX0_least_35 : decode cX0_least 35 = .ok (.iload_n 2, 1) := dk_28 (dk_at dksX0_least_1 11 rfl rfl)
theorem dX0_least_36 : decode cX0_least 36 = .ok (.iconst 1, 1) := dk_4 (dk_at dksX0_least_1 12 rfl rfl)
theorem dX0_least_37 : decode cX0_least 37 = .ok (.iload_n 3, 1) := dk_29 (dk_at dksX0_least_1 13 rfl rfl)
theorem dX0_least_38 : decode cX0_least 38 = .ok (.ishl, 1) := dk_120 (dk_at dksX0_least_1 14 rfl rfl)
theorem dX0_least_39 : decode cX0_least 39 = .ok (.ior, 1) := dk_128 (dk_at dksX0_least_1 15 rfl rfl)
theorem dX0_least_40 : decode cX0_least 40 = .ok (.istore_n 2, 1) := dk_61 (dk_at dksX0_least_1 16 rfl rfl)
theorem dX0_least_41 : decode cX0_least 41 = .ok (.iinc 3 1, 3) := dk_132 3 1 (dk_at dksX0_least_1 17 rfl rfl)
theorem dX0_least_44 : decode cX0_least 44 = .ok (.goto (-30), 3) := dk_167 255 226 (dk_at dksX0_least_1 20 rfl rfl)
theorem dX0_least_47 : decode cX0_least 47 = .ok (.iload_n 2, 1) := dk_28 (dk_at dksX0_least_1 23 rfl rfl)
theorem dX0_least_48 : decode cX0_least 48 = .ok (.ireturn, 1) := dk_172 (dk_at dksX0_least_2 0 rfl rfl)
abbrev cX0_months : ByteArray := prog_1_method_53_code
def yX0_months : MethodName := ⟨RX0, "months", "(IIII)I"⟩
def dkwX0_months_6 : List UInt8 := [132, 9, 1, 167, 255, 180, 21, 4, 154, 0, 8, 21, 6, 167, 0, 8, 21, 7, 21, 8, 96, 172]
abbrev dktX0_months_6 : List UInt8 := dkwX0_months_6 ++ []
def dkwX0_months_5 : List UInt8 := [21, 6, 42, 180, 0, 44, 21, 12, 46, 96, 54, 6, 21, 11, 42, 180, 0, 51, 21, 12, 46, 100, 54, 8]
abbrev dktX0_months_5 : List UInt8 := dkwX0_months_5 ++ dktX0_months_6
def dkwX0_months_4 : List UInt8 := [182, 0, 136, 21, 8, 96, 21, 10, 100, 54, 11, 42, 25, 5, 180, 0, 133, 21, 11, 182, 0, 252, 54, 12]
abbrev dktX0_months_4 : List UInt8 := dkwX0_months_4 ++ dktX0_months_5
def dkwX0_months_3 : List UInt8 := [162, 0, 76, 3, 21, 8, 29, 100, 184, 0, 232, 54, 10, 21, 7, 21, 10, 96, 54, 7, 25, 5]
abbrev dktX0_months_3 : List UInt8 := dkwX0_months_3 ++ dktX0_months_4
def dkwX0_months_2 : List UInt8 := [58, 5, 42, 27, 182, 0, 248, 3, 54, 6, 3, 54, 7, 3, 54, 8, 3, 54, 9, 21, 9, 28]
abbrev dktX0_months_2 : List UInt8 := dkwX0_months_2 ++ dktX0_months_3
def dkwX0_months_1 : List UInt8 := [184, 0, 91, 153, 0, 13, 21, 4, 3, 4, 184, 0, 91, 154, 0, 5, 2, 172, 42, 180, 0, 17, 27, 50]
abbrev dktX0_months_1 : List UInt8 := dkwX0_months_1 ++ dktX0_months_2
def dkwX0_months_0 : List UInt8 := [42, 27, 182, 0, 127, 153, 0, 33, 28, 4, 16, 12, 184, 0, 91, 153, 0, 23, 29, 3, 16, 99]
abbrev dktX0_months_0 : List UInt8 := dkwX0_months_0 ++ dktX0_months_1
theorem dksX0_months_0 : cX0_months.data.toList.drop 0 = dktX0_months_0 := by decide +kernel
theorem dksX0_months_1 : cX0_months.data.toList.drop 22 = dktX0_months_1 := dk_seg dksX0_months_0 22 rfl rfl
theorem dksX0_months_2 : cX0_months.data.toList.drop 46 = dktX0_months_2 := dk_seg dksX0_months_1 24 rfl rfl
theorem dksX0_months_3 : cX0_months.data.toList.drop 68 = dktX0_months_3 := dk_seg dksX0_months_2 22 rfl rfl
theorem dksX0_months_4 : cX0_months.data.toList.drop 90 = dktX0_months_4 := dk_seg dksX0_months_3 22 rfl rfl
theorem dksX0_months_5 : cX0_months.data.toList.drop 114 = dktX0_months_5 := dk_seg dksX0_months_4 24 rfl rfl
theorem dksX0_months_6 : cX0_months.data.toList.drop 138 = dktX0_months_6 := dk_seg dksX0_months_5 24 rfl rfl
theorem dX0_months_0 : decode cX0_months 0 = .ok (.aload_n 0, 1) := dk_42 (dk_at dksX0_months_0 0 rfl rfl)
theorem dX0_months_1 : decode cX0_months 1 = .ok (.iload_n 1, 1) := dk_27 (dk_at dksX0_months_0 1 rfl rfl)
theorem dX0_months_2 : decode cX0_months 2 = .ok (.invokevirtual 127, 3) := dk_182 0 127 (dk_at dksX0_months_0 2 rfl rfl)
theorem dX0_months_5 : decode cX0_months 5 = .ok (.ifCond .eq 33, 3) := dk_153 0 33 (dk_at dksX0_months_0 5 rfl rfl)
theorem dX0_months_8 : decode cX0_months 8 = .ok (.iload_n 2, 1) := dk_28 (dk_at dksX0_months_0 8 rfl rfl)
theorem dX0_months_9 : decode cX0_months 9 = .ok (.iconst 1, 1) := dk_4 (dk_at dksX0_months_0 9 rfl rfl)
theorem dX0_months_10 : decode cX0_months 10 = .ok (.bipush 12, 2) := dk_16 12 (dk_at dksX0_months_0 10 rfl rfl)
theorem dX0_months_12 : decode cX0_months 12 = .ok (.invokestatic 91, 3) := dk_184 0 91 (dk_at dksX0_months_0 12 rfl rfl)
theorem dX0_months_15 : decode cX0_months 15 = .ok (.ifCond .eq 23, 3) := dk_153 0 23 (dk_at dksX0_months_0 15 rfl rfl)
theorem dX0_months_18 : decode cX0_months 18 = .ok (.iload_n 3, 1) := dk_29 (dk_at dksX0_months_0 18 rfl rfl)
theorem dX0_months_19 : decode cX0_months 19 = .ok (.iconst 0, 1) := dk_3 (dk_at dksX0_months_0 19 rfl rfl)
theorem dX0_months_20 : decode cX0_months 20 = .ok (.bipush 99, 2) := dk_16 99 (dk_at dksX0_months_0 20 rfl rfl)
theorem dX0_months_22 : decode cX0_months 22 = .ok (.invokestatic 91, 3) := dk_184 0 91 (dk_at dksX0_months_1 0 rfl rfl)
theorem dX0_months_25 : decode cX0_months 25 = .ok (.ifCond .eq 13, 3) := dk_153 0 13 (dk_at dksX0_months_1 3 rfl rfl)
theorem dX0_months_28 : decode cX0_months 28 = .ok (.iload 4, 2) := dk_21 4 (dk_at dksX0_months_1 6 rfl rfl)
theorem dX0_months_30 : decode cX0_months 30 = .ok (.iconst 0, 1) := dk_3 (dk_at dksX0_months_1 8 rfl rfl)
theorem dX0_months_31 : decode cX0_months 31 = .ok (.iconst 1, 1) := dk_4 (dk_at dksX0_months_1 9 rfl rfl)
theorem dX0_months_32 : decode cX0_months 32 = .ok (.invokestatic 91, 3) := dk_184 0 91 (dk_at dksX0_months_1 10 rfl rfl)
theorem dX0_months_35 : decode cX0_months 35 = .ok (.ifCond .ne 5, 3) := dk_154 0 5 (dk_at dksX0_months_1 13 rfl rfl)
theorem dX0_months_38 : decode cX0_months 38 = .ok (.iconst (-1), 1) := dk_2 (dk_at dksX0_months_1 16 rfl rfl)
theorem dX0_months_39 : decode cX0_months 39 = .ok (.ireturn, 1) := dk_172 (dk_at dksX0_months_1 17 rfl rfl)
theorem dX0_months_40 : decode cX0_months 40 = .ok (.aload_n 0, 1) := dk_42 (dk_at dksX0_months_1 18 rfl rfl)
theorem dX0_months_41 : decode cX0_months 41 = .ok (.getfield 17, 3) := dk_180 0 17 (dk_at dksX0_months_1 19 rfl rfl)
theorem dX0_months_44 : decode cX0_months 44 = .ok (.iload_n 1, 1) := dk_27 (dk_at dksX0_months_1 22 rfl rfl)
theorem dX0_months_45 : decode cX0_months 45 = .ok (.aaload, 1) := dk_50 (dk_at dksX0_months_1 23 rfl rfl)
theorem dX0_months_46 : decode cX0_months 46 = .ok (.astore 5, 2) := dk_58 5 (dk_at dksX0_months_2 0 rfl rfl)
theorem dX0_months_48 : decode cX0_months 48 = .ok (.aload_n 0, 1) := dk_42 (dk_at dksX0_months_2 2 rfl rfl)
theorem dX0_months_49 : decode cX0_months 49 = .ok (.iload_n 1, 1) := dk_27 (dk_at dksX0_months_2 3 rfl rfl)
theorem dX0_months_50 : decode cX0_months 50 = .ok (.invokevirtual 248, 3) := dk_182 0 248 (dk_at dksX0_months_2 4 rfl rfl)
theorem dX0_months_53 : decode cX0_months 53 = .ok (.iconst 0, 1) := dk_3 (dk_at dksX0_months_2 7 rfl rfl)
theorem dX0_months_54 : decode cX0_months 54 = .ok (.istore 6, 2) := dk_54 6 (dk_at dksX0_months_2 8 rfl rfl)
theorem dX0_months_56 : decode cX0_months 56 = .ok (.iconst 0, 1) := dk_3 (dk_at dksX0_months_2 10 rfl rfl)
theorem dX0_months_57 : decode cX0_months 57 = .ok (.istore 7, 2) := dk_54 7 (dk_at dksX0_months_2 11 rfl rfl)
theorem dX0_months_59 : decode cX0_months 59 = .ok (.iconst 0, 1) := dk_3 (dk_at dksX0_months_2 13 rfl rfl)
theorem dX0_months_60 : decode cX0_months 60 = .ok (.istore 8, 2) := dk_54 8 (dk_at dksX0_months_2 14 rfl rfl)
theorem dX0_months_62 : decode cX0_months 62 = .ok (.iconst 0, 1) := dk_3 (dk_at dksX0_months_2 16 rfl rfl)
theorem dX0_months_63 : decode cX0_months 63 = .ok (.istore 9, 2) := dk_54 9 (dk_at dksX0_months_2 17 rfl rfl)
theorem dX0_months_65 : decode cX0_months 65 = .ok (.iload 9, 2) := dk_21 9 (dk_at dksX0_months_2 19 rfl rfl)
theorem dX0_months_67 : decode cX0_months 67 = .ok (.iload_n 2, 1) := dk_28 (dk_at dksX0_months_2 21 rfl rfl)
theorem dX0_months_68 : decode cX0_months 68 = .ok (.if_icmp .ge 76, 3) := dk_162 0 76 (dk_at dksX0_months_3 0 rfl rfl)
theorem dX0_months_71 : decode cX0_months 71 = .ok (.iconst 0, 1) := dk_3 (dk_at dksX0_months_3 3 rfl rfl)
theorem dX0_months_72 : decode cX0_months 72 = .ok (.iload 8, 2) := dk_21 8 (dk_at dksX0_months_3 4 rfl rfl)
theorem dX0_months_74 : decode cX0_months 74 = .ok (.iload_n 3, 1) := dk_29 (dk_at dksX0_months_3 6 rfl rfl)
theorem dX0_months_75 : decode cX0_months 75 = .ok (.isub, 1) := dk_100 (dk_at dksX0_months_3 7 rfl rfl)
theorem dX0_months_76 : decode cX0_months 76 = .ok (.invokestatic 232, 3) := dk_184 0 232 (dk_at dksX0_months_3 8 rfl rfl)
theorem dX0_months_79 : decode cX0_months 79 = .ok (.istore 10, 2) := dk_54 10 (dk_at dksX0_months_3 11 rfl rfl)
theorem dX0_months_81 : decode cX0_months 81 = .ok (.iload 7, 2) := dk_21 7 (dk_at dksX0_months_3 13 rfl rfl)
theorem dX0_months_83 : decode cX0_months 83 = .ok (.iload 10, 2) := dk_21 10 (dk_at dksX0_months_3 15 rfl rfl)
theorem dX0_months_85 : decode cX0_months 85 = .ok (.iadd, 1) := dk_96 (dk_at dksX0_months_3 17 rfl rfl)
theorem dX0_months_86 : decode cX0_months 86 = .ok (.istore 7, 2) := dk_54 7 (dk_at dksX0_months_3 18 rfl rfl)
theorem dX0_months_88 : decode cX0_months 88 = .ok (.aload 5, 2) := dk_25 5 (dk_at dksX0_months_3 20 rfl rfl)
theorem dX0_months_90 : decode cX0_months 90 = .ok (.invokevirtual 136, 3) := dk_182 0 136 (dk_at dksX0_months_4 0 rfl rfl)
theorem dX0_months_93 : decode cX0_months 93 = .ok (.iload 8, 2) := dk_21 8 (dk_at dksX0_months_4 3 rfl rfl)
theorem dX0_months_95 : decode cX0_months 95 = .ok (.iadd, 1) := dk_96 (dk_at dksX0_months_4 5 rfl rfl)
theorem dX0_months_96 : decode cX0_months 96 = .ok (.iload 10, 2) := dk_21 10 (dk_at dksX0_months_4 6 rfl rfl)
theorem dX0_months_98 : decode cX0_months 98 = .ok (.isub, 1) := dk_100 (dk_at dksX0_months_4 8 rfl rfl)
theorem dX0_months_99 : decode cX0_months 99 = .ok (.istore 11, 2) := dk_54 11 (dk_at dksX0_months_4 9 rfl rfl)
theorem dX0_months_101 : decode cX0_months 101 = .ok (.aload_n 0, 1) := dk_42 (dk_at dksX0_months_4 11 rfl rfl)
theorem dX0_months_102 : decode cX0_months 102 = .ok (.aload 5, 2) := dk_25 5 (dk_at dksX0_months_4 12 rfl rfl)
theorem dX0_months_104 : decode cX0_months 104 = .ok (.getfield 133, 3) := dk_180 0 133 (dk_at dksX0_months_4 14 rfl rfl)
theorem dX0_months_107 : decode cX0_months 107 = .ok (.iload 11, 2) := dk_21 11 (dk_at dksX0_months_4 17 rfl rfl)
theorem dX0_months_109 : decode cX0_months 109 = .ok (.invokevirtual 252, 3) := dk_182 0 252 (dk_at dksX0_months_4 19 rfl rfl)
theorem dX0_months_112 : decode cX0_months 112 = .ok (.istore 12, 2) := dk_54 12 (dk_at dksX0_months_4 22 rfl rfl)
theorem dX0_months_114 : decode cX0_months 114 = .ok (.iload 6, 2) := dk_21 6 (dk_at dksX0_months_5 0 rfl rfl)
theorem dX0_months_116 : decode cX0_months 116 = .ok (.aload_n 0, 1) := dk_42 (dk_at dksX0_months_5 2 rfl rfl)
theorem dX0_months_117 : decode cX0_months 117 = .ok (.getfield 44, 3) := dk_180 0 44 (dk_at dksX0_months_5 3 rfl rfl)
theorem dX0_months_120 : decode cX0_months 120 = .ok (.iload 12, 2) := dk_21 12 (dk_at dksX0_months_5 6 rfl rfl)
theorem dX0_months_122 : decode cX0_months 122 = .ok (.iaload, 1) := dk_46 (dk_at dksX0_months_5 8 rfl rfl)
theorem dX0_months_123 : decode cX0_months 123 = .ok (.iadd, 1) := dk_96 (dk_at dksX0_months_5 9 rfl rfl)
theorem dX0_months_124 : decode cX0_months 124 = .ok (.istore 6, 2) := dk_54 6 (dk_at dksX0_months_5 10 rfl rfl)
theorem dX0_months_126 : decode cX0_months 126 = .ok (.iload 11, 2) := dk_21 11 (dk_at dksX0_months_5 12 rfl rfl)
theorem dX0_months_128 : decode cX0_months 128 = .ok (.aload_n 0, 1) := dk_42 (dk_at dksX0_months_5 14 rfl rfl)
theorem dX0_months_129 : decode cX0_months 129 = .ok (.getfield 51, 3) := dk_180 0 51 (dk_at dksX0_months_5 15 rfl rfl)
theorem dX0_months_132 : decode cX0_months 132 = .ok (.iload 12, 2) := dk_21 12 (dk_at dksX0_months_5 18 rfl rfl)
theorem dX0_months_134 : decode cX0_months 134 = .ok (.iaload, 1) := dk_46 (dk_at dksX0_months_5 20 rfl rfl)
theorem dX0_months_135 : decode cX0_months 135 = .ok (.isub, 1) := dk_100 (dk_at dksX0_months_5 21 rfl rfl)
theorem dX0_months_136 : decode cX0_months 136 = .ok (.istore 8, 2) := dk_54 8 (dk_at dksX0_months_5 22 rfl rfl)
theorem dX0_months_138 : decode cX0_months 138 = .ok (.iinc 9 1, 3) := dk_132 9 1 (dk_at dksX0_months_6 0 rfl rfl)
theorem dX0_months_141 : decode cX0_months 141 = .ok (.goto (-76), 3) := dk_167 255 180 (dk_at dksX0_months_6 3 rfl rfl)
theorem dX0_months_144 : decode cX0_months 144 = .ok (.iload 4, 2) := dk_21 4 (dk_at dksX0_months_6 6 rfl rfl)
theorem dX0_months_146 : decode cX0_months 146 = .ok (.ifCond .ne 8, 3) := dk_154 0 8 (dk_at dksX0_months_6 8 rfl rfl)
theorem dX0_months_149 : decode cX0_months 149 = .ok (.iload 6, 2) := dk_21 6 (dk_at dksX0_months_6 11 rfl rfl)
theorem dX0_months_151 : decode cX0_months 151 = .ok (.goto 8, 3) := dk_167 0 8 (dk_at dksX0_months_6 13 rfl rfl)
theorem dX0_months_154 : decode cX0_months 154 = .ok (.iload 7, 2) := dk_21 7 (dk_at dksX0_months_6 16 rfl rfl)
theorem dX0_months_156 : decode cX0_months 156 = .ok (.iload 8, 2) := dk_21 8 (dk_at dksX0_months_6 18 rfl rfl)
theorem dX0_months_158 : decode cX0_months 158 = .ok (.iadd, 1) := dk_96 (dk_at dksX0_months_6 20 rfl rfl)
theorem dX0_months_159 : decode cX0_months 159 = .ok (.ireturn, 1) := dk_172 (dk_at dksX0_months_6 21 rfl rfl)
abbrev cX0_foresight : ByteArray := prog_1_method_54_code
def yX0_foresight : MethodName := ⟨RX0, "foresight", "(I)I"⟩
def dkwX0_foresight_9 : List UInt8 := [184, 0, 232, 54, 5, 132, 6, 1, 167, 255, 219, 21, 5, 5, 29, 104, 100, 172]
abbrev dktX0_foresight_9 : List UInt8 := dkwX0_foresight_9 ++ []
def dkwX0_foresight_8 : List UInt8 := [163, 0, 34, 21, 5, 42, 180, 0, 69, 21, 6, 46, 42, 180, 0, 69, 21, 4, 21, 6, 100, 46, 96]
abbrev dktX0_foresight_8 : List UInt8 := dkwX0_foresight_8 ++ dktX0_foresight_9
def dkwX0_foresight_7 : List UInt8 := [46, 184, 0, 232, 79, 132, 5, 1, 167, 255, 220, 3, 54, 5, 3, 54, 6, 21, 6, 44, 182, 0, 136]
abbrev dktX0_foresight_7 : List UInt8 := dkwX0_foresight_7 ++ dktX0_foresight_8
def dkwX0_foresight_6 : List UInt8 := [163, 0, 35, 42, 180, 0, 69, 21, 5, 42, 180, 0, 69, 21, 5, 46, 42, 180, 0, 69, 21, 5, 4, 100]
abbrev dktX0_foresight_6 : List UInt8 := dkwX0_foresight_6 ++ dktX0_foresight_7
def dkwX0_foresight_5 : List UInt8 := [180, 0, 44, 21, 5, 46, 184, 0, 232, 79, 132, 5, 1, 167, 255, 184, 4, 54, 5, 21, 5, 21, 4]
abbrev dktX0_foresight_5 : List UInt8 := dkwX0_foresight_5 ++ dktX0_foresight_6
def dkwX0_foresight_4 : List UInt8 := [180, 0, 69, 42, 180, 0, 51, 21, 5, 46, 42, 180, 0, 69, 42, 180, 0, 51, 21, 5, 46, 46, 42]
abbrev dktX0_foresight_4 : List UInt8 := dkwX0_foresight_4 ++ dktX0_foresight_5
def dkwX0_foresight_3 : List UInt8 := [21, 5, 46, 44, 180, 0, 133, 163, 0, 49, 42, 180, 0, 51, 21, 5, 46, 21, 4, 163, 0, 37, 42]
abbrev dktX0_foresight_3 : List UInt8 := dkwX0_foresight_3 ++ dktX0_foresight_4
def dkwX0_foresight_2 : List UInt8 := [79, 132, 5, 1, 167, 255, 238, 3, 54, 5, 21, 5, 42, 182, 0, 245, 162, 0, 69, 42, 180, 0, 48]
abbrev dktX0_foresight_2 : List UInt8 := dkwX0_foresight_2 ++ dktX0_foresight_3
def dkwX0_foresight_1 : List UInt8 := [44, 182, 0, 136, 104, 54, 4, 3, 54, 5, 21, 5, 21, 4, 163, 0, 17, 42, 180, 0, 69, 21, 5, 3]
abbrev dktX0_foresight_1 : List UInt8 := dkwX0_foresight_1 ++ dktX0_foresight_2
def dkwX0_foresight_0 : List UInt8 := [42, 27, 182, 0, 127, 154, 0, 5, 2, 172, 42, 180, 0, 17, 27, 50, 77, 42, 27, 182, 1, 48, 62, 5]
abbrev dktX0_foresight_0 : List UInt8 := dkwX0_foresight_0 ++ dktX0_foresight_1
theorem dksX0_foresight_0 : cX0_foresight.data.toList.drop 0 = dktX0_foresight_0 := by decide +kernel
theorem dksX0_foresight_1 : cX0_foresight.data.toList.drop 24 = dktX0_foresight_1 := dk_seg dksX0_foresight_0 24 rfl rfl
theorem dksX0_foresight_2 : cX0_foresight.data.toList.drop 48 = dktX0_foresight_2 := dk_seg dksX0_foresight_1 24 rfl rfl
theorem dksX0_foresight_3 : cX0_foresight.data.toList.drop 71 = dktX0_foresight_3 := dk_seg dksX0_foresight_2 23 rfl rfl
theorem dksX0_foresight_4 : cX0_foresight.data.toList.drop 94 = dktX0_foresight_4 := dk_seg dksX0_foresight_3 23 rfl rfl
theorem dksX0_foresight_5 : cX0_foresight.data.toList.drop 117 = dktX0_foresight_5 := dk_seg dksX0_foresight_4 23 rfl rfl
theorem dksX0_foresight_6 : cX0_foresight.data.toList.drop 140 = dktX0_foresight_6 := dk_seg dksX0_foresight_5 23 rfl rfl
theorem dksX0_foresight_7 : cX0_foresight.data.toList.drop 164 = dktX0_foresight_7 := dk_seg dksX0_foresight_6 24 rfl rfl
theorem dksX0_foresight_8 : cX0_foresight.data.toList.drop 187 = dktX0_foresight_8 := dk_seg dksX0_foresight_7 23 rfl rfl
theorem dksX0_foresight_9 : cX0_foresight.data.toList.drop 210 = dktX0_foresight_9 := dk_seg dksX0_foresight_8 23 rfl rfl
theorem dX0_foresight_0 : decode cX0_foresight 0 = .ok (.aload_n 0, 1) := dk_42 (dk_at dksX0_foresight_0 0 rfl rfl)
theorem dX0_foresight_1 : decode cX0_foresight 1 = .ok (.iload_n 1, 1) := dk_27 (dk_at dksX0_foresight_0 1 rfl rfl)
theorem dX0_foresight_2 : decode cX0_foresight 2 = .ok (.invokevirtual 127, 3) := dk_182 0 127 (dk_at dksX0_foresight_0 2 rfl rfl)
theorem dX0_foresight_5 : decode cX0_foresight 5 = .ok (.ifCond .ne 5, 3) := dk_154 0 5 (dk_at dksX0_foresight_0 5 rfl rfl)
theorem dX0_foresight_8 : decode cX0_foresight 8 = .ok (.iconst (-1), 1) := dk_2 (dk_at dksX0_foresight_0 8 rfl rfl)
theorem dX0_foresight_9 : decode cX0_foresight 9 = .ok (.ireturn, 1) := dk_172 (dk_at dksX0_foresight_0 9 rfl rfl)
theorem dX0_foresight_10 : decode cX0_foresight 10 = .ok (.aload_n 0, 1) := dk_42 (dk_at dksX0_foresight_0 10 rfl rfl)
theorem dX0_foresight_11 : decode cX0_foresight 11 = .ok (.getfield 17, 3) := dk_180 0 17 (dk_at dksX0_foresight_0 11 rfl rfl)
theorem dX0_foresight_14 : decode cX0_foresight 14 = .ok (.iload_n 1, 1) := dk_27 (dk_at dksX0_foresight_0 14 rfl rfl)
theorem dX0_foresight_15 : decode cX0_foresight 15 = .ok (.aaload, 1) := dk_50 (dk_at dksX0_foresight_0 15 rfl rfl)
theorem dX0_foresight_16 : decode cX0_foresight 16 = .ok (.astore_n 2, 1) := dk_77 (dk_at dksX0_foresight_0 16 rfl rfl)
theorem dX0_foresight_17 : decode cX0_foresight 17 = .ok (.aload_n 0, 1) := dk_42 (dk_at dksX0_foresight_0 17 rfl rfl)
theorem dX0_foresight_18 : decode cX0_foresight 18 = .ok (.iload_n 1, 1) := dk_27 (dk_at dksX0_foresight_0 18 rfl rfl)
theorem dX0_foresight_19 : decode cX0_foresight 19 = .ok (.invokevirtual 304, 3) := dk_182 1 48 (dk_at dksX0_foresight_0 19 rfl rfl)
theorem dX0_foresight_22 : decode cX0_foresight 22 = .ok (.istore_n 3, 1) := dk_62 (dk_at dksX0_foresight_0 22 rfl rfl)
theorem dX0_foresight_23 : decode cX0_foresight 23 = .ok (.iconst 2, 1) := dk_5 (dk_at dksX0_foresight_0 23 rfl rfl)
theorem dX0_foresight_24 : decode cX0_foresight 24 = .ok (.aload_n 2, 1) := dk_44 (dk_at dksX0_foresight_1 0 rfl rfl)
theorem dX0_foresight_25 : decode cX0_foresight 25 = .ok (.invokevirtual 136, 3) := dk_182 0 136 (dk_at dksX0_foresight_1 1 rfl rfl)
theorem dX0_foresight_28 : decode cX0_foresight 28 = .ok (.imul, 1) := dk_104 (dk_at dksX0_foresight_1 4 rfl rfl)
theorem dX0_foresight_29 : decode cX0_foresight 29 = .ok (.istore 4, 2) := dk_54 4 (dk_at dksX0_foresight_1 5 rfl rfl)
theorem dX0_foresight_31 : decode cX0_foresight 31 = .ok (.iconst 0, 1) := dk_3 (dk_at dksX0_foresight_1 7 rfl rfl)
theorem dX0_foresight_32 : decode cX0_foresight 32 = .ok (.istore 5, 2) := dk_54 5 (dk_at dksX0_foresight_1 8 rfl rfl)
theorem dX0_foresight_34 : decode cX0_foresight 34 = .ok (.iload 5, 2) := dk_21 5 (dk_at dksX0_foresight_1 10 rfl rfl)
theorem dX0_foresight_36 : decode cX0_foresight 36 = .ok (.iload 4, 2) := dk_21 4 (dk_at dksX0_foresight_1 12 rfl rfl)
theorem dX0_foresight_38 : decode cX0_foresight 38 = .ok (.if_icmp .gt 17, 3) := dk_163 0 17 (dk_at dksX0_foresight_1 14 rfl rfl)
theorem dX0_foresight_41 : decode cX0_foresight 41 = .ok (.aload_n 0, 1) := dk_42 (dk_at dksX0_foresight_1 17 rfl rfl)
theorem dX0_foresight_42 : decode cX0_foresight 42 = .ok (.getfield 69, 3) := dk_180 0 69 (dk_at dksX0_foresight_1 18 rfl rfl)
theorem dX0_foresight_45 : decode cX0_foresight 45 = .ok (.iload 5, 2) := dk_21 5 (dk_at dksX0_foresight_1 21 rfl rfl)
theorem dX0_foresight_47 : decode cX0_foresight 47 = .ok (.iconst 0, 1) := dk_3 (dk_at dksX0_foresight_1 23 rfl rfl)
theorem dX0_foresight_48 : decode cX0_foresight 48 = .ok (.iastore, 1) := dk_79 (dk_at dksX0_foresight_2 0 rfl rfl)
theorem dX0_foresight_49 : decode cX0_foresight 49 = .ok (.iinc 5 1, 3) := dk_132 5 1 (dk_at dksX0_foresight_2 1 rfl rfl)
theorem dX0_foresight_52 : decode cX0_foresight 52 = .ok (.goto (-18), 3) := dk_167 255 238 (dk_at dksX0_foresight_2 4 rfl rfl)
theorem dX0_foresight_55 : decode cX0_foresight 55 = .ok (.iconst 0, 1) := dk_3 (dk_at dksX0_foresight_2 7 rfl rfl)
theorem dX0_foresight_56 : decode cX0_foresight 56 = .ok (.istore 5, 2) := dk_54 5 (dk_at dksX0_foresight_2 8 rfl rfl)
theorem dX0_foresight_58 : decode cX0_foresight 58 = .ok (.iload 5, 2) := dk_21 5 (dk_at dksX0_foresight_2 10 rfl rfl)
theorem dX0_foresight_60 : decode cX0_foresight 60 = .ok (.aload_n 0, 1) := dk_42 (dk_at dksX0_foresight_2 12 rfl rfl)
theorem dX0_foresight_61 : decode cX0_foresight 61 = .ok (.invokevirtual 245, 3) := dk_182 0 245 (dk_at dksX0_foresight_2 13 rfl rfl)
theorem dX0_foresight_64 : decode cX0_foresight 64 = .ok (.if_icmp .ge 69, 3) := dk_162 0 69 (dk_at dksX0_foresight_2 16 rfl rfl)
theorem dX0_foresight_67 : decode cX0_foresight 67 = .ok (.aload_n 0, 1) := dk_42 (dk_at dksX0_foresight_2 19 rfl rfl)
theorem dX0_foresight_68 : decode cX0_foresight 68 = .ok (.getfield 48, 3) := dk_180 0 48 (dk_at dksX0_foresight_2 20 rfl rfl)
theorem dX0_foresight_71 : decode cX0_foresight 71 = .ok (.iload 5, 2) := dk_21 5 (dk_at dksX0_foresight_3 0 rfl rfl)
theorem dX0_foresight_73 : decode cX0_foresight 73 = .ok (.iaload, 1) := dk_46 (dk_at dksX0_foresight_3 2 rfl rfl)
theorem dX0_foresight_74 : decode cX0_foresight 74 = .ok (.aload_n 2, 1) := dk_44 (dk_at dksX0_foresight_3 3 rfl rfl)
theorem dX0_foresight_75 : decode cX0_foresight 75 = .ok (.getfield 133, 3) := dk_180 0 133 (dk_at dksX0_foresight_3 4 rfl rfl)
theorem dX0_foresight_78 : decode cX0_foresight 78 = .ok (.if_icmp .gt 49, 3) := dk_163 0 49 (dk_at dksX0_foresight_3 7 rfl rfl)
theorem dX0_foresight_81 : decode cX0_foresight 81 = .ok (.aload_n 0, 1) := dk_42 (dk_at dksX0_foresight_3 10 rfl rfl)
theorem dX0_foresight_82 : decode cX0_foresight 82 = .ok (.getfield 51, 3) := dk_180 0 51 (dk_at dksX0_foresight_3 11 rfl rfl)
theorem dX0_foresight_85 : decode cX0_foresight 85 = .ok (.iload 5, 2) := dk_21 5 (dk_at dksX0_foresight_3 14 rfl rfl)
theorem dX0_foresight_87 : decode cX0_foresight 87 = .ok (.iaload, 1) := dk_46 (dk_at dksX0_foresight_3 16 rfl rfl)
theorem dX0_foresight_88 : decode cX0_foresight 88 = .ok (.iload 4, 2) := dk_21 4 (dk_at dksX0_foresight_3 17 rfl rfl)
theorem dX0_foresight_90 : decode cX0_foresight 90 = .ok (.if_icmp .gt 37, 3) := dk_163 0 37 (dk_at dksX0_foresight_3 19 rfl rfl)
theorem dX0_foresight_93 : decode cX0_foresight 93 = .ok (.aload_n 0, 1) := dk_42 (dk_at dksX0_foresight_3 22 rfl rfl)
theorem dX0_foresight_94 : decode cX0_foresight 94 = .ok (.getfield 69, 3) := dk_180 0 69 (dk_at dksX0_foresight_4 0 rfl rfl)
theorem dX0_foresight_97 : decode cX0_foresight 97 = .ok (.aload_n 0, 1) := dk_42 (dk_at dksX0_foresight_4 3 rfl rfl)
theorem dX0_foresight_98 : decode cX0_foresight 98 = .ok (.getfield 51, 3) := dk_180 0 51 (dk_at dksX0_foresight_4 4 rfl rfl)
theorem dX0_foresight_101 : decode cX0_foresight 101 = .ok (.iload 5, 2) := dk_21 5 (dk_at dksX0_foresight_4 7 rfl rfl)
theorem dX0_foresight_103 : decode cX0_foresight 103 = .ok (.iaload, 1) := dk_46 (dk_at dksX0_foresight_4 9 rfl rfl)
theorem dX0_foresight_104 : decode cX0_foresight 104 = .ok (.aload_n 0, 1) := dk_42 (dk_at dksX0_foresight_4 10 rfl rfl)
theorem dX0_foresight_105 : decode cX0_foresight 105 = .ok (.getfield 69, 3) := dk_180 0 69 (dk_at dksX0_foresight_4 11 rfl rfl)
theorem dX0_foresight_108 : decode cX0_foresight 108 = .ok (.aload_n 0, 1) := dk_42 (dk_at dksX0_foresight_4 14 rfl rfl)
theorem dX0_foresight_109 : decode cX0_foresight 109 = .ok (.getfield 51, 3) := dk_180 0 51 (dk_at dksX0_foresight_4 15 rfl rfl)
theorem dX0_foresight_112 : decode cX0_foresight 112 = .ok (.iload 5, 2) := dk_21 5 (dk_at dksX0_foresight_4 18 rfl rfl)
theorem dX0_foresight_114 : decode cX0_foresight 114 = .ok (.iaload, 1) := dk_46 (dk_at dksX0_foresight_4 20 rfl rfl)
theorem dX0_foresight_115 : decode cX0_foresight 115 = .ok (.iaload, 1) := dk_46 (dk_at dksX0_foresight_4 21 rfl rfl)
theorem dX0_foresight_116 : decode cX0_foresight 116 = .ok (.aload_n 0, 1) := dk_42 (dk_at dksX0_foresight_4 22 rfl rfl)
theorem dX0_foresight_117 : decode cX0_foresight 117 = .ok (.getfield 44, 3) := dk_180 0 44 (dk_at dksX0_foresight_5 0 rfl rfl)
theorem dX0_foresight_120 : decode cX0_foresight 120 = .ok (.iload 5, 2) := dk_21 5 (dk_at dksX0_foresight_5 3 rfl rfl)
theorem dX0_foresight_122 : decode cX0_foresight 122 = .ok (.iaload, 1) := dk_46 (dk_at dksX0_foresight_5 5 rfl rfl)
theorem dX0_foresight_123 : decode cX0_foresight 123 = .ok (.invokestatic 232, 3) := dk_184 0 232 (dk_at dksX0_foresight_5 6 rfl rfl)
theorem dX0_foresight_126 : decode cX0_foresight 126 = .ok (.iastore, 1) := dk_79 (dk_at dksX0_foresight_5 9 rfl rfl)
theorem dX0_foresight_127 : decode cX0_foresight 127 = .ok (.iinc 5 1, 3) := dk_132 5 1 (dk_at dksX0_foresight_5 10 rfl rfl)
theorem dX0_foresight_130 : decode cX0_foresight 130 = .ok (.goto (-72), 3) := dk_167 255 184 (dk_at dksX0_foresight_5 13 rfl rfl)
theorem dX0_foresight_133 : decode cX0_foresight 133 = .ok (.iconst 1, 1) := dk_4 (dk_at dksX0_foresight_5 16 rfl rfl)
theorem dX0_foresight_134 : decode cX0_foresight 134 = .ok (.istore 5, 2) := dk_54 5 (dk_at dksX0_foresight_5 17 rfl rfl)
theorem dX0_foresight_136 : decode cX0_foresight 136 = .ok (.iload 5, 2) := dk_21 5 (dk_at dksX0_foresight_5 19 rfl rfl)
theorem dX0_foresight_138 : decode cX0_foresight 138 = .ok (.iload 4, 2) := dk_21 4 (dk_at dksX0_foresight_5 21 rfl rfl)
theorem dX0_foresight_140 : decode cX0_foresight 140 = .ok (.if_icmp .gt 35, 3) := dk_163 0 35 (dk_at dksX0_foresight_6 0 rfl rfl)
theorem dX0_foresight_143 : decode cX0_foresight 143 = .ok (.aload_n 0, 1) := dk_42 (dk_at dksX0_foresight_6 3 rfl rfl)
theorem dX0_foresight_144 : decode cX0_foresight 144 = .ok (.getfield 69, 3) := dk_180 0 69 (dk_at dksX0_foresight_6 4 rfl rfl)
theorem dX0_foresight_147 : decode cX0_foresight 147 = .ok (.iload 5, 2) := dk_21 5 (dk_at dksX0_foresight_6 7 rfl rfl)
theorem dX0_foresight_149 : decode cX0_foresight 149 = .ok (.aload_n 0, 1) := dk_42 (dk_at dksX0_foresight_6 9 rfl rfl)
theorem dX0_foresight_150 : decode cX0_foresight 150 = .ok (.getfield 69, 3) := dk_180 0 69 (dk_at dksX0_foresight_6 10 rfl rfl)
theorem dX0_foresight_153 : decode cX0_foresight 153 = .ok (.iload 5, 2) := dk_21 5 (dk_at dksX0_foresight_6 13 rfl rfl)
theorem dX0_foresight_155 : decode cX0_foresight 155 = .ok (.iaload, 1) := dk_46 (dk_at dksX0_foresight_6 15 rfl rfl)
theorem dX0_foresight_156 : decode cX0_foresight 156 = .ok (.aload_n 0, 1) := dk_42 (dk_at dksX0_foresight_6 16 rfl rfl)
theorem dX0_foresight_157 : decode cX0_foresight 157 = .ok (.getfield 69, 3) := dk_180 0 69 (dk_at dksX0_foresight_6 17 rfl rfl)
theorem dX0_foresight_160 : decode cX0_foresight 160 = .ok (.iload 5, 2) := dk_21 5 (dk_at dksX0_foresight_6 20 rfl rfl)
theorem dX0_foresight_162 : decode cX0_foresight 162 = .ok (.iconst 1, 1) := dk_4 (dk_at dksX0_foresight_6 22 rfl rfl)
theorem dX0_foresight_163 : decode cX0_foresight 163 = .ok (.isub, 1) := dk_100 (dk_at dksX0_foresight_6 23 rfl rfl)
theorem dX0_foresight_164 : decode cX0_foresight 164 = .ok (.iaload, 1) := dk_46 (dk_at dksX0_foresight_7 0 rfl rfl)
theorem dX0_foresight_165 : decode cX0_foresight 165 = .ok (.invokestatic 232, 3) := dk_184 0 232 (dk_at dksX0_foresight_7 1 rfl rfl)
theorem dX0_foresight_168 : decode cX0_foresight 168 = .ok (.iastore, 1) := dk_79 (dk_at dksX0_foresight_7 4 rfl rfl)
theorem dX0_foresight_169 : decode cX0_foresight 169 = .ok (.iinc 5 1, 3) := dk_132 5 1 (dk_at dksX0_foresight_7 5 rfl rfl)
theorem dX0_foresight_172 : decode cX0_foresight 172 = .ok (.goto (-36), 3) := dk_167 255 220 (dk_at dksX0_foresight_7 8 rfl rfl)
theorem dX0_foresight_175 : decode cX0_foresight 175 = .ok (.iconst 0, 1) := dk_3 (dk_at dksX0_foresight_7 11 rfl rfl)
theorem dX0_foresight_176 : decode cX0_foresight 176 = .ok (.istore 5, 2) := dk_54 5 (dk_at dksX0_foresight_7 12 rfl rfl)
theorem dX0_foresight_178 : decode cX0_foresight 178 = .ok (.iconst 0, 1) := dk_3 (dk_at dksX0_foresight_7 14 rfl rfl)
theorem dX0_foresight_179 : decode cX0_foresight 179 = .ok (.istore 6, 2) := dk_54 6 (dk_at dksX0_foresight_7 15 rfl rfl)
theorem dX0_foresight_181 : decode cX0_foresight 181 = .ok (.iload 6, 2) := dk_21 6 (dk_at dksX0_foresight_7 17 rfl rfl)
theorem dX0_foresight_183 : decode cX0_foresight 183 = .ok (.aload_n 2, 1) := dk_44 (dk_at dksX0_foresight_7 19 rfl rfl)
theorem dX0_foresight_184 : decode cX0_foresight 184 = .ok (.invokevirtual 136, 3) := dk_182 0 136 (dk_at dksX0_foresight_7 20 rfl rfl)
theorem dX0_foresight_187 : decode cX0_foresight 187 = .ok (.if_icmp .gt 34, 3) := dk_163 0 34 (dk_at dksX0_foresight_8 0 rfl rfl)
theorem dX0_foresight_190 : decode cX0_foresight 190 = .ok (.iload 5, 2) := dk_21 5 (dk_at dksX0_foresight_8 3 rfl rfl)
theorem dX0_foresight_192 : decode cX0_foresight 192 = .ok (.aload_n 0, 1) := dk_42 (dk_at dksX0_foresight_8 5 rfl rfl)
theorem dX0_foresight_193 : decode cX0_foresight 193 = .ok (.getfield 69, 3) := dk_180 0 69 (dk_at dksX0_foresight_8 6 rfl rfl)
theorem dX0_foresight_196 : decode cX0_foresight 196 = .ok (.iload 6, 2) := dk_21 6 (dk_at dksX0_foresight_8 9 rfl rfl)
theorem dX0_foresight_198 : decode cX0_foresight 198 = .ok (.iaload, 1) := dk_46 (dk_at dksX0_foresight_8 11 rfl rfl)
theorem dX0_foresight_199 : decode cX0_foresight 199 = .ok (.aload_n 0, 1) := dk_42 (dk_at dksX0_foresight_8 12 rfl rfl)
theorem dX0_foresight_200 : decode cX0_foresight 200 = .ok (.getfield 69, 3) := dk_180 0 69 (dk_at dksX0_foresight_8 13 rfl rfl)
theorem dX0_foresight_203 : decode cX0_foresight 203 = .ok (.iload 4, 2) := dk_21 4 (dk_at dksX0_foresight_8 16 rfl rfl)
theorem dX0_foresight_205 : decode cX0_foresight 205 = .ok (.iload 6, 2) := dk_21 6 (dk_at dksX0_foresight_8 18 rfl rfl)
theorem dX0_foresight_207 : decode cX0_foresight 207 = .ok (.isub, 1) := dk_100 (dk_at dksX0_foresight_8 20 rfl rfl)
theorem dX0_foresight_208 : decode cX0_foresight 208 = .ok (.iaload, 1) := dk_46 (dk_at dksX0_foresight_8 21 rfl rfl)
theorem dX0_foresight_209 : decode cX0_foresight 209 = .ok (.iadd, 1) := dk_96 (dk_at dksX0_foresight_8 22 rfl rfl)
theorem dX0_foresight_210 : decode cX0_foresight 210 = .ok (.invokestatic 232, 3) := dk_184 0 232 (dk_at dksX0_foresight_9 0 rfl rfl)
theorem dX0_foresight_213 : decode cX0_foresight 213 = .ok (.istore 5, 2) := dk_54 5 (dk_at dksX0_foresight_9 3 rfl rfl)
theorem dX0_foresight_215 : decode cX0_foresight 215 = .ok (.iinc 6 1, 3) := dk_132 6 1 (dk_at dksX0_foresight_9 5 rfl rfl)
theorem dX0_foresight_218 : decode cX0_foresight 218 = .ok (.goto (-37), 3) := dk_167 255 219 (dk_at dksX0_foresight_9 8 rfl rfl)
theorem dX0_foresight_221 : decode cX0_foresight 221 = .ok (.iload 5, 2) := dk_21 5 (dk_at dksX0_foresight_9 11 rfl rfl)
theorem dX0_foresight_223 : decode cX0_foresight 223 = .ok (.iconst 2, 1) := dk_5 (dk_at dksX0_foresight_9 13 rfl rfl)
theorem dX0_foresight_224 : decode cX0_foresight 224 = .ok (.iload_n 3, 1) := dk_29 (dk_at dksX0_foresight_9 14 rfl rfl)
theorem dX0_foresight_225 : decode cX0_foresight 225 = .ok (.imul, 1) := dk_104 (dk_at dksX0_foresight_9 15 rfl rfl)
theorem dX0_foresight_226 : decode cX0_foresight 226 = .ok (.isub, 1) := dk_100 (dk_at dksX0_foresight_9 16 rfl rfl)
theorem dX0_foresight_227 : decode cX0_foresight 227 = .ok (.ireturn, 1) := dk_172 (dk_at dksX0_foresight_9 17 rfl rfl)
abbrev cX0_cheap : ByteArray := prog_1_method_55_code
def yX0_cheap : MethodName := ⟨RX0, "cheap", "(I)I"⟩
def dkwX0_cheap_3 : List UInt8 := [180, 0, 155, 161, 0, 6, 167, 0, 5, 29, 61, 132, 3, 1, 167, 255, 192, 28, 172]
abbrev dktX0_cheap_3 : List UInt8 := dkwX0_cheap_3 ++ []
def dkwX0_cheap_2 : List UInt8 := [163, 0, 33, 28, 155, 0, 27, 42, 180, 0, 11, 29, 50, 180, 0, 155, 42, 180, 0, 11, 28, 50]
abbrev dktX0_cheap_2 : List UInt8 := dkwX0_cheap_2 ++ dktX0_cheap_3
def dkwX0_cheap_1 : List UInt8 := [162, 0, 62, 42, 180, 0, 11, 29, 50, 180, 0, 157, 42, 180, 0, 11, 29, 50, 180, 0, 152, 27, 100]
abbrev dktX0_cheap_1 : List UInt8 := dkwX0_cheap_1 ++ dktX0_cheap_2
def dkwX0_cheap_0 : List UInt8 := [27, 3, 16, 99, 184, 0, 91, 154, 0, 5, 2, 172, 16, 254, 61, 3, 62, 29, 42, 180, 0, 87]
abbrev dktX0_cheap_0 : List UInt8 := dkwX0_cheap_0 ++ dktX0_cheap_1
theorem dksX0_cheap_0 : cX0_cheap.data.toList.drop 0 = dktX0_cheap_0 := by decide +kernel
theorem dksX0_cheap_1 : cX0_cheap.data.toList.drop 22 = dktX0_cheap_1 := dk_seg dksX0_cheap_0 22 rfl rfl
theorem dksX0_cheap_2 : cX0_cheap.data.toList.drop 45 = dktX0_cheap_2 := dk_seg dksX0_cheap_1 23 rfl rfl
theorem dksX0_cheap_3 : cX0_cheap.data.toList.drop 67 = dktX0_cheap_3 := dk_seg dksX0_cheap_2 22 rfl rfl
theorem dX0_cheap_0 : decode cX0_cheap 0 = .ok (.iload_n 1, 1) := dk_27 (dk_at dksX0_cheap_0 0 rfl rfl)
theorem dX0_cheap_1 : decode cX0_cheap 1 = .ok (.iconst 0, 1) := dk_3 (dk_at dksX0_cheap_0 1 rfl rfl)
theorem dX0_cheap_2 : decode cX0_cheap 2 = .ok (.bipush 99, 2) := dk_16 99 (dk_at dksX0_cheap_0 2 rfl rfl)
theorem dX0_cheap_4 : decode cX0_cheap 4 = .ok (.invokestatic 91, 3) := dk_184 0 91 (dk_at dksX0_cheap_0 4 rfl rfl)
theorem dX0_cheap_7 : decode cX0_cheap 7 = .ok (.ifCond .ne 5, 3) := dk_154 0 5 (dk_at dksX0_cheap_0 7 rfl rfl)
theorem dX0_cheap_10 : decode cX0_cheap 10 = .ok (.iconst (-1), 1) := dk_2 (dk_at dksX0_cheap_0 10 rfl rfl)
theorem dX0_cheap_11 : decode cX0_cheap 11 = .ok (.ireturn, 1) := dk_172 (dk_at dksX0_cheap_0 11 rfl rfl)
theorem dX0_cheap_12 : decode cX0_cheap 12 = .ok (.bipush (-2), 2) := dk_16 254 (dk_at dksX0_cheap_0 12 rfl rfl)
theorem dX0_cheap_14 : decode cX0_cheap 14 = .ok (.istore_n 2, 1) := dk_61 (dk_at dksX0_cheap_0 14 rfl rfl)
theorem dX0_cheap_15 : decode cX0_cheap 15 = .ok (.iconst 0, 1) := dk_3 (dk_at dksX0_cheap_0 15 rfl rfl)
theorem dX0_cheap_16 : decode cX0_cheap 16 = .ok (.istore_n 3, 1) := dk_62 (dk_at dksX0_cheap_0 16 rfl rfl)
theorem dX0_cheap_17 : decode cX0_cheap 17 = .ok (.iload_n 3, 1) := dk_29 (dk_at dksX0_cheap_0 17 rfl rfl)
theorem dX0_cheap_18 : decode cX0_cheap 18 = .ok (.aload_n 0, 1) := dk_42 (dk_at dksX0_cheap_0 18 rfl rfl)
theorem dX0_cheap_19 : decode cX0_cheap 19 = .ok (.getfield 87, 3) := dk_180 0 87 (dk_at dksX0_cheap_0 19 rfl rfl)
theorem dX0_cheap_22 : decode cX0_cheap 22 = .ok (.if_icmp .ge 62, 3) := dk_162 0 62 (dk_at dksX0_cheap_1 0 rfl rfl)
theorem dX0_cheap_25 : decode cX0_cheap 25 = .ok (.aload_n 0, 1) := dk_42 (dk_at dksX0_cheap_1 3 rfl rfl)
theorem dX0_cheap_26 : decode cX0_cheap 26 = .ok (.getfield 11, 3) := dk_180 0 11 (dk_at dksX0_cheap_1 4 rfl rfl)
theorem dX0_cheap_29 : decode cX0_cheap 29 = .ok (.iload_n 3, 1) := dk_29 (dk_at dksX0_cheap_1 7 rfl rfl)
theorem dX0_cheap_30 : decode cX0_cheap 30 = .ok (.aaload, 1) := dk_50 (dk_at dksX0_cheap_1 8 rfl rfl)
theorem dX0_cheap_31 : decode cX0_cheap 31 = .ok (.getfield 157, 3) := dk_180 0 157 (dk_at dksX0_cheap_1 9 rfl rfl)
theorem dX0_cheap_34 : decode cX0_cheap 34 = .ok (.aload_n 0, 1) := dk_42 (dk_at dksX0_cheap_1 12 rfl rfl)
theorem dX0_cheap_35 : decode cX0_cheap 35 = .ok (.getfield 11, 3) := dk_180 0 11 (dk_at dksX0_cheap_1 13 rfl rfl)
theorem dX0_cheap_38 : decode cX0_cheap 38 = .ok (.iload_n 3, 1) := dk_29 (dk_at dksX0_cheap_1 16 rfl rfl)
theorem dX0_cheap_39 : decode cX0_cheap 39 = .ok (.aaload, 1) := dk_50 (dk_at dksX0_cheap_1 17 rfl rfl)
theorem dX0_cheap_40 : decode cX0_cheap 40 = .ok (.getfield 152, 3) := dk_180 0 152 (dk_at dksX0_cheap_1 18 rfl rfl)
theorem dX0_cheap_43 : decode cX0_cheap 43 = .ok (.iload_n 1, 1) := dk_27 (dk_at dksX0_cheap_1 21 rfl rfl)
theorem dX0_cheap_44 : decode cX0_cheap 44 = .ok (.isub, 1) := dk_100 (dk_at dksX0_cheap_1 22 rfl rfl)
theorem dX0_cheap_45 : decode cX0_cheap 45 = .ok (.if_icmp .gt 33, 3) := dk_163 0 33 (dk_at dksX0_cheap_2 0 rfl rfl)
theorem dX0_cheap_48 : decode cX0_cheap 48 = .ok (.iload_n 2, 1) := dk_28 (dk_at dksX0_cheap_2 3 rfl rfl)
theorem dX0_cheap_49 : decode cX0_cheap 49 = .ok (.ifCond .lt 27, 3) := dk_155 0 27 (dk_at dksX0_cheap_2 4 rfl rfl)
theorem dX0_cheap_52 : decode cX0_cheap 52 = .ok (.aload_n 0, 1) := dk_42 (dk_at dksX0_cheap_2 7 rfl rfl)
theorem dX0_cheap_53 : decode cX0_cheap 53 = .ok (.getfield 11, 3) := dk_180 0 11 (dk_at dksX0_cheap_2 8 rfl rfl)
theorem dX0_cheap_56 : decode cX0_cheap 56 = .ok (.iload_n 3, 1) := dk_29 (dk_at dksX0_cheap_2 11 rfl rfl)
theorem dX0_cheap_57 : decode cX0_cheap 57 = .ok (.aaload, 1) := dk_50 (dk_at dksX0_cheap_2 12 rfl rfl)
theorem dX0_cheap_58 : decode cX0_cheap 58 = .ok (.getfield 155, 3) := dk_180 0 155 (dk_at dksX0_cheap_2 13 rfl rfl)
theorem dX0_cheap_61 : decode cX0_cheap 61 = .ok (.aload_n 0, 1) := dk_42 (dk_at dksX0_cheap_2 16 rfl rfl)
theorem dX0_cheap_62 : decode cX0_cheap 62 = .ok (.getfield 11, 3) := dk_180 0 11 (dk_at dksX0_cheap_2 17 rfl rfl)
theorem dX0_cheap_65 : decode cX0_cheap 65 = .ok (.iload_n 2, 1) := dk_28 (dk_at dksX0_cheap_2 20 rfl rfl)
theorem dX0_cheap_66 : decode cX0_cheap 66 = .ok (.aaload, 1) := dk_50 (dk_at dksX0_cheap_2 21 rfl rfl)
theorem dX0_cheap_67 : decode cX0_cheap 67 = .ok (.getfield 155, 3) := dk_180 0 155 (dk_at dksX0_cheap_3 0 rfl rfl)
theorem dX0_cheap_70 : decode cX0_cheap 70 = .ok (.if_icmp .lt 6, 3) := dk_161 0 6 (dk_at dksX0_cheap_3 3 rfl rfl)
theorem dX0_cheap_73 : decode cX0_cheap 73 = .ok (.goto 5, 3) := dk_167 0 5 (dk_at dksX0_cheap_3 6 rfl rfl)
theorem dX0_cheap_76 : decode cX0_cheap 76 = .ok (.iload_n 3, 1) := dk_29 (dk_at dksX0_cheap_3 9 rfl rfl)
theorem dX0_cheap_77 : decode cX0_cheap 77 = .ok (.istore_n 2, 1) := dk_61 (dk_at dksX0_cheap_3 10 rfl rfl)
theorem dX0_cheap_78 : decode cX0_cheap 78 = .ok (.iinc 3 1, 3) := dk_132 3 1 (dk_at dksX0_cheap_3 11 rfl rfl)
theorem dX0_cheap_81 : decode cX0_cheap 81 = .ok (.goto (-64), 3) := dk_167 255 192 (dk_at dksX0_cheap_3 14 rfl rfl)
theorem dX0_cheap_84 : decode cX0_cheap 84 = .ok (.iload_n 2, 1) := dk_28 (dk_at dksX0_cheap_3 17 rfl rfl)
theorem dX0_cheap_85 : decode cX0_cheap 85 = .ok (.ireturn, 1) := dk_172 (dk_at dksX0_cheap_3 18 rfl rfl)
abbrev cX0_wrong : ByteArray := prog_1_method_56_code
def yX0_wrong : MethodName := ⟨RX0, "wrong", "(I)I"⟩
def dkwX0_wrong_5 : List UInt8 := [29, 167, 0, 12, 42, 28, 182, 1, 6, 184, 1, 69, 116, 172]
abbrev dktX0_wrong_5 : List UInt8 := dkwX0_wrong_5 ++ []
def dkwX0_wrong_4 : List UInt8 := [62, 132, 4, 1, 167, 255, 183, 28, 155, 0, 7, 27, 154, 0, 7, 28, 167, 0, 21, 27, 4, 160, 0, 7]
abbrev dktX0_wrong_4 : List UInt8 := dkwX0_wrong_4 ++ dktX0_wrong_5
def dkwX0_wrong_3 : List UInt8 := [180, 0, 149, 108, 54, 5, 28, 155, 0, 12, 21, 5, 29, 163, 0, 6, 167, 0, 9, 21, 4, 61, 21, 5]
abbrev dktX0_wrong_3 : List UInt8 := dkwX0_wrong_3 ++ dktX0_wrong_4
def dkwX0_wrong_2 : List UInt8 := [167, 0, 48, 17, 3, 232, 42, 21, 4, 182, 1, 6, 184, 1, 9, 104, 42, 180, 0, 11, 21, 4, 50]
abbrev dktX0_wrong_2 : List UInt8 := dkwX0_wrong_2 ++ dktX0_wrong_3
def dkwX0_wrong_1 : List UInt8 := [54, 4, 21, 4, 42, 180, 0, 87, 162, 0, 70, 42, 180, 0, 11, 21, 4, 50, 180, 0, 149, 154, 0, 6]
abbrev dktX0_wrong_1 : List UInt8 := dkwX0_wrong_1 ++ dktX0_wrong_2
def dkwX0_wrong_0 : List UInt8 := [27, 3, 5, 184, 0, 91, 154, 0, 7, 19, 1, 12, 172, 42, 182, 1, 13, 16, 254, 61, 3, 62, 3]
abbrev dktX0_wrong_0 : List UInt8 := dkwX0_wrong_0 ++ dktX0_wrong_1
theorem dksX0_wrong_0 : cX0_wrong.data.toList.drop 0 = dktX0_wrong_0 := by decide +kernel
theorem dksX0_wrong_1 : cX0_wrong.data.toList.drop 23 = dktX0_wrong_1 := dk_seg dksX0_wrong_0 23 rfl rfl
theorem dksX0_wrong_2 : cX0_wrong.data.toList.drop 47 = dktX0_wrong_2 := dk_seg dksX0_wrong_1 24 rfl rfl
theorem dksX0_wrong_3 : cX0_wrong.data.toList.drop 70 = dktX0_wrong_3 := dk_seg dksX0_wrong_2 23 rfl rfl
theorem dksX0_wrong_4 : cX0_wrong.data.toList.drop 94 = dktX0_wrong_4 := dk_seg dksX0_wrong_3 24 rfl rfl
theorem dksX0_wrong_5 : cX0_wrong.data.toList.drop 118 = dktX0_wrong_5 := dk_seg dksX0_wrong_4 24 rfl rfl
theorem dX0_wrong_0 : decode cX0_wrong 0 = .ok (.iload_n 1, 1) := dk_27 (dk_at dksX0_wrong_0 0 rfl rfl)
theorem dX0_wrong_1 : decode cX0_wrong 1 = .ok (.iconst 0, 1) := dk_3 (dk_at dksX0_wrong_0 1 rfl rfl)
theorem dX0_wrong_2 : decode cX0_wrong 2 = .ok (.iconst 2, 1) := dk_5 (dk_at dksX0_wrong_0 2 rfl rfl)
theorem dX0_wrong_3 : decode cX0_wrong 3 = .ok (.invokestatic 91, 3) := dk_184 0 91 (dk_at dksX0_wrong_0 3 rfl rfl)
theorem dX0_wrong_6 : decode cX0_wrong 6 = .ok (.ifCond .ne 7, 3) := dk_154 0 7 (dk_at dksX0_wrong_0 6 rfl rfl)
theorem dX0_wrong_9 : decode cX0_wrong 9 = .ok (.ldc_w 268, 3) := dk_19 1 12 (dk_at dksX0_wrong_0 9 rfl rfl)
theorem dX0_wrong_12 : decode cX0_wrong 12 = .ok (.ireturn, 1) := dk_172 (dk_at dksX0_wrong_0 12 rfl rfl)
theorem dX0_wrong_13 : decode cX0_wrong 13 = .ok (.aload_n 0, 1) := dk_42 (dk_at dksX0_wrong_0 13 rfl rfl)
theorem dX0_wrong_14 : decode cX0_wrong 14 = .ok (.invokevirtual 269, 3) := dk_182 1 13 (dk_at dksX0_wrong_0 14 rfl rfl)
theorem dX0_wrong_17 : decode cX0_wrong 17 = .ok (.bipush (-2), 2) := dk_16 254 (dk_at dksX0_wrong_0 17 rfl rfl)
theorem dX0_wrong_19 : decode cX0_wrong 19 = .ok (.istore_n 2, 1) := dk_61 (dk_at dksX0_wrong_0 19 rfl rfl)
theorem dX0_wrong_20 : decode cX0_wrong 20 = .ok (.iconst 0, 1) := dk_3 (dk_at dksX0_wrong_0 20 rfl rfl)
theorem dX0_wrong_21 : decode cX0_wrong 21 = .ok (.istore_n 3, 1) := dk_62 (dk_at dksX0_wrong_0 21 rfl rfl)
theorem dX0_wrong_22 : decode cX0_wrong 22 = .ok (.iconst 0, 1) := dk_3 (dk_at dksX0_wrong_0 22 rfl rfl)
theorem dX0_wrong_23 : decode cX0_wrong 23 = .ok (.istore 4, 2) := dk_54 4 (dk_at dksX0_wrong_1 0 rfl rfl)
theorem dX0_wrong_25 : decode cX0_wrong 25 = .ok (.iload 4, 2) := dk_21 4 (dk_at dksX0_wrong_1 2 rfl rfl)
theorem dX0_wrong_27 : decode cX0_wrong 27 = .ok (.aload_n 0, 1) := dk_42 (dk_at dksX0_wrong_1 4 rfl rfl)
theorem dX0_wrong_28 : decode cX0_wrong 28 = .ok (.getfield 87, 3) := dk_180 0 87 (dk_at dksX0_wrong_1 5 rfl rfl)
theorem dX0_wrong_31 : decode cX0_wrong 31 = .ok (.if_icmp .ge 70, 3) := dk_162 0 70 (dk_at dksX0_wrong_1 8 rfl rfl)
theorem dX0_wrong_34 : decode cX0_wrong 34 = .ok (.aload_n 0, 1) := dk_42 (dk_at dksX0_wrong_1 11 rfl rfl)
theorem dX0_wrong_35 : decode cX0_wrong 35 = .ok (.getfield 11, 3) := dk_180 0 11 (dk_at dksX0_wrong_1 12 rfl rfl)
theorem dX0_wrong_38 : decode cX0_wrong 38 = .ok (.iload 4, 2) := dk_21 4 (dk_at dksX0_wrong_1 15 rfl rfl)
theorem dX0_wrong_40 : decode cX0_wrong 40 = .ok (.aaload, 1) := dk_50 (dk_at dksX0_wrong_1 17 rfl rfl)
theorem dX0_wrong_41 : decode cX0_wrong 41 = .ok (.getfield 149, 3) := dk_180 0 149 (dk_at dksX0_wrong_1 18 rfl rfl)
theorem dX0_wrong_44 : decode cX0_wrong 44 = .ok (.ifCond .ne 6, 3) := dk_154 0 6 (dk_at dksX0_wrong_1 21 rfl rfl)
theorem dX0_wrong_47 : decode cX0_wrong 47 = .ok (.goto 48, 3) := dk_167 0 48 (dk_at dksX0_wrong_2 0 rfl rfl)
theorem dX0_wrong_50 : decode cX0_wrong 50 = .ok (.sipush 1000, 3) := dk_17 3 232 (dk_at dksX0_wrong_2 3 rfl rfl)
theorem dX0_wrong_53 : decode cX0_wrong 53 = .ok (.aload_n 0, 1) := dk_42 (dk_at dksX0_wrong_2 6 rfl rfl)
theorem dX0_wrong_54 : decode cX0_wrong 54 = .ok (.iload 4, 2) := dk_21 4 (dk_at dksX0_wrong_2 7 rfl rfl)
theorem dX0_wrong_56 : decode cX0_wrong 56 = .ok (.invokevirtual 262, 3) := dk_182 1 6 (dk_at dksX0_wrong_2 9 rfl rfl)
theorem dX0_wrong_59 : decode cX0_wrong 59 = .ok (.invokestatic 265, 3) := dk_184 1 9 (dk_at dksX0_wrong_2 12 rfl rfl)
theorem dX0_wrong_62 : decode cX0_wrong 62 = .ok (.imul, 1) := dk_104 (dk_at dksX0_wrong_2 15 rfl rfl)
theorem dX0_wrong_63 : decode cX0_wrong 63 = .ok (.aload_n 0, 1) := dk_42 (dk_at dksX0_wrong_2 16 rfl rfl)
theorem dX0_wrong_64 : decode cX0_wrong 64 = .ok (.getfield 11, 3) := dk_180 0 11 (dk_at dksX0_wrong_2 17 rfl rfl)
theorem dX0_wrong_67 : decode cX0_wrong 67 = .ok (.iload 4, 2) := dk_21 4 (dk_at dksX0_wrong_2 20 rfl rfl)
theorem dX0_wrong_69 : decode cX0_wrong 69 = .ok (.aaload, 1) := dk_50 (dk_at dksX0_wrong_2 22 rfl rfl)
theorem dX0_wrong_70 : decode cX0_wrong 70 = .ok (.getfield 149, 3) := dk_180 0 149 (dk_at dksX0_wrong_3 0 rfl rfl)
theorem dX0_wrong_73 : decode cX0_wrong 73 = .ok (.idiv, 1) := dk_108 (dk_at dksX0_wrong_3 3 rfl rfl)
theorem dX0_wrong_74 : decode cX0_wrong 74 = .ok (.istore 5, 2) := dk_54 5 (dk_at dksX0_wrong_3 4 rfl rfl)
theorem dX0_wrong_76 : decode cX0_wrong 76 = .ok (.iload_n 2, 1) := dk_28 (dk_at dksX0_wrong_3 6 rfl rfl)
theorem dX0_wrong_77 : decode cX0_wrong 77 = .ok (.ifCond .lt 12, 3) := dk_155 0 12 (dk_at dksX0_wrong_3 7 rfl rfl)
theorem dX0_wrong_80 : decode cX0_wrong 80 = .ok (.iload 5, 2) := dk_21 5 (dk_at dksX0_wrong_3 10 rfl rfl)
theorem dX0_wrong_82 : decode cX0_wrong 82 = .ok (.iload_n 3, 1) := dk_29 (dk_at dksX0_wrong_3 12 rfl rfl)
theorem dX0_wrong_83 : decode cX0_wrong 83 = .ok (.if_icmp .gt 6, 3) := dk_163 0 6 (dk_at dksX0_wrong_3 13 rfl rfl)
theorem dX0_wrong_86 : decode cX0_wrong 86 = .ok (.goto 9, 3) := dk_167 0 9 (dk_at dksX0_wrong_3 16 rfl rfl)
theorem dX0_wrong_89 : decode cX0_wrong 89 = .ok (.iload 4, 2) := dk_21 4 (dk_at dksX0_wrong_3 19 rfl rfl)
theorem dX0_wrong_91 : decode cX0_wrong 91 = .ok (.istore_n 2, 1) := dk_61 (dk_at dksX0_wrong_3 21 rfl rfl)
theorem dX0_wrong_92 : decode cX0_wrong 92 = .ok (.iload 5, 2) := dk_21 5 (dk_at dksX0_wrong_3 22 rfl rfl)
theorem dX0_wrong_94 : decode cX0_wrong 94 = .ok (.istore_n 3, 1) := dk_62 (dk_at dksX0_wrong_4 0 rfl rfl)
theorem dX0_wrong_95 : decode cX0_wrong 95 = .ok (.iinc 4 1, 3) := dk_132 4 1 (dk_at dksX0_wrong_4 1 rfl rfl)
theorem dX0_wrong_98 : decode cX0_wrong 98 = .ok (.goto (-73), 3) := dk_167 255 183 (dk_at dksX0_wrong_4 4 rfl rfl)
theorem dX0_wrong_101 : decode cX0_wrong 101 = .ok (.iload_n 2, 1) := dk_28 (dk_at dksX0_wrong_4 7 rfl rfl)
theorem dX0_wrong_102 : decode cX0_wrong 102 = .ok (.ifCond .lt 7, 3) := dk_155 0 7 (dk_at dksX0_wrong_4 8 rfl rfl)
theorem dX0_wrong_105 : decode cX0_wrong 105 = .ok (.iload_n 1, 1) := dk_27 (dk_at dksX0_wrong_4 11 rfl rfl)
theorem dX0_wrong_106 : decode cX0_wrong 106 = .ok (.ifCond .ne 7, 3) := dk_154 0 7 (dk_at dksX0_wrong_4 12 rfl rfl)
theorem dX0_wrong_109 : decode cX0_wrong 109 = .ok (.iload_n 2, 1) := dk_28 (dk_at dksX0_wrong_4 15 rfl rfl)
theorem dX0_wrong_110 : decode cX0_wrong 110 = .ok (.goto 21, 3) := dk_167 0 21 (dk_at dksX0_wrong_4 16 rfl rfl)
theorem dX0_wrong_113 : decode cX0_wrong 113 = .ok (.iload_n 1, 1) := dk_27 (dk_at dksX0_wrong_4 19 rfl rfl)
theorem dX0_wrong_114 : decode cX0_wrong 114 = .ok (.iconst 1, 1) := dk_4 (dk_at dksX0_wrong_4 20 rfl rfl)
theorem dX0_wrong_115 : decode cX0_wrong 115 = .ok (.if_icmp .ne 7, 3) := dk_160 0 7 (dk_at dksX0_wrong_4 21 rfl rfl)
theorem dX0_wrong_118 : decode cX0_wrong 118 = .ok (.iload_n 3, 1) := dk_29 (dk_at dksX0_wrong_5 0 rfl rfl)
theorem dX0_wrong_119 : decode cX0_wrong 119 = .ok (.goto 12, 3) := dk_167 0 12 (dk_at dksX0_wrong_5 1 rfl rfl)
theorem dX0_wrong_122 : decode cX0_wrong 122 = .ok (.aload_n 0, 1) := dk_42 (dk_at dksX0_wrong_5 4 rfl rfl)
theorem dX0_wrong_123 : decode cX0_wrong 123 = .ok (.iload_n 2, 1) := dk_28 (dk_at dksX0_wrong_5 5 rfl rfl)
theorem dX0_wrong_124 : decode cX0_wrong 124 = .ok (.invokevirtual 262, 3) := dk_182 1 6 (dk_at dksX0_wrong_5 6 rfl rfl)
theorem dX0_wrong_127 : decode cX0_wrong 127 = .ok (.invokestatic 325, 3) := dk_184 1 69 (dk_at dksX0_wrong_5 9 rfl rfl)
theorem dX0_wrong_130 : decode cX0_wrong 130 = .ok (.ineg, 1) := dk_116 (dk_at dksX0_wrong_5 12 rfl rfl)
theorem dX0_wrong_131 : decode cX0_wrong 131 = .ok (.ireturn, 1) := dk_172 (dk_at dksX0_wrong_5 13 rfl rfl)
abbrev cX0_body : ByteArray := prog_1_method_60_code
def yX0_body : MethodName := ⟨RX0, "body", "(I)I"⟩
def dkwX0_body_2 : List UInt8 := [42, 180, 1, 75, 4, 100, 172]
abbrev dktX0_body_2 : List UInt8 := dkwX0_body_2 ++ []
def dkwX0_body_1 : List UInt8 := [42, 180, 0, 77, 42, 180, 1, 75, 42, 27, 182, 1, 102, 83, 42, 89, 180, 1, 75, 4, 96, 181, 1, 75]
abbrev dktX0_body_1 : List UInt8 := dkwX0_body_1 ++ dktX0_body_2
def dkwX0_body_0 : List UInt8 := [27, 3, 16, 7, 184, 0, 91, 154, 0, 5, 2, 172, 42, 180, 1, 75, 16, 50, 160, 0, 6, 16, 253, 172]
abbrev dktX0_body_0 : List UInt8 := dkwX0_body_0 ++ dktX0_body_1
theorem dksX0_body_0 : cX0_body.data.toList.drop 0 = dktX0_body_0 := by decide +kernel
theorem dksX0_body_1 : cX0_body.data.toList.drop 24 = dktX0_body_1 := dk_seg dksX0_body_0 24 rfl rfl
theorem dksX0_body_2 : cX0_body.data.toList.drop 48 = dktX0_body_2 := dk_seg dksX0_body_1 24 rfl rfl
theorem dX0_body_0 : decode cX0_body 0 = .ok (.iload_n 1, 1) := dk_27 (dk_at dksX0_body_0 0 rfl rfl)
theorem dX0_body_1 : decode cX0_body 1 = .ok (.iconst 0, 1) := dk_3 (dk_at dksX0_body_0 1 rfl rfl)
theorem dX0_body_2 : decode cX0_body 2 = .ok (.bipush 7, 2) := dk_16 7 (dk_at dksX0_body_0 2 rfl rfl)
theorem dX0_body_4 : decode cX0_body 4 = .ok (.invokestatic 91, 3) := dk_184 0 91 (dk_at dksX0_body_0 4 rfl rfl)
theorem dX0_body_7 : decode cX0_body 7 = .ok (.ifCond .ne 5, 3) := dk_154 0 5 (dk_at dksX0_body_0 7 rfl rfl)
theorem dX0_body_10 : decode cX0_body 10 = .ok (.iconst (-1), 1) := dk_2 (dk_at dksX0_body_0 10 rfl rfl)
theorem dX0_body_11 : decode cX0_body 11 = .ok (.ireturn, 1) := dk_172 (dk_at dksX0_body_0 11 rfl rfl)
theorem dX0_body_12 : decode cX0_body 12 = .ok (.aload_n 0, 1) := dk_42 (dk_at dksX0_body_0 12 rfl rfl)
theorem dX0_body_13 : decode cX0_body 13 = .ok (.getfield 331, 3) := dk_180 1 75 (dk_at dksX0_body_0 13 rfl rfl)
theorem dX0_body_16 : decode cX0_body 16 = .ok (.bipush 50, 2) := dk_16 50 (dk_at dksX0_body_0 16 rfl rfl)
theorem dX0_body_18 : decode cX0_body 18 = .ok (.if_icmp .ne 6, 3) := dk_160 0 6 (dk_at dksX0_body_0 18 rfl rfl)
theorem dX0_body_21 : decode cX0_body 21 = .ok (.bipush (-3), 2) := dk_16 253 (dk_at dksX0_body_0 21 rfl rfl)
theorem dX0_body_23 : decode cX0_body 23 = .ok (.ireturn, 1) := dk_172 (dk_at dksX0_body_0 23 rfl rfl)
theorem dX0_body_24 : decode cX0_body 24 = .ok (.aload_n 0, 1) := dk_42 (dk_at dksX0_body_1 0 rfl rfl)
theorem dX0_body_25 : decode cX0_body 25 = .ok (.getfield 77, 3) := dk_180 0 77 (dk_at dksX0_body_1 1 rfl rfl)
theorem dX0_body_28 : decode cX0_body 28 = .ok (.aload_n 0, 1) := dk_42 (dk_at dksX0_body_1 4 rfl rfl)
theorem dX0_body_29 : decode cX0_body 29 = .ok (.getfield 331, 3) := dk_180 1 75 (dk_at dksX0_body_1 5 rfl rfl)
theorem dX0_body_32 : decode cX0_body 32 = .ok (.aload_n 0, 1) := dk_42 (dk_at dksX0_body_1 8 rfl rfl)
theorem dX0_body_33 : decode cX0_body 33 = .ok (.iload_n 1, 1) := dk_27 (dk_at dksX0_body_1 9 rfl rfl)
theorem dX0_body_34 : decode cX0_body 34 = .ok (.invokevirtual 358, 3) := dk_182 1 102 (dk_at dksX0_body_1 10 rfl rfl)
theorem dX0_body_37 : decode cX0_body 37 = .ok (.aastore, 1) := dk_83 (dk_at dksX0_body_1 13 rfl rfl)
theorem dX0_body_38 : decode cX0_body 38 = .ok (.aload_n 0, 1) := dk_42 (dk_at dksX0_body_1 14 rfl rfl)
theorem dX0_body_39 : decode cX0_body 39 = .ok (.dup, 1) := dk_89 (dk_at dksX0_body_1 15 rfl rfl)
theorem dX0_body_40 : decode cX0_body 40 = .ok (.getfield 331, 3) := dk_180 1 75 (dk_at dksX0_body_1 16 rfl rfl)
theorem dX0_body_43 : decode cX0_body 43 = .ok (.iconst 1, 1) := dk_4 (dk_at dksX0_body_1 19 rfl rfl)
theorem dX0_body_44 : decode cX0_body 44 = .ok (.iadd, 1) := dk_96 (dk_at dksX0_body_1 20 rfl rfl)
theorem dX0_body_45 : decode cX0_body 45 = .ok (.putfield 331, 3) := dk_181 1 75 (dk_at dksX0_body_1 21 rfl rfl)
theorem dX0_body_48 : decode cX0_body 48 = .ok (.aload_n 0, 1) := dk_42 (dk_at dksX0_body_2 0 rfl rfl)
theorem dX0_body_49 : decode cX0_body 49 = .ok (.getfield 331, 3) := dk_180 1 75 (dk_at dksX0_body_2 1 rfl rfl)
theorem dX0_body_52 : decode cX0_body 52 = .ok (.iconst 1, 1) := dk_4 (dk_at dksX0_body_2 4 rfl rfl)
theorem dX0_body_53 : decode cX0_body 53 = .ok (.isub, 1) := dk_100 (dk_at dksX0_body_2 5 rfl rfl)
theorem dX0_body_54 : decode cX0_body 54 = .ok (.ireturn, 1) := dk_172 (dk_at dksX0_body_2 6 rfl rfl)
abbrev cX0_made : ByteArray := prog_1_method_59_code
def yX0_made : MethodName := ⟨RX0, "made", "(I)LPointsForAll$Purse;"⟩
def dkwX0_made_6 : List UInt8 := [187, 0, 75, 89, 42, 42, 180, 1, 75, 183, 1, 101, 176]
abbrev dktX0_made_6 : List UInt8 := dkwX0_made_6 ++ []
def dkwX0_made_5 : List UInt8 := [42, 42, 180, 1, 75, 183, 1, 97, 176, 187, 1, 98, 89, 42, 42, 180, 1, 75, 183, 1, 100, 176]
abbrev dktX0_made_5 : List UInt8 := dkwX0_made_5 ++ dktX0_made_6
def dkwX0_made_4 : List UInt8 := [180, 1, 75, 183, 1, 91, 176, 187, 1, 92, 89, 42, 42, 180, 1, 75, 183, 1, 94, 176, 187, 1, 95, 89]
abbrev dktX0_made_4 : List UInt8 := dkwX0_made_4 ++ dktX0_made_5
def dkwX0_made_3 : List UInt8 := [183, 1, 85, 176, 187, 1, 86, 89, 42, 42, 180, 1, 75, 183, 1, 88, 176, 187, 1, 89, 89, 42, 42]
abbrev dktX0_made_3 : List UInt8 := dkwX0_made_3 ++ dktX0_made_4
def dkwX0_made_2 : List UInt8 := [187, 1, 78, 89, 42, 42, 180, 1, 75, 183, 1, 80, 176, 187, 1, 83, 89, 42, 42, 180, 1, 75]
abbrev dktX0_made_2 : List UInt8 := dkwX0_made_2 ++ dktX0_made_3
def dkwX0_made_1 : List UInt8 := [170, 0, 0, 0, 0, 0, 134, 0, 0, 0, 1, 0, 0, 0, 7, 0, 0, 0, 43, 0, 0, 0, 56, 0, 0, 0, 69, 0, 0, 0, 82, 0, 0, 0, 95, 0, 0, 0, 108, 0, 0, 0, 121]
abbrev dktX0_made_1 : List UInt8 := dkwX0_made_1 ++ dktX0_made_2
def dkwX0_made_0 : List UInt8 := [27]
abbrev dktX0_made_0 : List UInt8 := dkwX0_made_0 ++ dktX0_made_1
theorem dksX0_made_0 : cX0_made.data.toList.drop 0 = dktX0_made_0 := by decide +kernel
theorem dksX0_made_1 : cX0_made.data.toList.drop 1 = dktX0_made_1 := dk_seg dksX0_made_0 1 rfl rfl
theorem dksX0_made_2 : cX0_made.data.toList.drop 44 = dktX0_made_2 := dk_seg dksX0_made_1 43 rfl rfl
theorem dksX0_made_3 : cX0_made.data.toList.drop 66 = dktX0_made_3 := dk_seg dksX0_made_2 22 rfl rfl
theorem dksX0_made_4 : cX0_made.data.toList.drop 89 = dktX0_made_4 := dk_seg dksX0_made_3 23 rfl rfl
theorem dksX0_made_5 : cX0_made.data.toList.drop 113 = dktX0_made_5 := dk_seg dksX0_made_4 24 rfl rfl
theorem dksX0_made_6 : cX0_made.data.toList.drop 135 = dktX0_made_6 := dk_seg dksX0_made_5 22 rfl rfl
theorem dX0_made_0 : decode cX0_made 0 = .ok (.iload_n 1, 1) := dk_27 (dk_at dksX0_made_0 0 rfl rfl)
theorem dX0_made_1 : decode cX0_made 1 = .ok (.tableswitch 134 1 7 #[43, 56, 69, 82, 95, 108, 121], 43) := by decide +kernel
theorem dX0_made_44 : decode cX0_made 44 = .ok (.new 334, 3) := dk_187 1 78 (dk_at dksX0_made_2 0 rfl rfl)
theorem dX0_made_47 : decode cX0_made 47 = .ok (.dup, 1) := dk_89 (dk_at dksX0_made_2 3 rfl rfl)
theorem dX0_made_48 : decode cX0_made 48 = .ok (.aload_n 0, 1) := dk_42 (dk_at dksX0_made_2 4 rfl rfl)
theorem dX0_made_49 : decode cX0_made 49 = .ok (.aload_n 0, 1) := dk_42 (dk_at dksX0_made_2 5 rfl rfl)
theorem dX0_made_50 : decode cX0_made 50 = .ok (.getfield 331, 3) := dk_180 1 75 (dk_at dksX0_made_2 6 rfl rfl)
theorem dX0_made_53 : decode cX0_made 53 = .ok (.invokespecial 336, 3) := dk_183 1 80 (dk_at dksX0_made_2 9 rfl rfl)
theorem dX0_made_56 : decode cX0_made 56 = .ok (.areturn, 1) := dk_176 (dk_at dksX0_made_2 12 rfl rfl)
theorem dX0_made_57 : decode cX0_made 57 = .ok (.new 339, 3) := dk_187 1 83 (dk_at dksX0_made_2 13 rfl rfl)
theorem dX0_made_60 : decode cX0_made 60 = .ok (.dup, 1) := dk_89 (dk_at dksX0_made_2 16 rfl rfl)
theorem dX0_made_61 : decode cX0_made 61 = .ok (.aload_n 0, 1) := dk_42 (dk_at dksX0_made_2 17 rfl rfl)
theorem dX0_made_62 : decode cX0_made 62 = .ok (.aload_n 0, 1) := dk_42 (dk_at dksX0_made_2 18 rfl rfl)
theorem dX0_made_63 : decode cX0_made 63 = .ok (.getfield 331, 3) := dk_180 1 75 (dk_at dksX0_made_2 19 rfl rfl)
theorem dX0_made_66 : decode cX0_made 66 = .ok (.invokespecial 341, 3) := dk_183 1 85 (dk_at dksX0_made_3 0 rfl rfl)
theorem dX0_made_69 : decode cX0_made 69 = .ok (.areturn, 1) := dk_176 (dk_at dksX0_made_3 3 rfl rfl)
theorem dX0_made_70 : decode cX0_made 70 = .ok (.new 342, 3) := dk_187 1 86 (dk_at dksX0_made_3 4 rfl rfl)
theorem dX0_made_73 : decode cX0_made 73 = .ok (.dup, 1) := dk_89 (dk_at dksX0_made_3 7 rfl rfl)
theorem dX0_made_74 : decode cX0_made 74 = .ok (.aload_n 0, 1) := dk_42 (dk_at dksX0_made_3 8 rfl rfl)
theorem dX0_made_75 : decode cX0_made 75 = .ok (.aload_n 0, 1) := dk_42 (dk_at dksX0_made_3 9 rfl rfl)
theorem dX0_made_76 : decode cX0_made 76 = .ok (.getfield 331, 3) := dk_180 1 75 (dk_at dksX0_made_3 10 rfl rfl)
theorem dX0_made_79 : decode cX0_made 79 = .ok (.invokespecial 344, 3) := dk_183 1 88 (dk_at dksX0_made_3 13 rfl rfl)
theorem dX0_made_82 : decode cX0_made 82 = .ok (.areturn, 1) := dk_176 (dk_at dksX0_made_3 16 rfl rfl)
theorem dX0_made_83 : decode cX0_made 83 = .ok (.new 345, 3) := dk_187 1 89 (dk_at dksX0_made_3 17 rfl rfl)
theorem dX0_made_86 : decode cX0_made 86 = .ok (.dup, 1) := dk_89 (dk_at dksX0_made_3 20 rfl rfl)
theorem dX0_made_87 : decode cX0_made 87 = .ok (.aload_n 0, 1) := dk_42 (dk_at dksX0_made_3 21 rfl rfl)
theorem dX0_made_88 : decode cX0_made 88 = .ok (.aload_n 0, 1) := dk_42 (dk_at dksX0_made_3 22 rfl rfl)
theorem dX0_made_89 : decode cX0_made 89 = .ok (.getfield 331, 3) := dk_180 1 75 (dk_at dksX0_made_4 0 rfl rfl)
theorem dX0_made_92 : decode cX0_made 92 = .ok (.invokespecial 347, 3) := dk_183 1 91 (dk_at dksX0_made_4 3 rfl rfl)
theorem dX0_made_95 : decode cX0_made 95 = .ok (.areturn, 1) := dk_176 (dk_at dksX0_made_4 6 rfl rfl)
theorem dX0_made_96 : decode cX0_made 96 = .ok (.new 348, 3) := dk_187 1 92 (dk_at dksX0_made_4 7 rfl rfl)
theorem dX0_made_99 : decode cX0_made 99 = .ok (.dup, 1) := dk_89 (dk_at dksX0_made_4 10 rfl rfl)
theorem dX0_made_100 : decode cX0_made 100 = .ok (.aload_n 0, 1) := dk_42 (dk_at dksX0_made_4 11 rfl rfl)
theorem dX0_made_101 : decode cX0_made 101 = .ok (.aload_n 0, 1) := dk_42 (dk_at dksX0_made_4 12 rfl rfl)
theorem dX0_made_102 : decode cX0_made 102 = .ok (.getfield 331, 3) := dk_180 1 75 (dk_at dksX0_made_4 13 rfl rfl)
theorem dX0_made_105 : decode cX0_made 105 = .ok (.invokespecial 350, 3) := dk_183 1 94 (dk_at dksX0_made_4 16 rfl rfl)
theorem dX0_made_108 : decode cX0_made 108 = .ok (.areturn, 1) := dk_176 (dk_at dksX0_made_4 19 rfl rfl)
theorem dX0_made_109 : decode cX0_made 109 = .ok (.new 351, 3) := dk_187 1 95 (dk_at dksX0_made_4 20 rfl rfl)
theorem dX0_made_112 : decode cX0_made 112 = .ok (.dup, 1) := dk_89 (dk_at dksX0_made_4 23 rfl rfl)
theorem dX0_made_113 : decode cX0_made 113 = .ok (.aload_n 0, 1) := dk_42 (dk_at dksX0_made_5 0 rfl rfl)
theorem dX0_made_114 : decode cX0_made 114 = .ok (.aload_n 0, 1) := dk_42 (dk_at dksX0_made_5 1 rfl rfl)
theorem dX0_made_115 : decode cX0_made 115 = .ok (.getfield 331, 3) := dk_180 1 75 (dk_at dksX0_made_5 2 rfl rfl)
theorem dX0_made_118 : decode cX0_made 118 = .ok (.invokespecial 353, 3) := dk_183 1 97 (dk_at dksX0_made_5 5 rfl rfl)
theorem dX0_made_121 : decode cX0_made 121 = .ok (.areturn, 1) := dk_176 (dk_at dksX0_made_5 8 rfl rfl)
theorem dX0_made_122 : decode cX0_made 122 = .ok (.new 354, 3) := dk_187 1 98 (dk_at dksX0_made_5 9 rfl rfl)
theorem dX0_made_125 : decode cX0_made 125 = .ok (.dup, 1) := dk_89 (dk_at dksX0_made_5 12 rfl rfl)
theorem dX0_made_126 : decode cX0_made 126 = .ok (.aload_n 0, 1) := dk_42 (dk_at dksX0_made_5 13 rfl rfl)
theorem dX0_made_127 : decode cX0_made 127 = .ok (.aload_n 0, 1) := dk_42 (dk_at dksX0_made_5 14 rfl rfl)
theorem dX0_made_128 : decode cX0_made 128 = .ok (.getfield 331, 3) := dk_180 1 75 (dk_at dksX0_made_5 15 rfl rfl)
theorem dX0_made_131 : decode cX0_made 131 = .ok (.invokespecial 356, 3) := dk_183 1 100 (dk_at dksX0_made_5 18 rfl rfl)
theorem dX0_made_134 : decode cX0_made 134 = .ok (.areturn, 1) := dk_176 (dk_at dksX0_made_5 21 rfl rfl)
theorem dX0_made_135 : decode cX0_made 135 = .ok (.new 75, 3) := dk_187 0 75 (dk_at dksX0_made_6 0 rfl rfl)
theorem dX0_made_138 : decode cX0_made 138 = .ok (.dup, 1) := dk_89 (dk_at dksX0_made_6 3 rfl rfl)
theorem dX0_made_139 : decode cX0_made 139 = .ok (.aload_n 0, 1) := dk_42 (dk_at dksX0_made_6 4 rfl rfl)
theorem dX0_made_140 : decode cX0_made 140 = .ok (.aload_n 0, 1) := dk_42 (dk_at dksX0_made_6 5 rfl rfl)
theorem dX0_made_141 : decode cX0_made 141 = .ok (.getfield 331, 3) := dk_180 1 75 (dk_at dksX0_made_6 6 rfl rfl)
theorem dX0_made_144 : decode cX0_made 144 = .ok (.invokespecial 357, 3) := dk_183 1 101 (dk_at dksX0_made_6 9 rfl rfl)
theorem dX0_made_147 : decode cX0_made 147 = .ok (.areturn, 1) := dk_176 (dk_at dksX0_made_6 12 rfl rfl)
abbrev cX0_act : ByteArray := prog_1_method_62_code
def yX0_act : MethodName := ⟨RX0, "act", "(III)I"⟩
def dkwX0_act_3 : List UInt8 := [25, 4, 29, 182, 1, 118, 167, 0, 9, 25, 4, 29, 182, 1, 121, 172]
abbrev dktX0_act_3 : List UInt8 := dkwX0_act_3 ++ []
def dkwX0_act_2 : List UInt8 := [172, 28, 6, 160, 0, 16, 25, 4, 58, 5, 25, 5, 29, 185, 1, 113, 2, 0, 172, 28, 4, 160, 0, 12]
abbrev dktX0_act_2 : List UInt8 := dkwX0_act_2 ++ dktX0_act_3
def dkwX0_act_1 : List UInt8 := [42, 180, 0, 77, 27, 50, 58, 4, 28, 154, 0, 16, 25, 4, 58, 5, 25, 5, 29, 185, 1, 108, 2, 0]
abbrev dktX0_act_1 : List UInt8 := dkwX0_act_1 ++ dktX0_act_2
def dkwX0_act_0 : List UInt8 := [42, 3, 181, 1, 72, 42, 27, 182, 1, 105, 153, 0, 12, 28, 3, 6, 184, 0, 91, 154, 0, 5, 3, 172]
abbrev dktX0_act_0 : List UInt8 := dkwX0_act_0 ++ dktX0_act_1
theorem dksX0_act_0 : cX0_act.data.toList.drop 0 = dktX0_act_0 := by decide +kernel
theorem dksX0_act_1 : cX0_act.data.toList.drop 24 = dktX0_act_1 := dk_seg dksX0_act_0 24 rfl rfl
theorem dksX0_act_2 : cX0_act.data.toList.drop 48 = dktX0_act_2 := dk_seg dksX0_act_1 24 rfl rfl
theorem dksX0_act_3 : cX0_act.data.toList.drop 72 = dktX0_act_3 := dk_seg dksX0_act_2 24 rfl rfl
theorem dX0_act_0 : decode cX0_act 0 = .ok (.aload_n 0, 1) := dk_42 (dk_at dksX0_act_0 0 rfl rfl)
theorem dX0_act_1 : decode cX0_act 1 = .ok (.iconst 0, 1) := dk_3 (dk_at dksX0_act_0 1 rfl rfl)
theorem dX0_act_2 : decode cX0_act 2 = .ok (.putfield 328, 3) := dk_181 1 72 (dk_at dksX0_act_0 2 rfl rfl)
theorem dX0_act_5 : decode cX0_act 5 = .ok (.aload_n 0, 1) := dk_42 (dk_at dksX0_act_0 5 rfl rfl)
theorem dX0_act_6 : decode cX0_act 6 = .ok (.iload_n 1, 1) := dk_27 (dk_at dksX0_act_0 6 rfl rfl)
theorem dX0_act_7 : decode cX0_act 7 = .ok (.invokevirtual 361, 3) := dk_182 1 105 (dk_at dksX0_act_0 7 rfl rfl)
theorem dX0_act_10 : decode cX0_act 10 = .ok (.ifCond .eq 12, 3) := dk_153 0 12 (dk_at dksX0_act_0 10 rfl rfl)
theorem dX0_act_13 : decode cX0_act 13 = .ok (.iload_n 2, 1) := dk_28 (dk_at dksX0_act_0 13 rfl rfl)
theorem dX0_act_14 : decode cX0_act 14 = .ok (.iconst 0, 1) := dk_3 (dk_at dksX0_act_0 14 rfl rfl)
theorem dX0_act_15 : decode cX0_act 15 = .ok (.iconst 3, 1) := dk_6 (dk_at dksX0_act_0 15 rfl rfl)
theorem dX0_act_16 : decode cX0_act 16 = .ok (.invokestatic 91, 3) := dk_184 0 91 (dk_at dksX0_act_0 16 rfl rfl)
theorem dX0_act_19 : decode cX0_act 19 = .ok (.ifCond .ne 5, 3) := dk_154 0 5 (dk_at dksX0_act_0 19 rfl rfl)
theorem dX0_act_22 : decode cX0_act 22 = .ok (.iconst 0, 1) := dk_3 (dk_at dksX0_act_0 22 rfl rfl)
theorem dX0_act_23 : decode cX0_act 23 = .ok (.ireturn, 1) := dk_172 (dk_at dksX0_act_0 23 rfl rfl)
theorem dX0_act_24 : decode cX0_act 24 = .ok (.aload_n 0, 1) := dk_42 (dk_at dksX0_act_1 0 rfl rfl)
theorem dX0_act_25 : decode cX0_act 25 = .ok (.getfield 77, 3) := dk_180 0 77 (dk_at dksX0_act_1 1 rfl rfl)
theorem dX0_act_28 : decode cX0_act 28 = .ok (.iload_n 1, 1) := dk_27 (dk_at dksX0_act_1 4 rfl rfl)
theorem dX0_act_29 : decode cX0_act 29 = .ok (.aaload, 1) := dk_50 (dk_at dksX0_act_1 5 rfl rfl)
theorem dX0_act_30 : decode cX0_act 30 = .ok (.astore 4, 2) := dk_58 4 (dk_at dksX0_act_1 6 rfl rfl)
theorem dX0_act_32 : decode cX0_act 32 = .ok (.iload_n 2, 1) := dk_28 (dk_at dksX0_act_1 8 rfl rfl)
theorem dX0_act_33 : decode cX0_act 33 = .ok (.ifCond .ne 16, 3) := dk_154 0 16 (dk_at dksX0_act_1 9 rfl rfl)
theorem dX0_act_36 : decode cX0_act 36 = .ok (.aload 4, 2) := dk_25 4 (dk_at dksX0_act_1 12 rfl rfl)
theorem dX0_act_38 : decode cX0_act 38 = .ok (.astore 5, 2) := dk_58 5 (dk_at dksX0_act_1 14 rfl rfl)
theorem dX0_act_40 : decode cX0_act 40 = .ok (.aload 5, 2) := dk_25 5 (dk_at dksX0_act_1 16 rfl rfl)
theorem dX0_act_42 : decode cX0_act 42 = .ok (.iload_n 3, 1) := dk_29 (dk_at dksX0_act_1 18 rfl rfl)
theorem dX0_act_43 : decode cX0_act 43 = .ok (.invokeinterface 364 2, 5) := by decide +kernel
theorem dX0_act_48 : decode cX0_act 48 = .ok (.ireturn, 1) := dk_172 (dk_at dksX0_act_2 0 rfl rfl)
theorem dX0_act_49 : decode cX0_act 49 = .ok (.iload_n 2, 1) := dk_28 (dk_at dksX0_act_2 1 rfl rfl)
theorem dX0_act_50 : decode cX0_act 50 = .ok (.iconst 3, 1) := dk_6 (dk_at dksX0_act_2 2 rfl rfl)
theorem dX0_act_51 : decode cX0_act 51 = .ok (.if_icmp .ne 16, 3) := dk_160 0 16 (dk_at dksX0_act_2 3 rfl rfl)
theorem dX0_act_54 : decode cX0_act 54 = .ok (.aload 4, 2) := dk_25 4 (dk_at dksX0_act_2 6 rfl rfl)
theorem dX0_act_56 : decode cX0_act 56 = .ok (.astore 5, 2) := dk_58 5 (dk_at dksX0_act_2 8 rfl rfl)
theorem dX0_act_58 : decode cX0_act 58 = .ok (.aload 5, 2) := dk_25 5 (dk_at dksX0_act_2 10 rfl rfl)
theorem dX0_act_60 : decode cX0_act 60 = .ok (.iload_n 3, 1) := dk_29 (dk_at dksX0_act_2 12 rfl rfl)
theorem dX0_act_61 : decode cX0_act 61 = .ok (.invokeinterface 369 2, 5) := by decide +kernel
theorem dX0_act_66 : decode cX0_act 66 = .ok (.ireturn, 1) := dk_172 (dk_at dksX0_act_2 18 rfl rfl)
theorem dX0_act_67 : decode cX0_act 67 = .ok (.iload_n 2, 1) := dk_28 (dk_at dksX0_act_2 19 rfl rfl)
theorem dX0_act_68 : decode cX0_act 68 = .ok (.iconst 1, 1) := dk_4 (dk_at dksX0_act_2 20 rfl rfl)
theorem dX0_act_69 : decode cX0_act 69 = .ok (.if_icmp .ne 12, 3) := dk_160 0 12 (dk_at dksX0_act_2 21 rfl rfl)
theorem dX0_act_72 : decode cX0_act 72 = .ok (.aload 4, 2) := dk_25 4 (dk_at dksX0_act_3 0 rfl rfl)
theorem dX0_act_74 : decode cX0_act 74 = .ok (.iload_n 3, 1) := dk_29 (dk_at dksX0_act_3 2 rfl rfl)
theorem dX0_act_75 : decode cX0_act 75 = .ok (.invokevirtual 374, 3) := dk_182 1 118 (dk_at dksX0_act_3 3 rfl rfl)
theorem dX0_act_78 : decode cX0_act 78 = .ok (.goto 9, 3) := dk_167 0 9 (dk_at dksX0_act_3 6 rfl rfl)
theorem dX0_act_81 : decode cX0_act 81 = .ok (.aload 4, 2) := dk_25 4 (dk_at dksX0_act_3 9 rfl rfl)
theorem dX0_act_83 : decode cX0_act 83 = .ok (.iload_n 3, 1) := dk_29 (dk_at dksX0_act_3 11 rfl rfl)
theorem dX0_act_84 : decode cX0_act 84 = .ok (.invokevirtual 377, 3) := dk_182 1 121 (dk_at dksX0_act_3 12 rfl rfl)
theorem dX0_act_87 : decode cX0_act 87 = .ok (.ireturn, 1) := dk_172 (dk_at dksX0_act_3 15 rfl rfl)
abbrev cX0_isBody : ByteArray := prog_1_method_58_code
def yX0_isBody : MethodName := ⟨RX0, "isBody", "(I)Z"⟩
def dkwX0_isBody_0 : List UInt8 := [27, 3, 42, 180, 1, 75, 4, 100, 184, 0, 91, 172]
abbrev dktX0_isBody_0 : List UInt8 := dkwX0_isBody_0 ++ []
theorem dksX0_isBody_0 : cX0_isBody.data.toList.drop 0 = dktX0_isBody_0 := by decide +kernel
theorem dX0_isBody_0 : decode cX0_isBody 0 = .ok (.iload_n 1, 1) := dk_27 (dk_at dksX0_isBody_0 0 rfl rfl)
theorem dX0_isBody_1 : decode cX0_isBody 1 = .ok (.iconst 0, 1) := dk_3 (dk_at dksX0_isBody_0 1 rfl rfl)
theorem dX0_isBody_2 : decode cX0_isBody 2 = .ok (.aload_n 0, 1) := dk_42 (dk_at dksX0_isBody_0 2 rfl rfl)
theorem dX0_isBody_3 : decode cX0_isBody 3 = .ok (.getfield 331, 3) := dk_180 1 75 (dk_at dksX0_isBody_0 3 rfl rfl)
theorem dX0_isBody_6 : decode cX0_isBody 6 = .ok (.iconst 1, 1) := dk_4 (dk_at dksX0_isBody_0 6 rfl rfl)
theorem dX0_isBody_7 : decode cX0_isBody 7 = .ok (.isub, 1) := dk_100 (dk_at dksX0_isBody_0 7 rfl rfl)
theorem dX0_isBody_8 : decode cX0_isBody 8 = .ok (.invokestatic 91, 3) := dk_184 0 91 (dk_at dksX0_isBody_0 8 rfl rfl)
theorem dX0_isBody_11 : decode cX0_isBody 11 = .ok (.ireturn, 1) := dk_172 (dk_at dksX0_isBody_0 11 rfl rfl)
abbrev cX0_ran : ByteArray := prog_1_method_57_code
def yX0_ran : MethodName := ⟨RX0, "ran", "(I)V"⟩
def dkwX0_ran_1 : List UInt8 := [180, 1, 72, 4, 96, 181, 1, 72, 177]
abbrev dktX0_ran_1 : List UInt8 := dkwX0_ran_1 ++ []
def dkwX0_ran_0 : List UInt8 := [42, 180, 1, 72, 16, 24, 162, 0, 14, 42, 180, 0, 72, 42, 180, 1, 72, 27, 145, 84, 42, 89]
abbrev dktX0_ran_0 : List UInt8 := dkwX0_ran_0 ++ dktX0_ran_1
theorem dksX0_ran_0 : cX0_ran.data.toList.drop 0 = dktX0_ran_0 := by decide +kernel
theorem dksX0_ran_1 : cX0_ran.data.toList.drop 22 = dktX0_ran_1 := dk_seg dksX0_ran_0 22 rfl rfl
theorem dX0_ran_0 : decode cX0_ran 0 = .ok (.aload_n 0, 1) := dk_42 (dk_at dksX0_ran_0 0 rfl rfl)
theorem dX0_ran_1 : decode cX0_ran 1 = .ok (.getfield 328, 3) := dk_180 1 72 (dk_at dksX0_ran_0 1 rfl rfl)
theorem dX0_ran_4 : decode cX0_ran 4 = .ok (.bipush 24, 2) := dk_16 24 (dk_at dksX0_ran_0 4 rfl rfl)
theorem dX0_ran_6 : decode cX0_ran 6 = .ok (.if_icmp .ge 14, 3) := dk_162 0 14 (dk_at dksX0_ran_0 6 rfl rfl)
theorem dX0_ran_9 : decode cX0_ran 9 = .ok (.aload_n 0, 1) := dk_42 (dk_at dksX0_ran_0 9 rfl rfl)
theorem dX0_ran_10 : decode cX0_ran 10 = .ok (.getfield 72, 3) := dk_180 0 72 (dk_at dksX0_ran_0 10 rfl rfl)
theorem dX0_ran_13 : decode cX0_ran 13 = .ok (.aload_n 0, 1) := dk_42 (dk_at dksX0_ran_0 13 rfl rfl)
theorem dX0_ran_14 : decode cX0_ran 14 = .ok (.getfield 328, 3) := dk_180 1 72 (dk_at dksX0_ran_0 14 rfl rfl)
theorem dX0_ran_17 : decode cX0_ran 17 = .ok (.iload_n 1, 1) := dk_27 (dk_at dksX0_ran_0 17 rfl rfl)
theorem dX0_ran_18 : decode cX0_ran 18 = .ok (.i2b, 1) := dk_145 (dk_at dksX0_ran_0 18 rfl rfl)
theorem dX0_ran_19 : decode cX0_ran 19 = .ok (.bastore, 1) := dk_84 (dk_at dksX0_ran_0 19 rfl rfl)
theorem dX0_ran_20 : decode cX0_ran 20 = .ok (.aload_n 0, 1) := dk_42 (dk_at dksX0_ran_0 20 rfl rfl)
theorem dX0_ran_21 : decode cX0_ran 21 = .ok (.dup, 1) := dk_89 (dk_at dksX0_ran_0 21 rfl rfl)
theorem dX0_ran_22 : decode cX0_ran 22 = .ok (.getfield 328, 3) := dk_180 1 72 (dk_at dksX0_ran_1 0 rfl rfl)
theorem dX0_ran_25 : decode cX0_ran 25 = .ok (.iconst 1, 1) := dk_4 (dk_at dksX0_ran_1 3 rfl rfl)
theorem dX0_ran_26 : decode cX0_ran 26 = .ok (.iadd, 1) := dk_96 (dk_at dksX0_ran_1 4 rfl rfl)
theorem dX0_ran_27 : decode cX0_ran 27 = .ok (.putfield 328, 3) := dk_181 1 72 (dk_at dksX0_ran_1 5 rfl rfl)
theorem dX0_ran_30 : decode cX0_ran 30 = .ok (.return_, 1) := dk_177 (dk_at dksX0_ran_1 8 rfl rfl)
abbrev cX0_trace : ByteArray := prog_1_method_63_code
def yX0_trace : MethodName := ⟨RX0, "trace", "(I)I"⟩
def dkwX0_trace_1 : List UInt8 := [167, 0, 4, 2, 172]
abbrev dktX0_trace_1 : List UInt8 := dkwX0_trace_1 ++ []
def dkwX0_trace_0 : List UInt8 := [27, 155, 0, 26, 27, 42, 180, 1, 72, 162, 0, 18, 27, 16, 24, 162, 0, 12, 42, 180, 0, 72, 27, 51]
abbrev dktX0_trace_0 : List UInt8 := dkwX0_trace_0 ++ dktX0_trace_1
theorem dksX0_trace_0 : cX0_trace.data.toList.drop 0 = dktX0_trace_0 := by decide +kernel
theorem dksX0_trace_1 : cX0_trace.data.toList.drop 24 = dktX0_trace_1 := dk_seg dksX0_trace_0 24 rfl rfl
theorem dX0_trace_0 : decode cX0_trace 0 = .ok (.iload_n 1, 1) := dk_27 (dk_at dksX0_trace_0 0 rfl rfl)
theorem dX0_trace_1 : decode cX0_trace 1 = .ok (.ifCond .lt 26, 3) := dk_155 0 26 (dk_at dksX0_trace_0 1 rfl rfl)
theorem dX0_trace_4 : decode cX0_trace 4 = .ok (.iload_n 1, 1) := dk_27 (dk_at dksX0_trace_0 4 rfl rfl)
theorem dX0_trace_5 : decode cX0_trace 5 = .ok (.aload_n 0, 1) := dk_42 (dk_at dksX0_trace_0 5 rfl rfl)
theorem dX0_trace_6 : decode cX0_trace 6 = .ok (.getfield 328, 3) := dk_180 1 72 (dk_at dksX0_trace_0 6 rfl rfl)
theorem dX0_trace_9 : decode cX0_trace 9 = .ok (.if_icmp .ge 18, 3) := dk_162 0 18 (dk_at dksX0_trace_0 9 rfl rfl)
theorem dX0_trace_12 : decode cX0_trace 12 = .ok (.iload_n 1, 1) := dk_27 (dk_at dksX0_trace_0 12 rfl rfl)
theorem dX0_trace_13 : decode cX0_trace 13 = .ok (.bipush 24, 2) := dk_16 24 (dk_at dksX0_trace_0 13 rfl rfl)
theorem dX0_trace_15 : decode cX0_trace 15 = .ok (.if_icmp .ge 12, 3) := dk_162 0 12 (dk_at dksX0_trace_0 15 rfl rfl)
theorem dX0_trace_18 : decode cX0_trace 18 = .ok (.aload_n 0, 1) := dk_42 (dk_at dksX0_trace_0 18 rfl rfl)
theorem dX0_trace_19 : decode cX0_trace 19 = .ok (.getfield 72, 3) := dk_180 0 72 (dk_at dksX0_trace_0 19 rfl rfl)
theorem dX0_trace_22 : decode cX0_trace 22 = .ok (.iload_n 1, 1) := dk_27 (dk_at dksX0_trace_0 22 rfl rfl)
theorem dX0_trace_23 : decode cX0_trace 23 = .ok (.baload, 1) := dk_51 (dk_at dksX0_trace_0 23 rfl rfl)
theorem dX0_trace_24 : decode cX0_trace 24 = .ok (.goto 4, 3) := dk_167 0 4 (dk_at dksX0_trace_1 0 rfl rfl)
theorem dX0_trace_27 : decode cX0_trace 27 = .ok (.iconst (-1), 1) := dk_2 (dk_at dksX0_trace_1 3 rfl rfl)
theorem dX0_trace_28 : decode cX0_trace 28 = .ok (.ireturn, 1) := dk_172 (dk_at dksX0_trace_1 4 rfl rfl)
abbrev cX0_keep : ByteArray := prog_1_method_64_code
def yX0_keep : MethodName := ⟨RX0, "keep", "(II)I"⟩
def dkwX0_keep_1 : List UInt8 := [180, 0, 83, 27, 28, 156, 0, 7, 1, 167, 0, 9, 42, 180, 0, 77, 28, 50, 83, 4, 172]
abbrev dktX0_keep_1 : List UInt8 := dkwX0_keep_1 ++ []
def dkwX0_keep_0 : List UInt8 := [27, 184, 0, 105, 153, 0, 16, 28, 2, 159, 0, 13, 42, 28, 182, 1, 105, 154, 0, 5, 2, 172, 42]
abbrev dktX0_keep_0 : List UInt8 := dkwX0_keep_0 ++ dktX0_keep_1
theorem dksX0_keep_0 : cX0_keep.data.toList.drop 0 = dktX0_keep_0 := by decide +kernel
theorem dksX0_keep_1 : cX0_keep.data.toList.drop 23 = dktX0_keep_1 := dk_seg dksX0_keep_0 23 rfl rfl
theorem dX0_keep_0 : decode cX0_keep 0 = .ok (.iload_n 1, 1) := dk_27 (dk_at dksX0_keep_0 0 rfl rfl)
theorem dX0_keep_1 : decode cX0_keep 1 = .ok (.invokestatic 105, 3) := dk_184 0 105 (dk_at dksX0_keep_0 1 rfl rfl)
theorem dX0_keep_4 : decode cX0_keep 4 = .ok (.ifCond .eq 16, 3) := dk_153 0 16 (dk_at dksX0_keep_0 4 rfl rfl)
theorem dX0_keep_7 : decode cX0_keep 7 = .ok (.iload_n 2, 1) := dk_28 (dk_at dksX0_keep_0 7 rfl rfl)
theorem dX0_keep_8 : decode cX0_keep 8 = .ok (.iconst (-1), 1) := dk_2 (dk_at dksX0_keep_0 8 rfl rfl)
theorem dX0_keep_9 : decode cX0_keep 9 = .ok (.if_icmp .eq 13, 3) := dk_159 0 13 (dk_at dksX0_keep_0 9 rfl rfl)
theorem dX0_keep_12 : decode cX0_keep 12 = .ok (.aload_n 0, 1) := dk_42 (dk_at dksX0_keep_0 12 rfl rfl)
theorem dX0_keep_13 : decode cX0_keep 13 = .ok (.iload_n 2, 1) := dk_28 (dk_at dksX0_keep_0 13 rfl rfl)
theorem dX0_keep_14 : decode cX0_keep 14 = .ok (.invokevirtual 361, 3) := dk_182 1 105 (dk_at dksX0_keep_0 14 rfl rfl)
theorem dX0_keep_17 : decode cX0_keep 17 = .ok (.ifCond .ne 5, 3) := dk_154 0 5 (dk_at dksX0_keep_0 17 rfl rfl)
theorem dX0_keep_20 : decode cX0_keep 20 = .ok (.iconst (-1), 1) := dk_2 (dk_at dksX0_keep_0 20 rfl rfl)
theorem dX0_keep_21 : decode cX0_keep 21 = .ok (.ireturn, 1) := dk_172 (dk_at dksX0_keep_0 21 rfl rfl)
theorem dX0_keep_22 : decode cX0_keep 22 = .ok (.aload_n 0, 1) := dk_42 (dk_at dksX0_keep_0 22 rfl rfl)
theorem dX0_keep_23 : decode cX0_keep 23 = .ok (.getfield 83, 3) := dk_180 0 83 (dk_at dksX0_keep_1 0 rfl rfl)
theorem dX0_keep_26 : decode cX0_keep 26 = .ok (.iload_n 1, 1) := dk_27 (dk_at dksX0_keep_1 3 rfl rfl)
theorem dX0_keep_27 : decode cX0_keep 27 = .ok (.iload_n 2, 1) := dk_28 (dk_at dksX0_keep_1 4 rfl rfl)
theorem dX0_keep_28 : decode cX0_keep 28 = .ok (.ifCond .ge 7, 3) := dk_156 0 7 (dk_at dksX0_keep_1 5 rfl rfl)
theorem dX0_keep_31 : decode cX0_keep 31 = .ok (.aconst_null, 1) := dk_1 (dk_at dksX0_keep_1 8 rfl rfl)
theorem dX0_keep_32 : decode cX0_keep 32 = .ok (.goto 9, 3) := dk_167 0 9 (dk_at dksX0_keep_1 9 rfl rfl)
theorem dX0_keep_35 : decode cX0_keep 35 = .ok (.aload_n 0, 1) := dk_42 (dk_at dksX0_keep_1 12 rfl rfl)
theorem dX0_keep_36 : decode cX0_keep 36 = .ok (.getfield 77, 3) := dk_180 0 77 (dk_at dksX0_keep_1 13 rfl rfl)
theorem dX0_keep_39 : decode cX0_keep 39 = .ok (.iload_n 2, 1) := dk_28 (dk_at dksX0_keep_1 16 rfl rfl)
theorem dX0_keep_40 : decode cX0_keep 40 = .ok (.aaload, 1) := dk_50 (dk_at dksX0_keep_1 17 rfl rfl)
theorem dX0_keep_41 : decode cX0_keep 41 = .ok (.aastore, 1) := dk_83 (dk_at dksX0_keep_1 18 rfl rfl)
theorem dX0_keep_42 : decode cX0_keep 42 = .ok (.iconst 1, 1) := dk_4 (dk_at dksX0_keep_1 19 rfl rfl)
theorem dX0_keep_43 : decode cX0_keep 43 = .ok (.ireturn, 1) := dk_172 (dk_at dksX0_keep_1 20 rfl rfl)
abbrev cX0_row : ByteArray := prog_1_method_66_code
def yX0_row : MethodName := ⟨RX0, "row", "(III)I"⟩
def dkwX0_row_1 : List UInt8 := [42, 180, 0, 83, 27, 28, 29, 184, 1, 138, 83, 167, 0, 8, 58, 4, 16, 242, 172, 4, 172]
abbrev dktX0_row_1 : List UInt8 := dkwX0_row_1 ++ []
def dkwX0_row_0 : List UInt8 := [27, 184, 0, 105, 153, 0, 18, 28, 3, 7, 184, 0, 91, 153, 0, 9, 29, 16, 60, 164, 0, 5, 2, 172]
abbrev dktX0_row_0 : List UInt8 := dkwX0_row_0 ++ dktX0_row_1
theorem dksX0_row_0 : cX0_row.data.toList.drop 0 = dktX0_row_0 := by decide +kernel
theorem dksX0_row_1 : cX0_row.data.toList.drop 24 = dktX0_row_1 := dk_seg dksX0_row_0 24 rfl rfl
theorem dX0_row_0 : decode cX0_row 0 = .ok (.iload_n 1, 1) := dk_27 (dk_at dksX0_row_0 0 rfl rfl)
theorem dX0_row_1 : decode cX0_row 1 = .ok (.invokestatic 105, 3) := dk_184 0 105 (dk_at dksX0_row_0 1 rfl rfl)
theorem dX0_row_4 : decode cX0_row 4 = .ok (.ifCond .eq 18, 3) := dk_153 0 18 (dk_at dksX0_row_0 4 rfl rfl)
theorem dX0_row_7 : decode cX0_row 7 = .ok (.iload_n 2, 1) := dk_28 (dk_at dksX0_row_0 7 rfl rfl)
theorem dX0_row_8 : decode cX0_row 8 = .ok (.iconst 0, 1) := dk_3 (dk_at dksX0_row_0 8 rfl rfl)
theorem dX0_row_9 : decode cX0_row 9 = .ok (.iconst 4, 1) := dk_7 (dk_at dksX0_row_0 9 rfl rfl)
theorem dX0_row_10 : decode cX0_row 10 = .ok (.invokestatic 91, 3) := dk_184 0 91 (dk_at dksX0_row_0 10 rfl rfl)
theorem dX0_row_13 : decode cX0_row 13 = .ok (.ifCond .eq 9, 3) := dk_153 0 9 (dk_at dksX0_row_0 13 rfl rfl)
theorem dX0_row_16 : decode cX0_row 16 = .ok (.iload_n 3, 1) := dk_29 (dk_at dksX0_row_0 16 rfl rfl)
theorem dX0_row_17 : decode cX0_row 17 = .ok (.bipush 60, 2) := dk_16 60 (dk_at dksX0_row_0 17 rfl rfl)
theorem dX0_row_19 : decode cX0_row 19 = .ok (.if_icmp .le 5, 3) := dk_164 0 5 (dk_at dksX0_row_0 19 rfl rfl)
theorem dX0_row_22 : decode cX0_row 22 = .ok (.iconst (-1), 1) := dk_2 (dk_at dksX0_row_0 22 rfl rfl)
theorem dX0_row_23 : decode cX0_row 23 = .ok (.ireturn, 1) := dk_172 (dk_at dksX0_row_0 23 rfl rfl)
theorem dX0_row_24 : decode cX0_row 24 = .ok (.aload_n 0, 1) := dk_42 (dk_at dksX0_row_1 0 rfl rfl)
theorem dX0_row_25 : decode cX0_row 25 = .ok (.getfield 83, 3) := dk_180 0 83 (dk_at dksX0_row_1 1 rfl rfl)
theorem dX0_row_28 : decode cX0_row 28 = .ok (.iload_n 1, 1) := dk_27 (dk_at dksX0_row_1 4 rfl rfl)
theorem dX0_row_29 : decode cX0_row 29 = .ok (.iload_n 2, 1) := dk_28 (dk_at dksX0_row_1 5 rfl rfl)
theorem dX0_row_30 : decode cX0_row 30 = .ok (.iload_n 3, 1) := dk_29 (dk_at dksX0_row_1 6 rfl rfl)
theorem dX0_row_31 : decode cX0_row 31 = .ok (.invokestatic 394, 3) := dk_184 1 138 (dk_at dksX0_row_1 7 rfl rfl)
theorem dX0_row_34 : decode cX0_row 34 = .ok (.aastore, 1) := dk_83 (dk_at dksX0_row_1 10 rfl rfl)
theorem dX0_row_35 : decode cX0_row 35 = .ok (.goto 8, 3) := dk_167 0 8 (dk_at dksX0_row_1 11 rfl rfl)
theorem dX0_row_38 : decode cX0_row 38 = .ok (.astore 4, 2) := dk_58 4 (dk_at dksX0_row_1 14 rfl rfl)
theorem dX0_row_40 : decode cX0_row 40 = .ok (.bipush (-14), 2) := dk_16 242 (dk_at dksX0_row_1 16 rfl rfl)
theorem dX0_row_42 : decode cX0_row 42 = .ok (.ireturn, 1) := dk_172 (dk_at dksX0_row_1 18 rfl rfl)
theorem dX0_row_43 : decode cX0_row 43 = .ok (.iconst 1, 1) := dk_4 (dk_at dksX0_row_1 19 rfl rfl)
theorem dX0_row_44 : decode cX0_row 44 = .ok (.ireturn, 1) := dk_172 (dk_at dksX0_row_1 20 rfl rfl)
abbrev cX0_newRow : ByteArray := prog_1_method_65_code
def yX0_newRow : MethodName := ⟨RX0, "newRow", "(II)LPointsForAll$Row;"⟩
def dkwX0_newRow_3 : List UInt8 := [183, 1, 131, 176, 187, 1, 132, 89, 27, 183, 1, 134, 176, 187, 1, 135, 89, 27, 183, 1, 137, 176]
abbrev dktX0_newRow_3 : List UInt8 := dkwX0_newRow_3 ++ []
def dkwX0_newRow_2 : List UInt8 := [187, 1, 124, 89, 27, 183, 1, 126, 176, 187, 0, 109, 89, 27, 183, 1, 128, 176, 187, 1, 129, 89, 27]
abbrev dktX0_newRow_2 : List UInt8 := dkwX0_newRow_2 ++ dktX0_newRow_3
def dkwX0_newRow_1 : List UInt8 := [170, 0, 0, 0, 0, 0, 67, 0, 0, 0, 0, 0, 0, 0, 3, 0, 0, 0, 31, 0, 0, 0, 40, 0, 0, 0, 49, 0, 0, 0, 58]
abbrev dktX0_newRow_1 : List UInt8 := dkwX0_newRow_1 ++ dktX0_newRow_2
def dkwX0_newRow_0 : List UInt8 := [26]
abbrev dktX0_newRow_0 : List UInt8 := dkwX0_newRow_0 ++ dktX0_newRow_1
theorem dksX0_newRow_0 : cX0_newRow.data.toList.drop 0 = dktX0_newRow_0 := by decide +kernel
theorem dksX0_newRow_1 : cX0_newRow.data.toList.drop 1 = dktX0_newRow_1 := dk_seg dksX0_newRow_0 1 rfl rfl
theorem dksX0_newRow_2 : cX0_newRow.data.toList.drop 32 = dktX0_newRow_2 := dk_seg dksX0_newRow_1 31 rfl rfl
theorem dksX0_newRow_3 : cX0_newRow.data.toList.drop 55 = dktX0_newRow_3 := dk_seg dksX0_newRow_2 23 rfl rfl
theorem dX0_newRow_0 : decode cX0_newRow 0 = .ok (.iload_n 0, 1) := dk_26 (dk_at dksX0_newRow_0 0 rfl rfl)
theorem dX0_newRow_1 : decode cX0_newRow 1 = .ok (.tableswitch 67 0 3 #[31, 40, 49, 58], 31) := by decide +kernel
theorem dX0_newRow_32 : decode cX0_newRow 32 = .ok (.new 380, 3) := dk_187 1 124 (dk_at dksX0_newRow_2 0 rfl rfl)
theorem dX0_newRow_35 : decode cX0_newRow 35 = .ok (.dup, 1) := dk_89 (dk_at dksX0_newRow_2 3 rfl rfl)
theorem dX0_newRow_36 : decode cX0_newRow 36 = .ok (.iload_n 1, 1) := dk_27 (dk_at dksX0_newRow_2 4 rfl rfl)
theorem dX0_newRow_37 : decode cX0_newRow 37 = .ok (.invokespecial 382, 3) := dk_183 1 126 (dk_at dksX0_newRow_2 5 rfl rfl)
theorem dX0_newRow_40 : decode cX0_newRow 40 = .ok (.areturn, 1) := dk_176 (dk_at dksX0_newRow_2 8 rfl rfl)
theorem dX0_newRow_41 : decode cX0_newRow 41 = .ok (.new 109, 3) := dk_187 0 109 (dk_at dksX0_newRow_2 9 rfl rfl)
theorem dX0_newRow_44 : decode cX0_newRow 44 = .ok (.dup, 1) := dk_89 (dk_at dksX0_newRow_2 12 rfl rfl)
theorem dX0_newRow_45 : decode cX0_newRow 45 = .ok (.iload_n 1, 1) := dk_27 (dk_at dksX0_newRow_2 13 rfl rfl)
theorem dX0_newRow_46 : decode cX0_newRow 46 = .ok (.invokespecial 384, 3) := dk_183 1 128 (dk_at dksX0_newRow_2 14 rfl rfl)
theorem dX0_newRow_49 : decode cX0_newRow 49 = .ok (.areturn, 1) := dk_176 (dk_at dksX0_newRow_2 17 rfl rfl)
theorem dX0_newRow_50 : decode cX0_newRow 50 = .ok (.new 385, 3) := dk_187 1 129 (dk_at dksX0_newRow_2 18 rfl rfl)
theorem dX0_newRow_53 : decode cX0_newRow 53 = .ok (.dup, 1) := dk_89 (dk_at dksX0_newRow_2 21 rfl rfl)
theorem dX0_newRow_54 : decode cX0_newRow 54 = .ok (.iload_n 1, 1) := dk_27 (dk_at dksX0_newRow_2 22 rfl rfl)
theorem dX0_newRow_55 : decode cX0_newRow 55 = .ok (.invokespecial 387, 3) := dk_183 1 131 (dk_at dksX0_newRow_3 0 rfl rfl)
theorem dX0_newRow_58 : decode cX0_newRow 58 = .ok (.areturn, 1) := dk_176 (dk_at dksX0_newRow_3 3 rfl rfl)
theorem dX0_newRow_59 : decode cX0_newRow 59 = .ok (.new 388, 3) := dk_187 1 132 (dk_at dksX0_newRow_3 4 rfl rfl)
theorem dX0_newRow_62 : decode cX0_newRow 62 = .ok (.dup, 1) := dk_89 (dk_at dksX0_newRow_3 7 rfl rfl)
theorem dX0_newRow_63 : decode cX0_newRow 63 = .ok (.iload_n 1, 1) := dk_27 (dk_at dksX0_newRow_3 8 rfl rfl)
theorem dX0_newRow_64 : decode cX0_newRow 64 = .ok (.invokespecial 390, 3) := dk_183 1 134 (dk_at dksX0_newRow_3 9 rfl rfl)
theorem dX0_newRow_67 : decode cX0_newRow 67 = .ok (.areturn, 1) := dk_176 (dk_at dksX0_newRow_3 12 rfl rfl)
theorem dX0_newRow_68 : decode cX0_newRow 68 = .ok (.new 391, 3) := dk_187 1 135 (dk_at dksX0_newRow_3 13 rfl rfl)
theorem dX0_newRow_71 : decode cX0_newRow 71 = .ok (.dup, 1) := dk_89 (dk_at dksX0_newRow_3 16 rfl rfl)
theorem dX0_newRow_72 : decode cX0_newRow 72 = .ok (.iload_n 1, 1) := dk_27 (dk_at dksX0_newRow_3 17 rfl rfl)
theorem dX0_newRow_73 : decode cX0_newRow 73 = .ok (.invokespecial 393, 3) := dk_183 1 137 (dk_at dksX0_newRow_3 18 rfl rfl)
theorem dX0_newRow_76 : decode cX0_newRow 76 = .ok (.areturn, 1) := dk_176 (dk_at dksX0_newRow_3 21 rfl rfl)
abbrev cX0_put : ByteArray := prog_1_method_67_code
def yX0_put : MethodName := ⟨RX0, "put", "(IIJ)I"⟩
def dkwX0_put_1 : List UInt8 := [153, 0, 7, 4, 167, 0, 4, 2, 172, 58, 5, 16, 245, 172, 58, 5, 16, 244, 172, 58, 5, 16, 243, 172]
abbrev dktX0_put_1 : List UInt8 := dkwX0_put_1 ++ []
def dkwX0_put_0 : List UInt8 := [27, 184, 0, 105, 154, 0, 5, 2, 172, 42, 180, 0, 83, 27, 50, 192, 1, 144, 28, 33, 182, 1, 146]
abbrev dktX0_put_0 : List UInt8 := dkwX0_put_0 ++ dktX0_put_1
theorem dksX0_put_0 : cX0_put.data.toList.drop 0 = dktX0_put_0 := by decide +kernel
theorem dksX0_put_1 : cX0_put.data.toList.drop 23 = dktX0_put_1 := dk_seg dksX0_put_0 23 rfl rfl
theorem dX0_put_0 : decode cX0_put 0 = .ok (.iload_n 1, 1) := dk_27 (dk_at dksX0_put_0 0 rfl rfl)
theorem dX0_put_1 : decode cX0_put 1 = .ok (.invokestatic 105, 3) := dk_184 0 105 (dk_at dksX0_put_0 1 rfl rfl)
theorem dX0_put_4 : decode cX0_put 4 = .ok (.ifCond .ne 5, 3) := dk_154 0 5 (dk_at dksX0_put_0 4 rfl rfl)
theorem dX0_put_7 : decode cX0_put 7 = .ok (.iconst (-1), 1) := dk_2 (dk_at dksX0_put_0 7 rfl rfl)
theorem dX0_put_8 : decode cX0_put 8 = .ok (.ireturn, 1) := dk_172 (dk_at dksX0_put_0 8 rfl rfl)
theorem dX0_put_9 : decode cX0_put 9 = .ok (.aload_n 0, 1) := dk_42 (dk_at dksX0_put_0 9 rfl rfl)
theorem dX0_put_10 : decode cX0_put 10 = .ok (.getfield 83, 3) := dk_180 0 83 (dk_at dksX0_put_0 10 rfl rfl)
theorem dX0_put_13 : decode cX0_put 13 = .ok (.iload_n 1, 1) := dk_27 (dk_at dksX0_put_0 13 rfl rfl)
theorem dX0_put_14 : decode cX0_put 14 = .ok (.aaload, 1) := dk_50 (dk_at dksX0_put_0 14 rfl rfl)
theorem dX0_put_15 : decode cX0_put 15 = .ok (.checkcast 400, 3) := dk_192 1 144 (dk_at dksX0_put_0 15 rfl rfl)
theorem dX0_put_18 : decode cX0_put 18 = .ok (.iload_n 2, 1) := dk_28 (dk_at dksX0_put_0 18 rfl rfl)
theorem dX0_put_19 : decode cX0_put 19 = .ok (.lload_n 3, 1) := dk_33 (dk_at dksX0_put_0 19 rfl rfl)
theorem dX0_put_20 : decode cX0_put 20 = .ok (.invokevirtual 402, 3) := dk_182 1 146 (dk_at dksX0_put_0 20 rfl rfl)
theorem dX0_put_23 : decode cX0_put 23 = .ok (.ifCond .eq 7, 3) := dk_153 0 7 (dk_at dksX0_put_1 0 rfl rfl)
theorem dX0_put_26 : decode cX0_put 26 = .ok (.iconst 1, 1) := dk_4 (dk_at dksX0_put_1 3 rfl rfl)
theorem dX0_put_27 : decode cX0_put 27 = .ok (.goto 4, 3) := dk_167 0 4 (dk_at dksX0_put_1 4 rfl rfl)
theorem dX0_put_30 : decode cX0_put 30 = .ok (.iconst (-1), 1) := dk_2 (dk_at dksX0_put_1 7 rfl rfl)
theorem dX0_put_31 : decode cX0_put 31 = .ok (.ireturn, 1) := dk_172 (dk_at dksX0_put_1 8 rfl rfl)
theorem dX0_put_32 : decode cX0_put 32 = .ok (.astore 5, 2) := dk_58 5 (dk_at dksX0_put_1 9 rfl rfl)
theorem dX0_put_34 : decode cX0_put 34 = .ok (.bipush (-11), 2) := dk_16 245 (dk_at dksX0_put_1 11 rfl rfl)
theorem dX0_put_36 : decode cX0_put 36 = .ok (.ireturn, 1) := dk_172 (dk_at dksX0_put_1 13 rfl rfl)
theorem dX0_put_37 : decode cX0_put 37 = .ok (.astore 5, 2) := dk_58 5 (dk_at dksX0_put_1 14 rfl rfl)
theorem dX0_put_39 : decode cX0_put 39 = .ok (.bipush (-12), 2) := dk_16 244 (dk_at dksX0_put_1 16 rfl rfl)
theorem dX0_put_41 : decode cX0_put 41 = .ok (.ireturn, 1) := dk_172 (dk_at dksX0_put_1 18 rfl rfl)
theorem dX0_put_42 : decode cX0_put 42 = .ok (.astore 5, 2) := dk_58 5 (dk_at dksX0_put_1 19 rfl rfl)
theorem dX0_put_44 : decode cX0_put 44 = .ok (.bipush (-13), 2) := dk_16 243 (dk_at dksX0_put_1 21 rfl rfl)
theorem dX0_put_46 : decode cX0_put 46 = .ok (.ireturn, 1) := dk_172 (dk_at dksX0_put_1 23 rfl rfl)
abbrev cX0_element : ByteArray := prog_1_method_68_code
def yX0_element : MethodName := ⟨RX0, "element", "(II)J"⟩
def dkwX0_element_1 : List UInt8 := [173, 78, 20, 1, 152, 173, 78, 20, 1, 152, 173, 78, 20, 1, 152, 173]
abbrev dktX0_element_1 : List UInt8 := dkwX0_element_1 ++ []
def dkwX0_element_0 : List UInt8 := [27, 184, 0, 105, 154, 0, 7, 20, 1, 152, 173, 42, 180, 0, 83, 27, 50, 192, 1, 144, 28, 182, 1, 154]
abbrev dktX0_element_0 : List UInt8 := dkwX0_element_0 ++ dktX0_element_1
theorem dksX0_element_0 : cX0_element.data.toList.drop 0 = dktX0_element_0 := by decide +kernel
theorem dksX0_element_1 : cX0_element.data.toList.drop 24 = dktX0_element_1 := dk_seg dksX0_element_0 24 rfl rfl
theorem dX0_element_0 : decode cX0_element 0 = .ok (.iload_n 1, 1) := dk_27 (dk_at dksX0_element_0 0 rfl rfl)
theorem dX0_element_1 : decode cX0_element 1 = .ok (.invokestatic 105, 3) := dk_184 0 105 (dk_at dksX0_element_0 1 rfl rfl)
theorem dX0_element_4 : decode cX0_element 4 = .ok (.ifCond .ne 7, 3) := dk_154 0 7 (dk_at dksX0_element_0 4 rfl rfl)
theorem dX0_element_7 : decode cX0_element 7 = .ok (.ldc2_w 408, 3) := dk_20 1 152 (dk_at dksX0_element_0 7 rfl rfl)
theorem dX0_element_10 : decode cX0_element 10 = .ok (.lreturn, 1) := dk_173 (dk_at dksX0_element_0 10 rfl rfl)
theorem dX0_element_11 : decode cX0_element 11 = .ok (.aload_n 0, 1) := dk_42 (dk_at dksX0_element_0 11 rfl rfl)
theorem dX0_element_12 : decode cX0_element 12 = .ok (.getfield 83, 3) := dk_180 0 83 (dk_at dksX0_element_0 12 rfl rfl)
theorem dX0_element_15 : decode cX0_element 15 = .ok (.iload_n 1, 1) := dk_27 (dk_at dksX0_element_0 15 rfl rfl)
theorem dX0_element_16 : decode cX0_element 16 = .ok (.aaload, 1) := dk_50 (dk_at dksX0_element_0 16 rfl rfl)
theorem dX0_element_17 : decode cX0_element 17 = .ok (.checkcast 400, 3) := dk_192 1 144 (dk_at dksX0_element_0 17 rfl rfl)
theorem dX0_element_20 : decode cX0_element 20 = .ok (.iload_n 2, 1) := dk_28 (dk_at dksX0_element_0 20 rfl rfl)
theorem dX0_element_21 : decode cX0_element 21 = .ok (.invokevirtual 410, 3) := dk_182 1 154 (dk_at dksX0_element_0 21 rfl rfl)
theorem dX0_element_24 : decode cX0_element 24 = .ok (.lreturn, 1) := dk_173 (dk_at dksX0_element_1 0 rfl rfl)
theorem dX0_element_25 : decode cX0_element 25 = .ok (.astore_n 3, 1) := dk_78 (dk_at dksX0_element_1 1 rfl rfl)
theorem dX0_element_26 : decode cX0_element 26 = .ok (.ldc2_w 408, 3) := dk_20 1 152 (dk_at dksX0_element_1 2 rfl rfl)
theorem dX0_element_29 : decode cX0_element 29 = .ok (.lreturn, 1) := dk_173 (dk_at dksX0_element_1 5 rfl rfl)
theorem dX0_element_30 : decode cX0_element 30 = .ok (.astore_n 3, 1) := dk_78 (dk_at dksX0_element_1 6 rfl rfl)
theorem dX0_element_31 : decode cX0_element 31 = .ok (.ldc2_w 408, 3) := dk_20 1 152 (dk_at dksX0_element_1 7 rfl rfl)
theorem dX0_element_34 : decode cX0_element 34 = .ok (.lreturn, 1) := dk_173 (dk_at dksX0_element_1 10 rfl rfl)
theorem dX0_element_35 : decode cX0_element 35 = .ok (.astore_n 3, 1) := dk_78 (dk_at dksX0_element_1 11 rfl rfl)
theorem dX0_element_36 : decode cX0_element 36 = .ok (.ldc2_w 408, 3) := dk_20 1 152 (dk_at dksX0_element_1 12 rfl rfl)
theorem dX0_element_39 : decode cX0_element 39 = .ok (.lreturn, 1) := dk_173 (dk_at dksX0_element_1 15 rfl rfl)
abbrev cX0_shift : ByteArray := prog_1_method_69_code
def yX0_shift : MethodName := ⟨RX0, "shift", "(IIIII)I"⟩
def dkwX0_shift_3 : List UInt8 := [172, 58, 6, 16, 243, 172, 21, 5, 172]
abbrev dktX0_shift_3 : List UInt8 := dkwX0_shift_3 ++ []
def dkwX0_shift_2 : List UInt8 := [28, 42, 180, 0, 83, 29, 50, 192, 1, 144, 21, 4, 21, 5, 182, 1, 155, 167, 0, 13, 58, 6, 16, 244]
abbrev dktX0_shift_2 : List UInt8 := dkwX0_shift_2 ++ dktX0_shift_3
def dkwX0_shift_1 : List UInt8 := [198, 0, 12, 42, 180, 0, 83, 29, 50, 199, 0, 6, 16, 245, 172, 42, 180, 0, 83, 27, 50, 192, 1, 144]
abbrev dktX0_shift_1 : List UInt8 := dkwX0_shift_1 ++ dktX0_shift_2
def dkwX0_shift_0 : List UInt8 := [27, 184, 0, 105, 153, 0, 10, 29, 184, 0, 105, 154, 0, 5, 2, 172, 42, 180, 0, 83, 27, 50]
abbrev dktX0_shift_0 : List UInt8 := dkwX0_shift_0 ++ dktX0_shift_1
theorem dksX0_shift_0 : cX0_shift.data.toList.drop 0 = dktX0_shift_0 := by decide +kernel
theorem dksX0_shift_1 : cX0_shift.data.toList.drop 22 = dktX0_shift_1 := dk_seg dksX0_shift_0 22 rfl rfl
theorem dksX0_shift_2 : cX0_shift.data.toList.drop 46 = dktX0_shift_2 := dk_seg dksX0_shift_1 24 rfl rfl
theorem dksX0_shift_3 : cX0_shift.data.toList.drop 70 = dktX0_shift_3 := dk_seg dksX0_shift_2 24 rfl rfl
theorem dX0_shift_0 : decode cX0_shift 0 = .ok (.iload_n 1, 1) := dk_27 (dk_at dksX0_shift_0 0 rfl rfl)
theorem dX0_shift_1 : decode cX0_shift 1 = .ok (.invokestatic 105, 3) := dk_184 0 105 (dk_at dksX0_shift_0 1 rfl rfl)
theorem dX0_shift_4 : decode cX0_shift 4 = .ok (.ifCond .eq 10, 3) := dk_153 0 10 (dk_at dksX0_shift_0 4 rfl rfl)
theorem dX0_shift_7 : decode cX0_shift 7 = .ok (.iload_n 3, 1) := dk_29 (dk_at dksX0_shift_0 7 rfl rfl)
theorem dX0_shift_8 : decode cX0_shift 8 = .ok (.invokestatic 105, 3) := dk_184 0 105 (dk_at dksX0_shift_0 8 rfl rfl)
theorem dX0_shift_11 : decode cX0_shift 11 = .ok (.ifCond .ne 5, 3) := dk_154 0 5 (dk_at dksX0_shift_0 11 rfl rfl)
theorem dX0_shift_14 : decode cX0_shift 14 = .ok (.iconst (-1), 1) := dk_2 (dk_at dksX0_shift_0 14 rfl rfl)
theorem dX0_shift_15 : decode cX0_shift 15 = .ok (.ireturn, 1) := dk_172 (dk_at dksX0_shift_0 15 rfl rfl)
theorem dX0_shift_16 : decode cX0_shift 16 = .ok (.aload_n 0, 1) := dk_42 (dk_at dksX0_shift_0 16 rfl rfl)
theorem dX0_shift_17 : decode cX0_shift 17 = .ok (.getfield 83, 3) := dk_180 0 83 (dk_at dksX0_shift_0 17 rfl rfl)
theorem dX0_shift_20 : decode cX0_shift 20 = .ok (.iload_n 1, 1) := dk_27 (dk_at dksX0_shift_0 20 rfl rfl)
theorem dX0_shift_21 : decode cX0_shift 21 = .ok (.aaload, 1) := dk_50 (dk_at dksX0_shift_0 21 rfl rfl)
theorem dX0_shift_22 : decode cX0_shift 22 = .ok (.ifnull 12, 3) := dk_198 0 12 (dk_at dksX0_shift_1 0 rfl rfl)
theorem dX0_shift_25 : decode cX0_shift 25 = .ok (.aload_n 0, 1) := dk_42 (dk_at dksX0_shift_1 3 rfl rfl)
theorem dX0_shift_26 : decode cX0_shift 26 = .ok (.getfield 83, 3) := dk_180 0 83 (dk_at dksX0_shift_1 4 rfl rfl)
theorem dX0_shift_29 : decode cX0_shift 29 = .ok (.iload_n 3, 1) := dk_29 (dk_at dksX0_shift_1 7 rfl rfl)
theorem dX0_shift_30 : decode cX0_shift 30 = .ok (.aaload, 1) := dk_50 (dk_at dksX0_shift_1 8 rfl rfl)
theorem dX0_shift_31 : decode cX0_shift 31 = .ok (.ifnonnull 6, 3) := dk_199 0 6 (dk_at dksX0_shift_1 9 rfl rfl)
theorem dX0_shift_34 : decode cX0_shift 34 = .ok (.bipush (-11), 2) := dk_16 245 (dk_at dksX0_shift_1 12 rfl rfl)
theorem dX0_shift_36 : decode cX0_shift 36 = .ok (.ireturn, 1) := dk_172 (dk_at dksX0_shift_1 14 rfl rfl)
theorem dX0_shift_37 : decode cX0_shift 37 = .ok (.aload_n 0, 1) := dk_42 (dk_at dksX0_shift_1 15 rfl rfl)
theorem dX0_shift_38 : decode cX0_shift 38 = .ok (.getfield 83, 3) := dk_180 0 83 (dk_at dksX0_shift_1 16 rfl rfl)
theorem dX0_shift_41 : decode cX0_shift 41 = .ok (.iload_n 1, 1) := dk_27 (dk_at dksX0_shift_1 19 rfl rfl)
theorem dX0_shift_42 : decode cX0_shift 42 = .ok (.aaload, 1) := dk_50 (dk_at dksX0_shift_1 20 rfl rfl)
theorem dX0_shift_43 : decode cX0_shift 43 = .ok (.checkcast 400, 3) := dk_192 1 144 (dk_at dksX0_shift_1 21 rfl rfl)
theorem dX0_shift_46 : decode cX0_shift 46 = .ok (.iload_n 2, 1) := dk_28 (dk_at dksX0_shift_2 0 rfl rfl)
theorem dX0_shift_47 : decode cX0_shift 47 = .ok (.aload_n 0, 1) := dk_42 (dk_at dksX0_shift_2 1 rfl rfl)
theorem dX0_shift_48 : decode cX0_shift 48 = .ok (.getfield 83, 3) := dk_180 0 83 (dk_at dksX0_shift_2 2 rfl rfl)
theorem dX0_shift_51 : decode cX0_shift 51 = .ok (.iload_n 3, 1) := dk_29 (dk_at dksX0_shift_2 5 rfl rfl)
theorem dX0_shift_52 : decode cX0_shift 52 = .ok (.aaload, 1) := dk_50 (dk_at dksX0_shift_2 6 rfl rfl)
theorem dX0_shift_53 : decode cX0_shift 53 = .ok (.checkcast 400, 3) := dk_192 1 144 (dk_at dksX0_shift_2 7 rfl rfl)
theorem dX0_shift_56 : decode cX0_shift 56 = .ok (.iload 4, 2) := dk_21 4 (dk_at dksX0_shift_2 10 rfl rfl)
theorem dX0_shift_58 : decode cX0_shift 58 = .ok (.iload 5, 2) := dk_21 5 (dk_at dksX0_shift_2 12 rfl rfl)
theorem dX0_shift_60 : decode cX0_shift 60 = .ok (.invokevirtual 411, 3) := dk_182 1 155 (dk_at dksX0_shift_2 14 rfl rfl)
theorem dX0_shift_63 : decode cX0_shift 63 = .ok (.goto 13, 3) := dk_167 0 13 (dk_at dksX0_shift_2 17 rfl rfl)
theorem dX0_shift_66 : decode cX0_shift 66 = .ok (.astore 6, 2) := dk_58 6 (dk_at dksX0_shift_2 20 rfl rfl)
theorem dX0_shift_68 : decode cX0_shift 68 = .ok (.bipush (-12), 2) := dk_16 244 (dk_at dksX0_shift_2 22 rfl rfl)
theorem dX0_shift_70 : decode cX0_shift 70 = .ok (.ireturn, 1) := dk_172 (dk_at dksX0_shift_3 0 rfl rfl)
theorem dX0_shift_71 : decode cX0_shift 71 = .ok (.astore 6, 2) := dk_58 6 (dk_at dksX0_shift_3 1 rfl rfl)
theorem dX0_shift_73 : decode cX0_shift 73 = .ok (.bipush (-13), 2) := dk_16 243 (dk_at dksX0_shift_3 3 rfl rfl)
theorem dX0_shift_75 : decode cX0_shift 75 = .ok (.ireturn, 1) := dk_172 (dk_at dksX0_shift_3 5 rfl rfl)
theorem dX0_shift_76 : decode cX0_shift 76 = .ok (.iload 5, 2) := dk_21 5 (dk_at dksX0_shift_3 6 rfl rfl)
theorem dX0_shift_78 : decode cX0_shift 78 = .ok (.ireturn, 1) := dk_172 (dk_at dksX0_shift_3 8 rfl rfl)
abbrev cX0_taken : ByteArray := prog_1_method_70_code
def yX0_taken : MethodName := ⟨RX0, "taken", "(II)I"⟩
def dkwX0_taken_2 : List UInt8 := [16, 245, 172, 78, 16, 244, 172]
abbrev dktX0_taken_2 : List UInt8 := dkwX0_taken_2 ++ []
def dkwX0_taken_1 : List UInt8 := [50, 192, 0, 75, 78, 45, 28, 182, 1, 159, 153, 0, 10, 45, 182, 1, 162, 167, 0, 5, 16, 244, 172, 78]
abbrev dktX0_taken_1 : List UInt8 := dkwX0_taken_1 ++ dktX0_taken_2
def dkwX0_taken_0 : List UInt8 := [27, 184, 0, 105, 153, 0, 13, 28, 3, 16, 7, 184, 0, 91, 154, 0, 5, 2, 172, 42, 180, 0, 83, 27]
abbrev dktX0_taken_0 : List UInt8 := dkwX0_taken_0 ++ dktX0_taken_1
theorem dksX0_taken_0 : cX0_taken.data.toList.drop 0 = dktX0_taken_0 := by decide +kernel
theorem dksX0_taken_1 : cX0_taken.data.toList.drop 24 = dktX0_taken_1 := dk_seg dksX0_taken_0 24 rfl rfl
theorem dksX0_taken_2 : cX0_taken.data.toList.drop 48 = dktX0_taken_2 := dk_seg dksX0_taken_1 24 rfl rfl
theorem dX0_taken_0 : decode cX0_taken 0 = .ok (.iload_n 1, 1) := dk_27 (dk_at dksX0_taken_0 0 rfl rfl)
theorem dX0_taken_1 : decode cX0_taken 1 = .ok (.invokestatic 105, 3) := dk_184 0 105 (dk_at dksX0_taken_0 1 rfl rfl)
theorem dX0_taken_4 : decode cX0_taken 4 = .ok (.ifCond .eq 13, 3) := dk_153 0 13 (dk_at dksX0_taken_0 4 rfl rfl)
theorem dX0_taken_7 : decode cX0_taken 7 = .ok (.iload_n 2, 1) := dk_28 (dk_at dksX0_taken_0 7 rfl rfl)
theorem dX0_taken_8 : decode cX0_taken 8 = .ok (.iconst 0, 1) := dk_3 (dk_at dksX0_taken_0 8 rfl rfl)
theorem dX0_taken_9 : decode cX0_taken 9 = .ok (.bipush 7, 2) := dk_16 7 (dk_at dksX0_taken_0 9 rfl rfl)
theorem dX0_taken_11 : decode cX0_taken 11 = .ok (.invokestatic 91, 3) := dk_184 0 91 (dk_at dksX0_taken_0 11 rfl rfl)
theorem dX0_taken_14 : decode cX0_taken 14 = .ok (.ifCond .ne 5, 3) := dk_154 0 5 (dk_at dksX0_taken_0 14 rfl rfl)
theorem dX0_taken_17 : decode cX0_taken 17 = .ok (.iconst (-1), 1) := dk_2 (dk_at dksX0_taken_0 17 rfl rfl)
theorem dX0_taken_18 : decode cX0_taken 18 = .ok (.ireturn, 1) := dk_172 (dk_at dksX0_taken_0 18 rfl rfl)
theorem dX0_taken_19 : decode cX0_taken 19 = .ok (.aload_n 0, 1) := dk_42 (dk_at dksX0_taken_0 19 rfl rfl)
theorem dX0_taken_20 : decode cX0_taken 20 = .ok (.getfield 83, 3) := dk_180 0 83 (dk_at dksX0_taken_0 20 rfl rfl)
theorem dX0_taken_23 : decode cX0_taken 23 = .ok (.iload_n 1, 1) := dk_27 (dk_at dksX0_taken_0 23 rfl rfl)
theorem dX0_taken_24 : decode cX0_taken 24 = .ok (.aaload, 1) := dk_50 (dk_at dksX0_taken_1 0 rfl rfl)
theorem dX0_taken_25 : decode cX0_taken 25 = .ok (.checkcast 75, 3) := dk_192 0 75 (dk_at dksX0_taken_1 1 rfl rfl)
theorem dX0_taken_28 : decode cX0_taken 28 = .ok (.astore_n 3, 1) := dk_78 (dk_at dksX0_taken_1 4 rfl rfl)
theorem dX0_taken_29 : decode cX0_taken 29 = .ok (.aload_n 3, 1) := dk_45 (dk_at dksX0_taken_1 5 rfl rfl)
theorem dX0_taken_30 : decode cX0_taken 30 = .ok (.iload_n 2, 1) := dk_28 (dk_at dksX0_taken_1 6 rfl rfl)
theorem dX0_taken_31 : decode cX0_taken 31 = .ok (.invokevirtual 415, 3) := dk_182 1 159 (dk_at dksX0_taken_1 7 rfl rfl)
theorem dX0_taken_34 : decode cX0_taken 34 = .ok (.ifCond .eq 10, 3) := dk_153 0 10 (dk_at dksX0_taken_1 10 rfl rfl)
theorem dX0_taken_37 : decode cX0_taken 37 = .ok (.aload_n 3, 1) := dk_45 (dk_at dksX0_taken_1 13 rfl rfl)
theorem dX0_taken_38 : decode cX0_taken 38 = .ok (.invokevirtual 418, 3) := dk_182 1 162 (dk_at dksX0_taken_1 14 rfl rfl)
theorem dX0_taken_41 : decode cX0_taken 41 = .ok (.goto 5, 3) := dk_167 0 5 (dk_at dksX0_taken_1 17 rfl rfl)
theorem dX0_taken_44 : decode cX0_taken 44 = .ok (.bipush (-12), 2) := dk_16 244 (dk_at dksX0_taken_1 20 rfl rfl)
theorem dX0_taken_46 : decode cX0_taken 46 = .ok (.ireturn, 1) := dk_172 (dk_at dksX0_taken_1 22 rfl rfl)
theorem dX0_taken_47 : decode cX0_taken 47 = .ok (.astore_n 3, 1) := dk_78 (dk_at dksX0_taken_1 23 rfl rfl)
theorem dX0_taken_48 : decode cX0_taken 48 = .ok (.bipush (-11), 2) := dk_16 245 (dk_at dksX0_taken_2 0 rfl rfl)
theorem dX0_taken_50 : decode cX0_taken 50 = .ok (.ireturn, 1) := dk_172 (dk_at dksX0_taken_2 2 rfl rfl)
theorem dX0_taken_51 : decode cX0_taken 51 = .ok (.astore_n 3, 1) := dk_78 (dk_at dksX0_taken_2 3 rfl rfl)
theorem dX0_taken_52 : decode cX0_taken 52 = .ok (.bipush (-12), 2) := dk_16 244 (dk_at dksX0_taken_2 4 rfl rfl)
theorem dX0_taken_54 : decode cX0_taken 54 = .ok (.ireturn, 1) := dk_172 (dk_at dksX0_taken_2 6 rfl rfl)
abbrev cX0_count : ByteArray := prog_1_method_71_code
def yX0_count : MethodName := ⟨RX0, "count", "(I)I"⟩
def dkwX0_count_3 : List UInt8 := [172, 42, 180, 1, 75, 172, 42, 180, 1, 72, 172, 2, 172]
abbrev dktX0_count_3 : List UInt8 := dkwX0_count_3 ++ []
def dkwX0_count_2 : List UInt8 := [42, 180, 0, 87, 172, 42, 180, 0, 95, 172, 42, 180, 0, 121, 172, 42, 180, 0, 193, 172, 42, 180, 0, 170]
abbrev dktX0_count_2 : List UInt8 := dkwX0_count_2 ++ dktX0_count_3
def dkwX0_count_1 : List UInt8 := [170, 0, 0, 0, 0, 0, 78, 0, 0, 0, 0, 0, 0, 0, 6, 0, 0, 0, 43, 0, 0, 0, 48, 0, 0, 0, 53, 0, 0, 0, 58, 0, 0, 0, 63, 0, 0, 0, 68, 0, 0, 0, 73]
abbrev dktX0_count_1 : List UInt8 := dkwX0_count_1 ++ dktX0_count_2
def dkwX0_count_0 : List UInt8 := [27]
abbrev dktX0_count_0 : List UInt8 := dkwX0_count_0 ++ dktX0_count_1
theorem dksX0_count_0 : cX0_count.data.toList.drop 0 = dktX0_count_0 := by decide +kernel
theorem dksX0_count_1 : cX0_count.data.toList.drop 1 = dktX0_count_1 := dk_seg dksX0_count_0 1 rfl rfl
theorem dksX0_count_2 : cX0_count.data.toList.drop 44 = dktX0_count_2 := dk_seg dksX0_count_1 43 rfl rfl
theorem dksX0_count_3 : cX0_count.data.toList.drop 68 = dktX0_count_3 := dk_seg dksX0_count_2 24 rfl rfl
theorem dX0_count_0 : decode cX0_count 0 = .ok (.iload_n 1, 1) := dk_27 (dk_at dksX0_count_0 0 rfl rfl)
theorem dX0_count_1 : decode cX0_count 1 = .ok (.tableswitch 78 0 6 #[43, 48, 53, 58, 63, 68, 73], 43) := by decide +kernel
theorem dX0_count_44 : decode cX0_count 44 = .ok (.aload_n 0, 1) := dk_42 (dk_at dksX0_count_2 0 rfl rfl)
theorem dX0_count_45 : decode cX0_count 45 = .ok (.getfield 87, 3) := dk_180 0 87 (dk_at dksX0_count_2 1 rfl rfl)
theorem dX0_count_48 : decode cX0_count 48 = .ok (.ireturn, 1) := dk_172 (dk_at dksX0_count_2 4 rfl rfl)
theorem dX0_count_49 : decode cX0_count 49 = .ok (.aload_n 0, 1) := dk_42 (dk_at dksX0_count_2 5 rfl rfl)
theorem dX0_count_50 : decode cX0_count 50 = .ok (.getfield 95, 3) := dk_180 0 95 (dk_at dksX0_count_2 6 rfl rfl)
theorem dX0_count_53 : decode cX0_count 53 = .ok (.ireturn, 1) := dk_172 (dk_at dksX0_count_2 9 rfl rfl)
theorem dX0_count_54 : decode cX0_count 54 = .ok (.aload_n 0, 1) := dk_42 (dk_at dksX0_count_2 10 rfl rfl)
theorem dX0_count_55 : decode cX0_count 55 = .ok (.getfield 121, 3) := dk_180 0 121 (dk_at dksX0_count_2 11 rfl rfl)
theorem dX0_count_58 : decode cX0_count 58 = .ok (.ireturn, 1) := dk_172 (dk_at dksX0_count_2 14 rfl rfl)
theorem dX0_count_59 : decode cX0_count 59 = .ok (.aload_n 0, 1) := dk_42 (dk_at dksX0_count_2 15 rfl rfl)
theorem dX0_count_60 : decode cX0_count 60 = .ok (.getfield 193, 3) := dk_180 0 193 (dk_at dksX0_count_2 16 rfl rfl)
theorem dX0_count_63 : decode cX0_count 63 = .ok (.ireturn, 1) := dk_172 (dk_at dksX0_count_2 19 rfl rfl)
theorem dX0_count_64 : decode cX0_count 64 = .ok (.aload_n 0, 1) := dk_42 (dk_at dksX0_count_2 20 rfl rfl)
theorem dX0_count_65 : decode cX0_count 65 = .ok (.getfield 170, 3) := dk_180 0 170 (dk_at dksX0_count_2 21 rfl rfl)
theorem dX0_count_68 : decode cX0_count 68 = .ok (.ireturn, 1) := dk_172 (dk_at dksX0_count_3 0 rfl rfl)
theorem dX0_count_69 : decode cX0_count 69 = .ok (.aload_n 0, 1) := dk_42 (dk_at dksX0_count_3 1 rfl rfl)
theorem dX0_count_70 : decode cX0_count 70 = .ok (.getfield 331, 3) := dk_180 1 75 (dk_at dksX0_count_3 2 rfl rfl)
theorem dX0_count_73 : decode cX0_count 73 = .ok (.ireturn, 1) := dk_172 (dk_at dksX0_count_3 5 rfl rfl)
theorem dX0_count_74 : decode cX0_count 74 = .ok (.aload_n 0, 1) := dk_42 (dk_at dksX0_count_3 6 rfl rfl)
theorem dX0_count_75 : decode cX0_count 75 = .ok (.getfield 328, 3) := dk_180 1 72 (dk_at dksX0_count_3 7 rfl rfl)
theorem dX0_count_78 : decode cX0_count 78 = .ok (.ireturn, 1) := dk_172 (dk_at dksX0_count_3 10 rfl rfl)
theorem dX0_count_79 : decode cX0_count 79 = .ok (.iconst (-1), 1) := dk_2 (dk_at dksX0_count_3 11 rfl rfl)
theorem dX0_count_80 : decode cX0_count 80 = .ok (.ireturn, 1) := dk_172 (dk_at dksX0_count_3 12 rfl rfl)
theorem q82 : (Jvm.Cond.initialized "PointsForAll") ∈ lw_all := lw_g (lw_at lw_m1 1 rfl) rfl
theorem q128 : (Jvm.Cond.instantiable "PointsForAll" (30 : Nat)) ∈ lw_all := lw_g (lw_at lw_m1 47 rfl) rfl
theorem q130 : (Jvm.Cond.instanceMethod ({ cls := "PointsForAll", name := "<init>", desc := "()V" } : Jvm.MethodName)) ∈ lw_all := lw_g (lw_at lw_m1 49 rfl) rfl
theorem q131 : (Jvm.Cond.code ({ cls := "PointsForAll", name := "<init>", desc := "()V" } : Jvm.MethodName) prog_1_method_1_code (1 : Nat) (Option.none : Option Jvm.ClassFile.FieldType)) ∈ lw_all := lw_g (lw_at lw_m1 50 rfl) rfl
theorem q132 : (Jvm.Cond.methodLink "PointsForAll" (1 : Nat) ({ cls := "java/lang/Object", name := "<init>", desc := "()V" } : Jvm.MethodName)) ∈ lw_all := lw_g (lw_at lw_m1 51 rfl) rfl
theorem q135 : (Jvm.Cond.classLink "PointsForAll" (9 : Nat) "PointsForAll$Thing") ∈ lw_all := lw_g (lw_at lw_m1 54 rfl) rfl
theorem q137 : (Jvm.Cond.classLink "PointsForAll" (15 : Nat) "PointsForAll$Sort") ∈ lw_all := lw_g (lw_at lw_m1 56 rfl) rfl
theorem q139 : (Jvm.Cond.classLink "PointsForAll" (21 : Nat) "PointsForAll$Change") ∈ lw_all := lw_g (lw_at lw_m1 58 rfl) rfl
theorem q141 : (Jvm.Cond.classLink "PointsForAll" (31 : Nat) "PointsForAll$Line") ∈ lw_all := lw_g (lw_at lw_m1 60 rfl) rfl
theorem q143 : (Jvm.Cond.classLink "PointsForAll" (37 : Nat) "PointsForAll$Facts") ∈ lw_all := lw_g (lw_at lw_m1 62 rfl) rfl
theorem q145 : (Jvm.Cond.methodLinkNest "PointsForAll" (39 : Nat) ({ cls := "PointsForAll$Facts", name := "<init>", desc := "()V" } : Jvm.MethodName) "PointsForAll") ∈ lw_tbl := lw_at lw_m1 64 rfl
theorem q151 : (Jvm.Cond.fieldLinkNest "PointsForAll" (211 : Nat) "PointsForAll$Facts" "named" "[I" "PointsForAll") ∈ lw_tbl := lw_at lw_m1 70 rfl
theorem q157 : (Jvm.Cond.classLink "PointsForAll" (75 : Nat) "PointsForAll$Purse") ∈ lw_all := lw_g (lw_at lw_m1 76 rfl) rfl
theorem q159 : (Jvm.Cond.classLink "PointsForAll" (81 : Nat) "PointsForAll$Held") ∈ lw_all := lw_g (lw_at lw_m1 78 rfl) rfl
theorem q161 : (Jvm.Cond.fieldLink "PointsForAll" (11 : Nat) "PointsForAll" "things" "[LPointsForAll$Thing;") ∈ lw_all := lw_g (lw_at lw_m1 80 rfl) rfl
theorem q162 : (Jvm.Cond.fieldLink "PointsForAll" (17 : Nat) "PointsForAll" "sorts" "[LPointsForAll$Sort;") ∈ lw_all := lw_g (lw_at lw_m1 81 rfl) rfl
theorem q163 : (Jvm.Cond.fieldLink "PointsForAll" (87 : Nat) "PointsForAll" "thingMany" "I") ∈ lw_all := lw_g (lw_at lw_m1 82 rfl) rfl
theorem q164 : (Jvm.Cond.fieldLink "PointsForAll" (95 : Nat) "PointsForAll" "sortMany" "I") ∈ lw_all := lw_g (lw_at lw_m1 83 rfl) rfl
theorem q165 : (Jvm.Cond.fieldLink "PointsForAll" (23 : Nat) "PointsForAll" "changes" "[LPointsForAll$Change;") ∈ lw_all := lw_g (lw_at lw_m1 84 rfl) rfl
theorem q166 : (Jvm.Cond.fieldLink "PointsForAll" (170 : Nat) "PointsForAll" "doneMany" "I") ∈ lw_all := lw_g (lw_at lw_m1 85 rfl) rfl
theorem q167 : (Jvm.Cond.fieldLink "PointsForAll" (167 : Nat) "PointsForAll" "undoneMany" "I") ∈ lw_all := lw_g (lw_at lw_m1 86 rfl) rfl
theorem q168 : (Jvm.Cond.fieldLink "PointsForAll" (27 : Nat) "PointsForAll" "tape" "[B") ∈ lw_all := lw_g (lw_at lw_m1 87 rfl) rfl
theorem q171 : (Jvm.Cond.fieldLink "PointsForAll" (193 : Nat) "PointsForAll" "taped" "I") ∈ lw_all := lw_g (lw_at lw_m1 90 rfl) rfl
theorem q172 : (Jvm.Cond.fieldLink "PointsForAll" (33 : Nat) "PointsForAll" "wants" "[LPointsForAll$Line;") ∈ lw_all := lw_g (lw_at lw_m1 91 rfl) rfl
theorem q173 : (Jvm.Cond.fieldLink "PointsForAll" (121 : Nat) "PointsForAll" "wantMany" "I") ∈ lw_all := lw_g (lw_at lw_m1 92 rfl) rfl
theorem q174 : (Jvm.Cond.fieldLink "PointsForAll" (40 : Nat) "PointsForAll" "facts" "LPointsForAll$Facts;") ∈ lw_all := lw_g (lw_at lw_m1 93 rfl) rfl
theorem q175 : (Jvm.Cond.fieldLink "PointsForAll" (44 : Nat) "PointsForAll" "worths" "[I") ∈ lw_all := lw_g (lw_at lw_m1 94 rfl) rfl
theorem q176 : (Jvm.Cond.fieldLink "PointsForAll" (48 : Nat) "PointsForAll" "coins" "[I") ∈ lw_all := lw_g (lw_at lw_m1 95 rfl) rfl
theorem q177 : (Jvm.Cond.fieldLink "PointsForAll" (51 : Nat) "PointsForAll" "pointed" "[I") ∈ lw_all := lw_g (lw_at lw_m1 96 rfl) rfl
theorem q178 : (Jvm.Cond.fieldLink "PointsForAll" (54 : Nat) "PointsForAll" "one" "[I") ∈ lw_all := lw_g (lw_at lw_m1 97 rfl) rfl
theorem q179 : (Jvm.Cond.fieldLink "PointsForAll" (57 : Nat) "PointsForAll" "wanted" "[I") ∈ lw_all := lw_g (lw_at lw_m1 98 rfl) rfl
theorem q180 : (Jvm.Cond.fieldLink "PointsForAll" (60 : Nat) "PointsForAll" "pointsBefore" "[I") ∈ lw_all := lw_g (lw_at lw_m1 99 rfl) rfl
theorem q181 : (Jvm.Cond.fieldLink "PointsForAll" (63 : Nat) "PointsForAll" "leastPoints" "[I") ∈ lw_all := lw_g (lw_at lw_m1 100 rfl) rfl
theorem q182 : (Jvm.Cond.fieldLink "PointsForAll" (66 : Nat) "PointsForAll" "lastPoints" "[I") ∈ lw_all := lw_g (lw_at lw_m1 101 rfl) rfl
theorem q183 : (Jvm.Cond.fieldLink "PointsForAll" (275 : Nat) "PointsForAll" "moved" "I") ∈ lw_all := lw_g (lw_at lw_m1 102 rfl) rfl
theorem q184 : (Jvm.Cond.fieldLink "PointsForAll" (292 : Nat) "PointsForAll" "bothThen" "I") ∈ lw_all := lw_g (lw_at lw_m1 103 rfl) rfl
theorem q185 : (Jvm.Cond.fieldLink "PointsForAll" (278 : Nat) "PointsForAll" "leastBoth" "I") ∈ lw_all := lw_g (lw_at lw_m1 104 rfl) rfl
theorem q186 : (Jvm.Cond.fieldLink "PointsForAll" (281 : Nat) "PointsForAll" "leastRound" "I") ∈ lw_all := lw_g (lw_at lw_m1 105 rfl) rfl
theorem q187 : (Jvm.Cond.fieldLink "PointsForAll" (69 : Nat) "PointsForAll" "worthBy" "[I") ∈ lw_all := lw_g (lw_at lw_m1 106 rfl) rfl
theorem q188 : (Jvm.Cond.fieldLink "PointsForAll" (328 : Nat) "PointsForAll" "traces" "I") ∈ lw_all := lw_g (lw_at lw_m1 107 rfl) rfl
theorem q189 : (Jvm.Cond.fieldLink "PointsForAll" (72 : Nat) "PointsForAll" "traced" "[B") ∈ lw_all := lw_g (lw_at lw_m1 108 rfl) rfl
theorem q190 : (Jvm.Cond.fieldLink "PointsForAll" (77 : Nat) "PointsForAll" "bodies" "[LPointsForAll$Purse;") ∈ lw_all := lw_g (lw_at lw_m1 109 rfl) rfl
theorem q191 : (Jvm.Cond.fieldLink "PointsForAll" (331 : Nat) "PointsForAll" "bodyMany" "I") ∈ lw_all := lw_g (lw_at lw_m1 110 rfl) rfl
theorem q192 : (Jvm.Cond.fieldLink "PointsForAll" (83 : Nat) "PointsForAll" "shelves" "[LPointsForAll$Held;") ∈ lw_all := lw_g (lw_at lw_m1 111 rfl) rfl
theorem q193 : (Jvm.Cond.laysFinal "PointsForAll" "PointsForAll" "things" "[LPointsForAll$Thing;") ∈ lw_all := lw_g (lw_at lw_m1 112 rfl) rfl
theorem q194 : (Jvm.Cond.soleField "PointsForAll" "things") ∈ lw_all := lw_g (lw_at lw_m1 113 rfl) rfl
theorem q195 : (Jvm.Cond.laysFinal "PointsForAll" "PointsForAll" "sorts" "[LPointsForAll$Sort;") ∈ lw_all := lw_g (lw_at lw_m1 114 rfl) rfl
theorem q196 : (Jvm.Cond.soleField "PointsForAll" "sorts") ∈ lw_all := lw_g (lw_at lw_m1 115 rfl) rfl
theorem q197 : (Jvm.Cond.lays "PointsForAll" "PointsForAll" "thingMany" "I") ∈ lw_all := lw_g (lw_at lw_m1 116 rfl) rfl
theorem q198 : (Jvm.Cond.soleField "PointsForAll" "thingMany") ∈ lw_all := lw_g (lw_at lw_m1 117 rfl) rfl
theorem q199 : (Jvm.Cond.lays "PointsForAll" "PointsForAll" "sortMany" "I") ∈ lw_all := lw_g (lw_at lw_m1 118 rfl) rfl
theorem q200 : (Jvm.Cond.soleField "PointsForAll" "sortMany") ∈ lw_all := lw_g (lw_at lw_m1 119 rfl) rfl
theorem q201 : (Jvm.Cond.laysFinal "PointsForAll" "PointsForAll" "changes" "[LPointsForAll$Change;") ∈ lw_all := lw_g (lw_at lw_m1 120 rfl) rfl
theorem q202 : (Jvm.Cond.soleField "PointsForAll" "changes") ∈ lw_all := lw_g (lw_at lw_m1 121 rfl) rfl
theorem q203 : (Jvm.Cond.lays "PointsForAll" "PointsForAll" "doneMany" "I") ∈ lw_all := lw_g (lw_at lw_m1 122 rfl) rfl
theorem q204 : (Jvm.Cond.soleField "PointsForAll" "doneMany") ∈ lw_all := lw_g (lw_at lw_m1 123 rfl) rfl
theorem q205 : (Jvm.Cond.lays "PointsForAll" "PointsForAll" "undoneMany" "I") ∈ lw_all := lw_g (lw_at lw_m1 124 rfl) rfl
theorem q206 : (Jvm.Cond.soleField "PointsForAll" "undoneMany") ∈ lw_all := lw_g (lw_at lw_m1 125 rfl) rfl
theorem q207 : (Jvm.Cond.laysFinal "PointsForAll" "PointsForAll" "tape" "[B") ∈ lw_all := lw_g (lw_at lw_m1 126 rfl) rfl
theorem q208 : (Jvm.Cond.soleField "PointsForAll" "tape") ∈ lw_all := lw_g (lw_at lw_m1 127 rfl) rfl
theorem q209 : (Jvm.Cond.lays "PointsForAll" "PointsForAll" "taped" "I") ∈ lw_all := lw_g (lw_at lw_m1 128 rfl) rfl
theorem q210 : (Jvm.Cond.soleField "PointsForAll" "taped") ∈ lw_all := lw_g (lw_at lw_m1 129 rfl) rfl
theorem q211 : (Jvm.Cond.laysFinal "PointsForAll" "PointsForAll" "wants" "[LPointsForAll$Line;") ∈ lw_all := lw_g (lw_at lw_m1 130 rfl) rfl
theorem q212 : (Jvm.Cond.soleField "PointsForAll" "wants") ∈ lw_all := lw_g (lw_at lw_m1 131 rfl) rfl
theorem q213 : (Jvm.Cond.lays "PointsForAll" "PointsForAll" "wantMany" "I") ∈ lw_all := lw_g (lw_at lw_m1 132 rfl) rfl
theorem q214 : (Jvm.Cond.soleField "PointsForAll" "wantMany") ∈ lw_all := lw_g (lw_at lw_m1 133 rfl) rfl
theorem q215 : (Jvm.Cond.laysFinal "PointsForAll" "PointsForAll" "facts" "LPointsForAll$Facts;") ∈ lw_all := lw_g (lw_at lw_m1 134 rfl) rfl
theorem q216 : (Jvm.Cond.soleField "PointsForAll" "facts") ∈ lw_all := lw_g (lw_at lw_m1 135 rfl) rfl
theorem q217 : (Jvm.Cond.laysFinal "PointsForAll" "PointsForAll" "worths" "[I") ∈ lw_all := lw_g (lw_at lw_m1 136 rfl) rfl
theorem q218 : (Jvm.Cond.soleField "PointsForAll" "worths") ∈ lw_all := lw_g (lw_at lw_m1 137 rfl) rfl
theorem q219 : (Jvm.Cond.laysFinal "PointsForAll" "PointsForAll" "coins" "[I") ∈ lw_all := lw_g (lw_at lw_m1 138 rfl) rfl
theorem q220 : (Jvm.Cond.soleField "PointsForAll" "coins") ∈ lw_all := lw_g (lw_at lw_m1 139 rfl) rfl
theorem q221 : (Jvm.Cond.laysFinal "PointsForAll" "PointsForAll" "pointed" "[I") ∈ lw_all := lw_g (lw_at lw_m1 140 rfl) rfl
theorem q222 : (Jvm.Cond.soleField "PointsForAll" "pointed") ∈ lw_all := lw_g (lw_at lw_m1 141 rfl) rfl
theorem q223 : (Jvm.Cond.laysFinal "PointsForAll" "PointsForAll" "one" "[I") ∈ lw_all := lw_g (lw_at lw_m1 142 rfl) rfl
theorem q224 : (Jvm.Cond.soleField "PointsForAll" "one") ∈ lw_all := lw_g (lw_at lw_m1 143 rfl) rfl
theorem q225 : (Jvm.Cond.laysFinal "PointsForAll" "PointsForAll" "wanted" "[I") ∈ lw_all := lw_g (lw_at lw_m1 144 rfl) rfl
theorem q226 : (Jvm.Cond.soleField "PointsForAll" "wanted") ∈ lw_all := lw_g (lw_at lw_m1 145 rfl) rfl
theorem q227 : (Jvm.Cond.laysFinal "PointsForAll" "PointsForAll" "pointsBefore" "[I") ∈ lw_all := lw_g (lw_at lw_m1 146 rfl) rfl
theorem q228 : (Jvm.Cond.soleField "PointsForAll" "pointsBefore") ∈ lw_all := lw_g (lw_at lw_m1 147 rfl) rfl
theorem q229 : (Jvm.Cond.laysFinal "PointsForAll" "PointsForAll" "leastPoints" "[I") ∈ lw_all := lw_g (lw_at lw_m1 148 rfl) rfl
theorem q230 : (Jvm.Cond.soleField "PointsForAll" "leastPoints") ∈ lw_all := lw_g (lw_at lw_m1 149 rfl) rfl
theorem q231 : (Jvm.Cond.laysFinal "PointsForAll" "PointsForAll" "lastPoints" "[I") ∈ lw_all := lw_g (lw_at lw_m1 150 rfl) rfl
theorem q232 : (Jvm.Cond.soleField "PointsForAll" "lastPoints") ∈ lw_all := lw_g (lw_at lw_m1 151 rfl) rfl
theorem q233 : (Jvm.Cond.lays "PointsForAll" "PointsForAll" "moved" "I") ∈ lw_all := lw_g (lw_at lw_m1 152 rfl) rfl
theorem q234 : (Jvm.Cond.soleField "PointsForAll" "moved") ∈ lw_all := lw_g (lw_at lw_m1 153 rfl) rfl
theorem q235 : (Jvm.Cond.lays "PointsForAll" "PointsForAll" "bothThen" "I") ∈ lw_all := lw_g (lw_at lw_m1 154 rfl) rfl
theorem q236 : (Jvm.Cond.soleField "PointsForAll" "bothThen") ∈ lw_all := lw_g (lw_at lw_m1 155 rfl) rfl
theorem q237 : (Jvm.Cond.lays "PointsForAll" "PointsForAll" "leastBoth" "I") ∈ lw_all := lw_g (lw_at lw_m1 156 rfl) rfl
theorem q238 : (Jvm.Cond.soleField "PointsForAll" "leastBoth") ∈ lw_all := lw_g (lw_at lw_m1 157 rfl) rfl
theorem q239 : (Jvm.Cond.lays "PointsForAll" "PointsForAll" "leastRound" "I") ∈ lw_all := lw_g (lw_at lw_m1 158 rfl) rfl
theorem q240 : (Jvm.Cond.soleField "PointsForAll" "leastRound") ∈ lw_all := lw_g (lw_at lw_m1 159 rfl) rfl
theorem q241 : (Jvm.Cond.laysFinal "PointsForAll" "PointsForAll" "worthBy" "[I") ∈ lw_all := lw_g (lw_at lw_m1 160 rfl) rfl
theorem q242 : (Jvm.Cond.soleField "PointsForAll" "worthBy") ∈ lw_all := lw_g (lw_at lw_m1 161 rfl) rfl
theorem q243 : (Jvm.Cond.lays "PointsForAll" "PointsForAll" "traces" "I") ∈ lw_all := lw_g (lw_at lw_m1 162 rfl) rfl
theorem q244 : (Jvm.Cond.soleField "PointsForAll" "traces") ∈ lw_all := lw_g (lw_at lw_m1 163 rfl) rfl
theorem q245 : (Jvm.Cond.laysFinal "PointsForAll" "PointsForAll" "traced" "[B") ∈ lw_all := lw_g (lw_at lw_m1 164 rfl) rfl
theorem q246 : (Jvm.Cond.soleField "PointsForAll" "traced") ∈ lw_all := lw_g (lw_at lw_m1 165 rfl) rfl
theorem q247 : (Jvm.Cond.laysFinal "PointsForAll" "PointsForAll" "bodies" "[LPointsForAll$Purse;") ∈ lw_all := lw_g (lw_at lw_m1 166 rfl) rfl
theorem q248 : (Jvm.Cond.soleField "PointsForAll" "bodies") ∈ lw_all := lw_g (lw_at lw_m1 167 rfl) rfl
theorem q249 : (Jvm.Cond.lays "PointsForAll" "PointsForAll" "bodyMany" "I") ∈ lw_all := lw_g (lw_at lw_m1 168 rfl) rfl
theorem q250 : (Jvm.Cond.soleField "PointsForAll" "bodyMany") ∈ lw_all := lw_g (lw_at lw_m1 169 rfl) rfl
theorem q251 : (Jvm.Cond.laysFinal "PointsForAll" "PointsForAll" "shelves" "[LPointsForAll$Held;") ∈ lw_all := lw_g (lw_at lw_m1 170 rfl) rfl
theorem q252 : (Jvm.Cond.soleField "PointsForAll" "shelves") ∈ lw_all := lw_g (lw_at lw_m1 171 rfl) rfl
theorem q253 : (Jvm.Cond.superclass "PointsForAll" "java/lang/Object") ∈ lw_all := lw_g (lw_at lw_m1 172 rfl) rfl
theorem q255 : (Jvm.Cond.instanceMethod ({ cls := "PointsForAll", name := "thing", desc := "(III)I" } : Jvm.MethodName)) ∈ lw_all := lw_g (lw_at lw_m1 174 rfl) rfl
theorem q256 : (Jvm.Cond.selects "PointsForAll" ({ cls := "PointsForAll", name := "thing", desc := "(III)I" } : Jvm.MethodName) ({ cls := "PointsForAll", name := "thing", desc := "(III)I" } : Jvm.MethodName)) ∈ lw_all := lw_g (lw_at lw_m1 175 rfl) rfl
theorem q257 : (Jvm.Cond.code ({ cls := "PointsForAll", name := "thing", desc := "(III)I" } : Jvm.MethodName) prog_1_method_6_code (4 : Nat) (Option.some Jvm.ClassFile.FieldType.int)) ∈ lw_all := lw_g (lw_at lw_m1 176 rfl) rfl
theorem q258 : (Jvm.Cond.methodLink "PointsForAll" (98 : Nat) ({ cls := "PointsForAll", name := "isThingSo", desc := "(IIII)Z" } : Jvm.MethodName)) ∈ lw_all := lw_g (lw_at lw_m1 177 rfl) rfl
theorem q259 : (Jvm.Cond.static ({ cls := "PointsForAll", name := "isThingSo", desc := "(IIII)Z" } : Jvm.MethodName)) ∈ lw_all := lw_g (lw_at lw_m1 178 rfl) rfl
theorem q260 : (Jvm.Cond.code ({ cls := "PointsForAll", name := "isThingSo", desc := "(IIII)Z" } : Jvm.MethodName) prog_1_method_5_code (4 : Nat) (Option.some Jvm.ClassFile.FieldType.boolean)) ∈ lw_all := lw_g (lw_at lw_m1 179 rfl) rfl
theorem q261 : (Jvm.Cond.methodLink "PointsForAll" (91 : Nat) ({ cls := "PointsForAll", name := "in", desc := "(III)Z" } : Jvm.MethodName)) ∈ lw_all := lw_g (lw_at lw_m1 180 rfl) rfl
theorem q262 : (Jvm.Cond.static ({ cls := "PointsForAll", name := "in", desc := "(III)Z" } : Jvm.MethodName)) ∈ lw_all := lw_g (lw_at lw_m1 181 rfl) rfl
theorem q263 : (Jvm.Cond.code ({ cls := "PointsForAll", name := "in", desc := "(III)Z" } : Jvm.MethodName) prog_1_method_2_code (3 : Nat) (Option.some Jvm.ClassFile.FieldType.boolean)) ∈ lw_all := lw_g (lw_at lw_m1 182 rfl) rfl
theorem q265 : (Jvm.Cond.methodLink "PointsForAll" (102 : Nat) ({ cls := "PointsForAll$Thing", name := "<init>", desc := "(IIII)V" } : Jvm.MethodName)) ∈ lw_all := lw_g (lw_at lw_m1 184 rfl) rfl
theorem q270 : (Jvm.Cond.fieldLinkNest "PointsForAll" (157 : Nat) "PointsForAll$Thing" "made" "I" "PointsForAll") ∈ lw_tbl := lw_at lw_m1 189 rfl
theorem q272 : (Jvm.Cond.fieldLinkNest "PointsForAll" (149 : Nat) "PointsForAll$Thing" "many" "I" "PointsForAll") ∈ lw_tbl := lw_at lw_m1 191 rfl
theorem q274 : (Jvm.Cond.fieldLinkNest "PointsForAll" (152 : Nat) "PointsForAll$Thing" "coin" "I" "PointsForAll") ∈ lw_tbl := lw_at lw_m1 193 rfl
theorem q276 : (Jvm.Cond.fieldLinkNest "PointsForAll" (155 : Nat) "PointsForAll$Thing" "points" "I" "PointsForAll") ∈ lw_tbl := lw_at lw_m1 195 rfl
theorem q287 : (Jvm.Cond.instanceMethod ({ cls := "PointsForAll", name := "things", desc := "(III)I" } : Jvm.MethodName)) ∈ lw_all := lw_g (lw_at lw_m1 206 rfl) rfl
theorem q288 : (Jvm.Cond.selects "PointsForAll" ({ cls := "PointsForAll", name := "things", desc := "(III)I" } : Jvm.MethodName) ({ cls := "PointsForAll", name := "things", desc := "(III)I" } : Jvm.MethodName)) ∈ lw_all := lw_g (lw_at lw_m1 207 rfl) rfl
theorem q289 : (Jvm.Cond.codeWith ({ cls := "PointsForAll", name := "things", desc := "(III)I" } : Jvm.MethodName) prog_1_method_7_code (12 : Nat) (Option.some Jvm.ClassFile.FieldType.int) [((22 : Nat), (121 : Nat), (168 : Nat), (115 : Nat)), ((122 : Nat), (165 : Nat), (168 : Nat), (115 : Nat)), ((22 : Nat), (121 : Nat), (173 : Nat), (117 : Nat)), ((122 : Nat), (165 : Nat), (173 : Nat), (117 : Nat)), ((22 : Nat), (121 : Nat), (178 : Nat), (119 : Nat)), ((122 : Nat), (165 : Nat), (178 : Nat), (119 : Nat))]) ∈ lw_all := lw_g (lw_at lw_m1 208 rfl) rfl
theorem q290 : (Jvm.Cond.classLink "PointsForAll" (115 : Nat) "java/lang/ClassCastException") ∈ lw_all := lw_g (lw_at lw_m1 209 rfl) rfl
theorem q374 : (Jvm.Cond.classLink "PointsForAll" (117 : Nat) "java/lang/NullPointerException") ∈ lw_all := lw_g (lw_at lw_m2 53 rfl) rfl
theorem q399 : (Jvm.Cond.classLink "PointsForAll" (119 : Nat) "java/lang/IndexOutOfBoundsException") ∈ lw_all := lw_g (lw_at lw_m2 78 rfl) rfl
theorem q418 : (Jvm.Cond.methodLink "PointsForAll" (105 : Nat) ({ cls := "PointsForAll", name := "isShelf", desc := "(I)Z" } : Jvm.MethodName)) ∈ lw_all := lw_g (lw_at lw_m2 97 rfl) rfl
theorem q419 : (Jvm.Cond.static ({ cls := "PointsForAll", name := "isShelf", desc := "(I)Z" } : Jvm.MethodName)) ∈ lw_all := lw_g (lw_at lw_m2 98 rfl) rfl
theorem q420 : (Jvm.Cond.code ({ cls := "PointsForAll", name := "isShelf", desc := "(I)Z" } : Jvm.MethodName) prog_1_method_61_code (1 : Nat) (Option.some Jvm.ClassFile.FieldType.boolean)) ∈ lw_all := lw_g (lw_at lw_m2 99 rfl) rfl
theorem q421 : (Jvm.Cond.classLink "PointsForAll" (109 : Nat) "PointsForAll$ShortRow") ∈ lw_all := lw_g (lw_at lw_m2 100 rfl) rfl
theorem q422 : (Jvm.Cond.methodLink "PointsForAll" (111 : Nat) ({ cls := "PointsForAll$ShortRow", name := "at", desc := "(I)J" } : Jvm.MethodName)) ∈ lw_all := lw_g (lw_at lw_m2 101 rfl) rfl
theorem q427 : (Jvm.Cond.instanceMethod ({ cls := "PointsForAll", name := "sort", desc := "(III)I" } : Jvm.MethodName)) ∈ lw_all := lw_g (lw_at lw_m2 106 rfl) rfl
theorem q428 : (Jvm.Cond.selects "PointsForAll" ({ cls := "PointsForAll", name := "sort", desc := "(III)I" } : Jvm.MethodName) ({ cls := "PointsForAll", name := "sort", desc := "(III)I" } : Jvm.MethodName)) ∈ lw_all := lw_g (lw_at lw_m2 107 rfl) rfl
theorem q429 : (Jvm.Cond.code ({ cls := "PointsForAll", name := "sort", desc := "(III)I" } : Jvm.MethodName) prog_1_method_8_code (4 : Nat) (Option.some Jvm.ClassFile.FieldType.int)) ∈ lw_all := lw_g (lw_at lw_m2 108 rfl) rfl
theorem q431 : (Jvm.Cond.methodLink "PointsForAll" (124 : Nat) ({ cls := "PointsForAll$Sort", name := "<init>", desc := "(IIIII)V" } : Jvm.MethodName)) ∈ lw_all := lw_g (lw_at lw_m2 110 rfl) rfl
theorem q436 : (Jvm.Cond.fieldLinkNest "PointsForAll" (130 : Nat) "PointsForAll$Sort" "heads" "I" "PointsForAll") ∈ lw_tbl := lw_at lw_m2 115 rfl
theorem q438 : (Jvm.Cond.fieldLinkNest "PointsForAll" (140 : Nat) "PointsForAll$Sort" "babies" "I" "PointsForAll") ∈ lw_tbl := lw_at lw_m2 117 rfl
theorem q440 : (Jvm.Cond.fieldLinkNest "PointsForAll" (143 : Nat) "PointsForAll$Sort" "want" "I" "PointsForAll") ∈ lw_tbl := lw_at lw_m2 119 rfl
theorem q442 : (Jvm.Cond.fieldLinkNest "PointsForAll" (133 : Nat) "PointsForAll$Sort" "purse" "I" "PointsForAll") ∈ lw_tbl := lw_at lw_m2 121 rfl
theorem q444 : (Jvm.Cond.fieldLinkNest "PointsForAll" (160 : Nat) "PointsForAll$Sort" "book" "I" "PointsForAll") ∈ lw_tbl := lw_at lw_m2 123 rfl
theorem q445 : (Jvm.Cond.fieldLinkNest "PointsForAll" (301 : Nat) "PointsForAll$Sort" "told" "I" "PointsForAll") ∈ lw_tbl := lw_at lw_m2 124 rfl
theorem q460 : (Jvm.Cond.instanceMethod ({ cls := "PointsForAll", name := "of", desc := "(II)I" } : Jvm.MethodName)) ∈ lw_all := lw_g (lw_at lw_m2 139 rfl) rfl
theorem q461 : (Jvm.Cond.selects "PointsForAll" ({ cls := "PointsForAll", name := "of", desc := "(II)I" } : Jvm.MethodName) ({ cls := "PointsForAll", name := "of", desc := "(II)I" } : Jvm.MethodName)) ∈ lw_all := lw_g (lw_at lw_m2 140 rfl) rfl
theorem q462 : (Jvm.Cond.code ({ cls := "PointsForAll", name := "of", desc := "(II)I" } : Jvm.MethodName) prog_1_method_9_code (4 : Nat) (Option.some Jvm.ClassFile.FieldType.int)) ∈ lw_all := lw_g (lw_at lw_m2 141 rfl) rfl
theorem q463 : (Jvm.Cond.methodLink "PointsForAll" (127 : Nat) ({ cls := "PointsForAll", name := "isSort", desc := "(I)Z" } : Jvm.MethodName)) ∈ lw_all := lw_g (lw_at lw_m2 142 rfl) rfl
theorem q464 : (Jvm.Cond.privateMethod ({ cls := "PointsForAll", name := "isSort", desc := "(I)Z" } : Jvm.MethodName)) ∈ lw_tbl := lw_at lw_m2 143 rfl
theorem q465 : (Jvm.Cond.instanceMethod ({ cls := "PointsForAll", name := "isSort", desc := "(I)Z" } : Jvm.MethodName)) ∈ lw_all := lw_g (lw_at lw_m2 144 rfl) rfl
theorem q466 : (Jvm.Cond.code ({ cls := "PointsForAll", name := "isSort", desc := "(I)Z" } : Jvm.MethodName) prog_1_method_4_code (2 : Nat) (Option.some Jvm.ClassFile.FieldType.boolean)) ∈ lw_all := lw_g (lw_at lw_m2 145 rfl) rfl
theorem q467 : (Jvm.Cond.methodLink "PointsForAll" (136 : Nat) ({ cls := "PointsForAll$Sort", name := "points", desc := "()I" } : Jvm.MethodName)) ∈ lw_all := lw_g (lw_at lw_m2 146 rfl) rfl
theorem q471 : (Jvm.Cond.methodLink "PointsForAll" (146 : Nat) ({ cls := "PointsForAll", name := "isThing", desc := "(I)Z" } : Jvm.MethodName)) ∈ lw_all := lw_g (lw_at lw_m2 150 rfl) rfl
theorem q472 : (Jvm.Cond.privateMethod ({ cls := "PointsForAll", name := "isThing", desc := "(I)Z" } : Jvm.MethodName)) ∈ lw_tbl := lw_at lw_m2 151 rfl
theorem q473 : (Jvm.Cond.instanceMethod ({ cls := "PointsForAll", name := "isThing", desc := "(I)Z" } : Jvm.MethodName)) ∈ lw_all := lw_g (lw_at lw_m2 152 rfl) rfl
theorem q474 : (Jvm.Cond.code ({ cls := "PointsForAll", name := "isThing", desc := "(I)Z" } : Jvm.MethodName) prog_1_method_3_code (2 : Nat) (Option.some Jvm.ClassFile.FieldType.boolean)) ∈ lw_all := lw_g (lw_at lw_m2 153 rfl) rfl
theorem q476 : (Jvm.Cond.instanceMethod ({ cls := "PointsForAll", name := "undo", desc := "()I" } : Jvm.MethodName)) ∈ lw_all := lw_g (lw_at lw_m2 155 rfl) rfl
theorem q477 : (Jvm.Cond.selects "PointsForAll" ({ cls := "PointsForAll", name := "undo", desc := "()I" } : Jvm.MethodName) ({ cls := "PointsForAll", name := "undo", desc := "()I" } : Jvm.MethodName)) ∈ lw_all := lw_g (lw_at lw_m2 156 rfl) rfl
theorem q478 : (Jvm.Cond.code ({ cls := "PointsForAll", name := "undo", desc := "()I" } : Jvm.MethodName) prog_1_method_13_code (1 : Nat) (Option.some Jvm.ClassFile.FieldType.int)) ∈ lw_all := lw_g (lw_at lw_m2 157 rfl) rfl
theorem q479 : (Jvm.Cond.methodLink "PointsForAll" (174 : Nat) ({ cls := "PointsForAll", name := "setTo", desc := "(III)V" } : Jvm.MethodName)) ∈ lw_all := lw_g (lw_at lw_m2 158 rfl) rfl
theorem q480 : (Jvm.Cond.privateMethod ({ cls := "PointsForAll", name := "setTo", desc := "(III)V" } : Jvm.MethodName)) ∈ lw_tbl := lw_at lw_m2 159 rfl
theorem q481 : (Jvm.Cond.instanceMethod ({ cls := "PointsForAll", name := "setTo", desc := "(III)V" } : Jvm.MethodName)) ∈ lw_all := lw_g (lw_at lw_m2 160 rfl) rfl
theorem q482 : (Jvm.Cond.code ({ cls := "PointsForAll", name := "setTo", desc := "(III)V" } : Jvm.MethodName) prog_1_method_11_code (4 : Nat) (Option.none : Option Jvm.ClassFile.FieldType)) ∈ lw_all := lw_g (lw_at lw_m2 161 rfl) rfl
theorem q484 : (Jvm.Cond.instanceMethod ({ cls := "PointsForAll", name := "redo", desc := "()I" } : Jvm.MethodName)) ∈ lw_all := lw_g (lw_at lw_m2 163 rfl) rfl
theorem q485 : (Jvm.Cond.selects "PointsForAll" ({ cls := "PointsForAll", name := "redo", desc := "()I" } : Jvm.MethodName) ({ cls := "PointsForAll", name := "redo", desc := "()I" } : Jvm.MethodName)) ∈ lw_all := lw_g (lw_at lw_m2 164 rfl) rfl
theorem q486 : (Jvm.Cond.code ({ cls := "PointsForAll", name := "redo", desc := "()I" } : Jvm.MethodName) prog_1_method_14_code (1 : Nat) (Option.some Jvm.ClassFile.FieldType.int)) ∈ lw_all := lw_g (lw_at lw_m2 165 rfl) rfl
theorem q488 : (Jvm.Cond.instanceMethod ({ cls := "PointsForAll", name := "mend", desc := "(III)I" } : Jvm.MethodName)) ∈ lw_all := lw_g (lw_at lw_m2 167 rfl) rfl
theorem q489 : (Jvm.Cond.selects "PointsForAll" ({ cls := "PointsForAll", name := "mend", desc := "(III)I" } : Jvm.MethodName) ({ cls := "PointsForAll", name := "mend", desc := "(III)I" } : Jvm.MethodName)) ∈ lw_all := lw_g (lw_at lw_m2 168 rfl) rfl
theorem q490 : (Jvm.Cond.code ({ cls := "PointsForAll", name := "mend", desc := "(III)I" } : Jvm.MethodName) prog_1_method_15_code (4 : Nat) (Option.some Jvm.ClassFile.FieldType.int)) ∈ lw_all := lw_g (lw_at lw_m2 169 rfl) rfl
theorem q491 : (Jvm.Cond.methodLink "PointsForAll" (189 : Nat) ({ cls := "PointsForAll", name := "become", desc := "(III)I" } : Jvm.MethodName)) ∈ lw_all := lw_g (lw_at lw_m2 170 rfl) rfl
theorem q492 : (Jvm.Cond.privateMethod ({ cls := "PointsForAll", name := "become", desc := "(III)I" } : Jvm.MethodName)) ∈ lw_tbl := lw_at lw_m2 171 rfl
theorem q493 : (Jvm.Cond.instanceMethod ({ cls := "PointsForAll", name := "become", desc := "(III)I" } : Jvm.MethodName)) ∈ lw_all := lw_g (lw_at lw_m2 172 rfl) rfl
theorem q494 : (Jvm.Cond.code ({ cls := "PointsForAll", name := "become", desc := "(III)I" } : Jvm.MethodName) prog_1_method_12_code (6 : Nat) (Option.some Jvm.ClassFile.FieldType.int)) ∈ lw_all := lw_g (lw_at lw_m2 173 rfl) rfl
theorem q495 : (Jvm.Cond.methodLink "PointsForAll" (163 : Nat) ({ cls := "PointsForAll", name := "valueAt", desc := "(II)I" } : Jvm.MethodName)) ∈ lw_all := lw_g (lw_at lw_m2 174 rfl) rfl
theorem q496 : (Jvm.Cond.privateMethod ({ cls := "PointsForAll", name := "valueAt", desc := "(II)I" } : Jvm.MethodName)) ∈ lw_tbl := lw_at lw_m2 175 rfl
theorem q497 : (Jvm.Cond.instanceMethod ({ cls := "PointsForAll", name := "valueAt", desc := "(II)I" } : Jvm.MethodName)) ∈ lw_all := lw_g (lw_at lw_m2 176 rfl) rfl
theorem q498 : (Jvm.Cond.code ({ cls := "PointsForAll", name := "valueAt", desc := "(II)I" } : Jvm.MethodName) prog_1_method_10_code (3 : Nat) (Option.some Jvm.ClassFile.FieldType.int)) ∈ lw_all := lw_g (lw_at lw_m2 177 rfl) rfl
theorem q500 : (Jvm.Cond.methodLink "PointsForAll" (173 : Nat) ({ cls := "PointsForAll$Change", name := "<init>", desc := "(IIII)V" } : Jvm.MethodName)) ∈ lw_all := lw_g (lw_at lw_m2 179 rfl) rfl
theorem q505 : (Jvm.Cond.fieldLinkNest "PointsForAll" (178 : Nat) "PointsForAll$Change" "of" "I" "PointsForAll") ∈ lw_tbl := lw_at lw_m2 184 rfl
theorem q507 : (Jvm.Cond.fieldLinkNest "PointsForAll" (181 : Nat) "PointsForAll$Change" "at" "I" "PointsForAll") ∈ lw_tbl := lw_at lw_m2 186 rfl
theorem q509 : (Jvm.Cond.fieldLinkNest "PointsForAll" (183 : Nat) "PointsForAll$Change" "before" "I" "PointsForAll") ∈ lw_tbl := lw_at lw_m2 188 rfl
theorem q511 : (Jvm.Cond.fieldLinkNest "PointsForAll" (186 : Nat) "PointsForAll$Change" "behind" "I" "PointsForAll") ∈ lw_tbl := lw_at lw_m2 190 rfl
theorem q522 : (Jvm.Cond.instanceMethod ({ cls := "PointsForAll", name := "purse", desc := "(III)I" } : Jvm.MethodName)) ∈ lw_all := lw_g (lw_at lw_m2 201 rfl) rfl
theorem q523 : (Jvm.Cond.selects "PointsForAll" ({ cls := "PointsForAll", name := "purse", desc := "(III)I" } : Jvm.MethodName) ({ cls := "PointsForAll", name := "purse", desc := "(III)I" } : Jvm.MethodName)) ∈ lw_all := lw_g (lw_at lw_m2 202 rfl) rfl
theorem q524 : (Jvm.Cond.code ({ cls := "PointsForAll", name := "purse", desc := "(III)I" } : Jvm.MethodName) prog_1_method_16_code (4 : Nat) (Option.some Jvm.ClassFile.FieldType.int)) ∈ lw_all := lw_g (lw_at lw_m2 203 rfl) rfl
theorem q526 : (Jvm.Cond.instanceMethod ({ cls := "PointsForAll", name := "feed", desc := "(II)I" } : Jvm.MethodName)) ∈ lw_all := lw_g (lw_at lw_m2 205 rfl) rfl
theorem q527 : (Jvm.Cond.selects "PointsForAll" ({ cls := "PointsForAll", name := "feed", desc := "(II)I" } : Jvm.MethodName) ({ cls := "PointsForAll", name := "feed", desc := "(II)I" } : Jvm.MethodName)) ∈ lw_all := lw_g (lw_at lw_m2 206 rfl) rfl
theorem q528 : (Jvm.Cond.code ({ cls := "PointsForAll", name := "feed", desc := "(II)I" } : Jvm.MethodName) prog_1_method_17_code (4 : Nat) (Option.some Jvm.ClassFile.FieldType.int)) ∈ lw_all := lw_g (lw_at lw_m2 207 rfl) rfl
theorem q530 : (Jvm.Cond.instanceMethod ({ cls := "PointsForAll", name := "want", desc := "()I" } : Jvm.MethodName)) ∈ lw_all := lw_g (lw_at lw_m2 209 rfl) rfl
theorem q531 : (Jvm.Cond.selects "PointsForAll" ({ cls := "PointsForAll", name := "want", desc := "()I" } : Jvm.MethodName) ({ cls := "PointsForAll", name := "want", desc := "()I" } : Jvm.MethodName)) ∈ lw_all := lw_g (lw_at lw_m2 210 rfl) rfl
theorem q532 : (Jvm.Cond.code ({ cls := "PointsForAll", name := "want", desc := "()I" } : Jvm.MethodName) prog_1_method_18_code (3 : Nat) (Option.some Jvm.ClassFile.FieldType.int)) ∈ lw_all := lw_g (lw_at lw_m2 211 rfl) rfl
theorem q533 : (Jvm.Cond.classLink "PointsForAll" (196 : Nat) "PointsForAll$Reader") ∈ lw_all := lw_g (lw_at lw_m2 212 rfl) rfl
theorem q535 : (Jvm.Cond.methodLinkNest "PointsForAll" (198 : Nat) ({ cls := "PointsForAll$Reader", name := "<init>", desc := "(LPointsForAll;)V" } : Jvm.MethodName) "PointsForAll") ∈ lw_tbl := lw_at lw_m2 214 rfl
theorem q541 : (Jvm.Cond.fieldLinkNest "PointsForAll" (205 : Nat) "PointsForAll$Reader" "fault" "I" "PointsForAll") ∈ lw_tbl := lw_at lw_m2 220 rfl
theorem q553 : (Jvm.Cond.methodLink "PointsForAll" (201 : Nat) ({ cls := "PointsForAll$Reader", name := "lines", desc := "()LPointsForAll$Line;" } : Jvm.MethodName)) ∈ lw_all := lw_g (lw_at lw_m2 232 rfl) rfl
theorem q568 : (Jvm.Cond.fieldLinkNest "PointsForAll" (214 : Nat) "PointsForAll$Line" "test" "LPointsForAll$Node;" "PointsForAll") ∈ lw_tbl := lw_at lw_m3 7 rfl
theorem q570 : (Jvm.Cond.fieldLinkNest "PointsForAll" (224 : Nat) "PointsForAll$Line" "gives" "LPointsForAll$Node;" "PointsForAll") ∈ lw_tbl := lw_at lw_m3 9 rfl
theorem q572 : (Jvm.Cond.fieldLinkNest "PointsForAll" (235 : Nat) "PointsForAll$Line" "next" "LPointsForAll$Line;" "PointsForAll") ∈ lw_tbl := lw_at lw_m3 11 rfl
theorem q775 : (Jvm.Cond.instanceMethod ({ cls := "PointsForAll", name := "worth", desc := "(II)I" } : Jvm.MethodName)) ∈ lw_all := lw_g (lw_at lw_m3 214 rfl) rfl
theorem q776 : (Jvm.Cond.selects "PointsForAll" ({ cls := "PointsForAll", name := "worth", desc := "(II)I" } : Jvm.MethodName) ({ cls := "PointsForAll", name := "worth", desc := "(II)I" } : Jvm.MethodName)) ∈ lw_all := lw_g (lw_at lw_m3 215 rfl) rfl
theorem q777 : (Jvm.Cond.code ({ cls := "PointsForAll", name := "worth", desc := "(II)I" } : Jvm.MethodName) prog_1_method_20_code (3 : Nat) (Option.some Jvm.ClassFile.FieldType.int)) ∈ lw_all := lw_g (lw_at lw_m3 216 rfl) rfl
theorem q778 : (Jvm.Cond.methodLink "PointsForAll" (239 : Nat) ({ cls := "PointsForAll", name := "worthOf", desc := "(III)I" } : Jvm.MethodName)) ∈ lw_all := lw_g (lw_at lw_m3 217 rfl) rfl
theorem q779 : (Jvm.Cond.privateMethod ({ cls := "PointsForAll", name := "worthOf", desc := "(III)I" } : Jvm.MethodName)) ∈ lw_tbl := lw_at lw_m3 218 rfl
theorem q780 : (Jvm.Cond.instanceMethod ({ cls := "PointsForAll", name := "worthOf", desc := "(III)I" } : Jvm.MethodName)) ∈ lw_all := lw_g (lw_at lw_m3 219 rfl) rfl
theorem q781 : (Jvm.Cond.code ({ cls := "PointsForAll", name := "worthOf", desc := "(III)I" } : Jvm.MethodName) prog_1_method_19_code (5 : Nat) (Option.some Jvm.ClassFile.FieldType.int)) ∈ lw_all := lw_g (lw_at lw_m3 220 rfl) rfl
theorem q782 : (Jvm.Cond.methodLink "PointsForAll" (208 : Nat) ({ cls := "PointsForAll$Facts", name := "clear", desc := "()V" } : Jvm.MethodName)) ∈ lw_all := lw_g (lw_at lw_m3 221 rfl) rfl
theorem q786 : (Jvm.Cond.methodLink "PointsForAll" (218 : Nat) ({ cls := "PointsForAll$Node", name := "value", desc := "(LPointsForAll$Facts;)I" } : Jvm.MethodName)) ∈ lw_all := lw_g (lw_at lw_m3 225 rfl) rfl
theorem q810 : (Jvm.Cond.methodLink "PointsForAll" (227 : Nat) ({ cls := "java/lang/Math", name := "min", desc := "(II)I" } : Jvm.MethodName)) ∈ lw_all := lw_g (lw_at lw_m4 9 rfl) rfl
theorem q811 : (Jvm.Cond.methodLink "PointsForAll" (232 : Nat) ({ cls := "java/lang/Math", name := "max", desc := "(II)I" } : Jvm.MethodName)) ∈ lw_all := lw_g (lw_at lw_m4 10 rfl) rfl
theorem q813 : (Jvm.Cond.instanceMethod ({ cls := "PointsForAll", name := "basket", desc := "(II)I" } : Jvm.MethodName)) ∈ lw_all := lw_g (lw_at lw_m4 12 rfl) rfl
theorem q814 : (Jvm.Cond.selects "PointsForAll" ({ cls := "PointsForAll", name := "basket", desc := "(II)I" } : Jvm.MethodName) ({ cls := "PointsForAll", name := "basket", desc := "(II)I" } : Jvm.MethodName)) ∈ lw_all := lw_g (lw_at lw_m4 13 rfl) rfl
theorem q815 : (Jvm.Cond.code ({ cls := "PointsForAll", name := "basket", desc := "(II)I" } : Jvm.MethodName) prog_1_method_28_code (4 : Nat) (Option.some Jvm.ClassFile.FieldType.int)) ∈ lw_all := lw_g (lw_at lw_m4 14 rfl) rfl
theorem q816 : (Jvm.Cond.methodLink "PointsForAll" (255 : Nat) ({ cls := "PointsForAll", name := "bestOf", desc := "(I)I" } : Jvm.MethodName)) ∈ lw_all := lw_g (lw_at lw_m4 15 rfl) rfl
theorem q817 : (Jvm.Cond.privateMethod ({ cls := "PointsForAll", name := "bestOf", desc := "(I)I" } : Jvm.MethodName)) ∈ lw_tbl := lw_at lw_m4 16 rfl
theorem q818 : (Jvm.Cond.instanceMethod ({ cls := "PointsForAll", name := "bestOf", desc := "(I)I" } : Jvm.MethodName)) ∈ lw_all := lw_g (lw_at lw_m4 17 rfl) rfl
theorem q819 : (Jvm.Cond.code ({ cls := "PointsForAll", name := "bestOf", desc := "(I)I" } : Jvm.MethodName) prog_1_method_26_code (2 : Nat) (Option.some Jvm.ClassFile.FieldType.int)) ∈ lw_all := lw_g (lw_at lw_m4 18 rfl) rfl
theorem q820 : (Jvm.Cond.methodLink "PointsForAll" (248 : Nat) ({ cls := "PointsForAll", name := "look", desc := "(I)V" } : Jvm.MethodName)) ∈ lw_all := lw_g (lw_at lw_m4 19 rfl) rfl
theorem q821 : (Jvm.Cond.privateMethod ({ cls := "PointsForAll", name := "look", desc := "(I)V" } : Jvm.MethodName)) ∈ lw_tbl := lw_at lw_m4 20 rfl
theorem q822 : (Jvm.Cond.instanceMethod ({ cls := "PointsForAll", name := "look", desc := "(I)V" } : Jvm.MethodName)) ∈ lw_all := lw_g (lw_at lw_m4 21 rfl) rfl
theorem q823 : (Jvm.Cond.code ({ cls := "PointsForAll", name := "look", desc := "(I)V" } : Jvm.MethodName) prog_1_method_24_code (5 : Nat) (Option.none : Option Jvm.ClassFile.FieldType)) ∈ lw_all := lw_g (lw_at lw_m4 22 rfl) rfl
theorem q824 : (Jvm.Cond.methodLink "PointsForAll" (245 : Nat) ({ cls := "PointsForAll", name := "basketMany", desc := "()I" } : Jvm.MethodName)) ∈ lw_all := lw_g (lw_at lw_m4 23 rfl) rfl
theorem q825 : (Jvm.Cond.privateMethod ({ cls := "PointsForAll", name := "basketMany", desc := "()I" } : Jvm.MethodName)) ∈ lw_tbl := lw_at lw_m4 24 rfl
theorem q826 : (Jvm.Cond.instanceMethod ({ cls := "PointsForAll", name := "basketMany", desc := "()I" } : Jvm.MethodName)) ∈ lw_all := lw_g (lw_at lw_m4 25 rfl) rfl
theorem q827 : (Jvm.Cond.code ({ cls := "PointsForAll", name := "basketMany", desc := "()I" } : Jvm.MethodName) prog_1_method_21_code (1 : Nat) (Option.some Jvm.ClassFile.FieldType.int)) ∈ lw_all := lw_g (lw_at lw_m4 26 rfl) rfl
theorem q828 : (Jvm.Cond.methodLink "PointsForAll" (242 : Nat) ({ cls := "PointsForAll", name := "inBasket", desc := "(II)I" } : Jvm.MethodName)) ∈ lw_all := lw_g (lw_at lw_m4 27 rfl) rfl
theorem q829 : (Jvm.Cond.privateMethod ({ cls := "PointsForAll", name := "inBasket", desc := "(II)I" } : Jvm.MethodName)) ∈ lw_tbl := lw_at lw_m4 28 rfl
theorem q830 : (Jvm.Cond.instanceMethod ({ cls := "PointsForAll", name := "inBasket", desc := "(II)I" } : Jvm.MethodName)) ∈ lw_all := lw_g (lw_at lw_m4 29 rfl) rfl
theorem q831 : (Jvm.Cond.code ({ cls := "PointsForAll", name := "inBasket", desc := "(II)I" } : Jvm.MethodName) prog_1_method_22_code (3 : Nat) (Option.some Jvm.ClassFile.FieldType.int)) ∈ lw_all := lw_g (lw_at lw_m4 30 rfl) rfl
theorem q832 : (Jvm.Cond.methodLink "PointsForAll" (252 : Nat) ({ cls := "PointsForAll", name := "bestBy", desc := "(II)I" } : Jvm.MethodName)) ∈ lw_all := lw_g (lw_at lw_m4 31 rfl) rfl
theorem q833 : (Jvm.Cond.privateMethod ({ cls := "PointsForAll", name := "bestBy", desc := "(II)I" } : Jvm.MethodName)) ∈ lw_tbl := lw_at lw_m4 32 rfl
theorem q834 : (Jvm.Cond.instanceMethod ({ cls := "PointsForAll", name := "bestBy", desc := "(II)I" } : Jvm.MethodName)) ∈ lw_all := lw_g (lw_at lw_m4 33 rfl) rfl
theorem q835 : (Jvm.Cond.code ({ cls := "PointsForAll", name := "bestBy", desc := "(II)I" } : Jvm.MethodName) prog_1_method_25_code (6 : Nat) (Option.some Jvm.ClassFile.FieldType.int)) ∈ lw_all := lw_g (lw_at lw_m4 34 rfl) rfl
theorem q836 : (Jvm.Cond.methodLink "PointsForAll" (259 : Nat) ({ cls := "PointsForAll", name := "digits", desc := "(I)I" } : Jvm.MethodName)) ∈ lw_all := lw_g (lw_at lw_m4 35 rfl) rfl
theorem q837 : (Jvm.Cond.privateMethod ({ cls := "PointsForAll", name := "digits", desc := "(I)I" } : Jvm.MethodName)) ∈ lw_tbl := lw_at lw_m4 36 rfl
theorem q838 : (Jvm.Cond.instanceMethod ({ cls := "PointsForAll", name := "digits", desc := "(I)I" } : Jvm.MethodName)) ∈ lw_all := lw_g (lw_at lw_m4 37 rfl) rfl
theorem q839 : (Jvm.Cond.code ({ cls := "PointsForAll", name := "digits", desc := "(I)I" } : Jvm.MethodName) prog_1_method_23_code (4 : Nat) (Option.some Jvm.ClassFile.FieldType.int)) ∈ lw_all := lw_g (lw_at lw_m4 38 rfl) rfl
theorem q841 : (Jvm.Cond.instanceMethod ({ cls := "PointsForAll", name := "wanted", desc := "(II)I" } : Jvm.MethodName)) ∈ lw_all := lw_g (lw_at lw_m4 40 rfl) rfl
theorem q842 : (Jvm.Cond.selects "PointsForAll" ({ cls := "PointsForAll", name := "wanted", desc := "(II)I" } : Jvm.MethodName) ({ cls := "PointsForAll", name := "wanted", desc := "(II)I" } : Jvm.MethodName)) ∈ lw_all := lw_g (lw_at lw_m4 41 rfl) rfl
theorem q843 : (Jvm.Cond.code ({ cls := "PointsForAll", name := "wanted", desc := "(II)I" } : Jvm.MethodName) prog_1_method_32_code (3 : Nat) (Option.some Jvm.ClassFile.FieldType.int)) ∈ lw_all := lw_g (lw_at lw_m4 42 rfl) rfl
theorem q844 : (Jvm.Cond.constant "PointsForAll" (268 : Nat) (-2000000000 : Int32)) ∈ lw_all := lw_g (lw_at lw_m4 43 rfl) rfl
theorem q845 : (Jvm.Cond.methodLink "PointsForAll" (269 : Nat) ({ cls := "PointsForAll", name := "findWanted", desc := "()V" } : Jvm.MethodName)) ∈ lw_all := lw_g (lw_at lw_m4 44 rfl) rfl
theorem q846 : (Jvm.Cond.privateMethod ({ cls := "PointsForAll", name := "findWanted", desc := "()V" } : Jvm.MethodName)) ∈ lw_tbl := lw_at lw_m4 45 rfl
theorem q847 : (Jvm.Cond.instanceMethod ({ cls := "PointsForAll", name := "findWanted", desc := "()V" } : Jvm.MethodName)) ∈ lw_all := lw_g (lw_at lw_m4 46 rfl) rfl
theorem q848 : (Jvm.Cond.code ({ cls := "PointsForAll", name := "findWanted", desc := "()V" } : Jvm.MethodName) prog_1_method_29_code (4 : Nat) (Option.none : Option Jvm.ClassFile.FieldType)) ∈ lw_all := lw_g (lw_at lw_m4 47 rfl) rfl
theorem q849 : (Jvm.Cond.methodLink "PointsForAll" (272 : Nat) ({ cls := "PointsForAll", name := "both", desc := "()I" } : Jvm.MethodName)) ∈ lw_all := lw_g (lw_at lw_m4 48 rfl) rfl
theorem q850 : (Jvm.Cond.privateMethod ({ cls := "PointsForAll", name := "both", desc := "()I" } : Jvm.MethodName)) ∈ lw_tbl := lw_at lw_m4 49 rfl
theorem q851 : (Jvm.Cond.instanceMethod ({ cls := "PointsForAll", name := "both", desc := "()I" } : Jvm.MethodName)) ∈ lw_all := lw_g (lw_at lw_m4 50 rfl) rfl
theorem q852 : (Jvm.Cond.code ({ cls := "PointsForAll", name := "both", desc := "()I" } : Jvm.MethodName) prog_1_method_31_code (3 : Nat) (Option.some Jvm.ClassFile.FieldType.int)) ∈ lw_all := lw_g (lw_at lw_m4 51 rfl) rfl
theorem q853 : (Jvm.Cond.methodLink "PointsForAll" (262 : Nat) ({ cls := "PointsForAll", name := "over", desc := "(I)I" } : Jvm.MethodName)) ∈ lw_all := lw_g (lw_at lw_m4 52 rfl) rfl
theorem q854 : (Jvm.Cond.privateMethod ({ cls := "PointsForAll", name := "over", desc := "(I)I" } : Jvm.MethodName)) ∈ lw_tbl := lw_at lw_m4 53 rfl
theorem q855 : (Jvm.Cond.instanceMethod ({ cls := "PointsForAll", name := "over", desc := "(I)I" } : Jvm.MethodName)) ∈ lw_all := lw_g (lw_at lw_m4 54 rfl) rfl
theorem q856 : (Jvm.Cond.code ({ cls := "PointsForAll", name := "over", desc := "(I)I" } : Jvm.MethodName) prog_1_method_30_code (2 : Nat) (Option.some Jvm.ClassFile.FieldType.int)) ∈ lw_all := lw_g (lw_at lw_m4 55 rfl) rfl
theorem q857 : (Jvm.Cond.methodLink "PointsForAll" (265 : Nat) ({ cls := "java/lang/Math", name := "abs", desc := "(I)I" } : Jvm.MethodName)) ∈ lw_all := lw_g (lw_at lw_m4 56 rfl) rfl
theorem q861 : (Jvm.Cond.instanceMethod ({ cls := "PointsForAll", name := "led", desc := "(II)I" } : Jvm.MethodName)) ∈ lw_all := lw_g (lw_at lw_m4 60 rfl) rfl
theorem q862 : (Jvm.Cond.selects "PointsForAll" ({ cls := "PointsForAll", name := "led", desc := "(II)I" } : Jvm.MethodName) ({ cls := "PointsForAll", name := "led", desc := "(II)I" } : Jvm.MethodName)) ∈ lw_all := lw_g (lw_at lw_m4 61 rfl) rfl
theorem q863 : (Jvm.Cond.code ({ cls := "PointsForAll", name := "led", desc := "(II)I" } : Jvm.MethodName) prog_1_method_33_code (3 : Nat) (Option.some Jvm.ClassFile.FieldType.int)) ∈ lw_all := lw_g (lw_at lw_m4 62 rfl) rfl
theorem q865 : (Jvm.Cond.instanceMethod ({ cls := "PointsForAll", name := "found", desc := "(II)I" } : Jvm.MethodName)) ∈ lw_all := lw_g (lw_at lw_m4 64 rfl) rfl
theorem q866 : (Jvm.Cond.selects "PointsForAll" ({ cls := "PointsForAll", name := "found", desc := "(II)I" } : Jvm.MethodName) ({ cls := "PointsForAll", name := "found", desc := "(II)I" } : Jvm.MethodName)) ∈ lw_all := lw_g (lw_at lw_m4 65 rfl) rfl
theorem q867 : (Jvm.Cond.code ({ cls := "PointsForAll", name := "found", desc := "(II)I" } : Jvm.MethodName) prog_1_method_37_code (3 : Nat) (Option.some Jvm.ClassFile.FieldType.int)) ∈ lw_all := lw_g (lw_at lw_m4 66 rfl) rfl
theorem q868 : (Jvm.Cond.methodLink "PointsForAll" (295 : Nat) ({ cls := "PointsForAll", name := "goRounds", desc := "(I)V" } : Jvm.MethodName)) ∈ lw_all := lw_g (lw_at lw_m4 67 rfl) rfl
theorem q869 : (Jvm.Cond.privateMethod ({ cls := "PointsForAll", name := "goRounds", desc := "(I)V" } : Jvm.MethodName)) ∈ lw_tbl := lw_at lw_m4 68 rfl
theorem q870 : (Jvm.Cond.instanceMethod ({ cls := "PointsForAll", name := "goRounds", desc := "(I)V" } : Jvm.MethodName)) ∈ lw_all := lw_g (lw_at lw_m4 69 rfl) rfl
theorem q871 : (Jvm.Cond.code ({ cls := "PointsForAll", name := "goRounds", desc := "(I)V" } : Jvm.MethodName) prog_1_method_34_code (3 : Nat) (Option.none : Option Jvm.ClassFile.FieldType)) ∈ lw_all := lw_g (lw_at lw_m4 70 rfl) rfl
theorem q872 : (Jvm.Cond.methodLink "PointsForAll" (284 : Nat) ({ cls := "PointsForAll", name := "takePoints", desc := "([I)V" } : Jvm.MethodName)) ∈ lw_all := lw_g (lw_at lw_m4 71 rfl) rfl
theorem q873 : (Jvm.Cond.privateMethod ({ cls := "PointsForAll", name := "takePoints", desc := "([I)V" } : Jvm.MethodName)) ∈ lw_tbl := lw_at lw_m4 72 rfl
theorem q874 : (Jvm.Cond.instanceMethod ({ cls := "PointsForAll", name := "takePoints", desc := "([I)V" } : Jvm.MethodName)) ∈ lw_all := lw_g (lw_at lw_m4 73 rfl) rfl
theorem q875 : (Jvm.Cond.code ({ cls := "PointsForAll", name := "takePoints", desc := "([I)V" } : Jvm.MethodName) prog_1_method_35_code (3 : Nat) (Option.none : Option Jvm.ClassFile.FieldType)) ∈ lw_all := lw_g (lw_at lw_m4 74 rfl) rfl
theorem q876 : (Jvm.Cond.methodLink "PointsForAll" (288 : Nat) ({ cls := "PointsForAll", name := "step", desc := "()Z" } : Jvm.MethodName)) ∈ lw_all := lw_g (lw_at lw_m4 75 rfl) rfl
theorem q877 : (Jvm.Cond.privateMethod ({ cls := "PointsForAll", name := "step", desc := "()Z" } : Jvm.MethodName)) ∈ lw_tbl := lw_at lw_m4 76 rfl
theorem q878 : (Jvm.Cond.instanceMethod ({ cls := "PointsForAll", name := "step", desc := "()Z" } : Jvm.MethodName)) ∈ lw_all := lw_g (lw_at lw_m4 77 rfl) rfl
theorem q879 : (Jvm.Cond.code ({ cls := "PointsForAll", name := "step", desc := "()Z" } : Jvm.MethodName) prog_1_method_36_code (4 : Nat) (Option.some Jvm.ClassFile.FieldType.boolean)) ∈ lw_all := lw_g (lw_at lw_m4 78 rfl) rfl
theorem q881 : (Jvm.Cond.instanceMethod ({ cls := "PointsForAll", name := "set", desc := "(I)I" } : Jvm.MethodName)) ∈ lw_all := lw_g (lw_at lw_m4 80 rfl) rfl
theorem q882 : (Jvm.Cond.selects "PointsForAll" ({ cls := "PointsForAll", name := "set", desc := "(I)I" } : Jvm.MethodName) ({ cls := "PointsForAll", name := "set", desc := "(I)I" } : Jvm.MethodName)) ∈ lw_all := lw_g (lw_at lw_m4 81 rfl) rfl
theorem q883 : (Jvm.Cond.code ({ cls := "PointsForAll", name := "set", desc := "(I)I" } : Jvm.MethodName) prog_1_method_38_code (3 : Nat) (Option.some Jvm.ClassFile.FieldType.int)) ∈ lw_all := lw_g (lw_at lw_m4 82 rfl) rfl
theorem q885 : (Jvm.Cond.instanceMethod ({ cls := "PointsForAll", name := "tell", desc := "(II)I" } : Jvm.MethodName)) ∈ lw_all := lw_g (lw_at lw_m4 84 rfl) rfl
theorem q886 : (Jvm.Cond.selects "PointsForAll" ({ cls := "PointsForAll", name := "tell", desc := "(II)I" } : Jvm.MethodName) ({ cls := "PointsForAll", name := "tell", desc := "(II)I" } : Jvm.MethodName)) ∈ lw_all := lw_g (lw_at lw_m4 85 rfl) rfl
theorem q887 : (Jvm.Cond.code ({ cls := "PointsForAll", name := "tell", desc := "(II)I" } : Jvm.MethodName) prog_1_method_40_code (4 : Nat) (Option.some Jvm.ClassFile.FieldType.int)) ∈ lw_all := lw_g (lw_at lw_m4 86 rfl) rfl
theorem q888 : (Jvm.Cond.methodLink "PointsForAll" (298 : Nat) ({ cls := "PointsForAll", name := "toldBasket", desc := "(I)I" } : Jvm.MethodName)) ∈ lw_all := lw_g (lw_at lw_m4 87 rfl) rfl
theorem q889 : (Jvm.Cond.privateMethod ({ cls := "PointsForAll", name := "toldBasket", desc := "(I)I" } : Jvm.MethodName)) ∈ lw_tbl := lw_at lw_m4 88 rfl
theorem q890 : (Jvm.Cond.instanceMethod ({ cls := "PointsForAll", name := "toldBasket", desc := "(I)I" } : Jvm.MethodName)) ∈ lw_all := lw_g (lw_at lw_m4 89 rfl) rfl
theorem q891 : (Jvm.Cond.code ({ cls := "PointsForAll", name := "toldBasket", desc := "(I)I" } : Jvm.MethodName) prog_1_method_39_code (5 : Nat) (Option.some Jvm.ClassFile.FieldType.int)) ∈ lw_all := lw_g (lw_at lw_m4 90 rfl) rfl
theorem q893 : (Jvm.Cond.instanceMethod ({ cls := "PointsForAll", name := "judge", desc := "()I" } : Jvm.MethodName)) ∈ lw_all := lw_g (lw_at lw_m4 92 rfl) rfl
theorem q894 : (Jvm.Cond.selects "PointsForAll" ({ cls := "PointsForAll", name := "judge", desc := "()I" } : Jvm.MethodName) ({ cls := "PointsForAll", name := "judge", desc := "()I" } : Jvm.MethodName)) ∈ lw_all := lw_g (lw_at lw_m4 93 rfl) rfl
theorem q895 : (Jvm.Cond.code ({ cls := "PointsForAll", name := "judge", desc := "()I" } : Jvm.MethodName) prog_1_method_41_code (4 : Nat) (Option.some Jvm.ClassFile.FieldType.int)) ∈ lw_all := lw_g (lw_at lw_m4 94 rfl) rfl
theorem q897 : (Jvm.Cond.instanceMethod ({ cls := "PointsForAll", name := "changed", desc := "(III)I" } : Jvm.MethodName)) ∈ lw_all := lw_g (lw_at lw_m4 96 rfl) rfl
theorem q898 : (Jvm.Cond.selects "PointsForAll" ({ cls := "PointsForAll", name := "changed", desc := "(III)I" } : Jvm.MethodName) ({ cls := "PointsForAll", name := "changed", desc := "(III)I" } : Jvm.MethodName)) ∈ lw_all := lw_g (lw_at lw_m4 97 rfl) rfl
theorem q899 : (Jvm.Cond.code ({ cls := "PointsForAll", name := "changed", desc := "(III)I" } : Jvm.MethodName) prog_1_method_43_code (6 : Nat) (Option.some Jvm.ClassFile.FieldType.int)) ∈ lw_all := lw_g (lw_at lw_m4 98 rfl) rfl
theorem q900 : (Jvm.Cond.methodLink "PointsForAll" (304 : Nat) ({ cls := "PointsForAll", name := "bestWorth", desc := "(I)I" } : Jvm.MethodName)) ∈ lw_all := lw_g (lw_at lw_m4 99 rfl) rfl
theorem q901 : (Jvm.Cond.privateMethod ({ cls := "PointsForAll", name := "bestWorth", desc := "(I)I" } : Jvm.MethodName)) ∈ lw_tbl := lw_at lw_m4 100 rfl
theorem q902 : (Jvm.Cond.instanceMethod ({ cls := "PointsForAll", name := "bestWorth", desc := "(I)I" } : Jvm.MethodName)) ∈ lw_all := lw_g (lw_at lw_m4 101 rfl) rfl
theorem q903 : (Jvm.Cond.code ({ cls := "PointsForAll", name := "bestWorth", desc := "(I)I" } : Jvm.MethodName) prog_1_method_27_code (2 : Nat) (Option.some Jvm.ClassFile.FieldType.int)) ∈ lw_all := lw_g (lw_at lw_m4 102 rfl) rfl
theorem q904 : (Jvm.Cond.methodLink "PointsForAll" (307 : Nat) ({ cls := "PointsForAll", name := "bestChanged", desc := "(LPointsForAll$Sort;I)I" } : Jvm.MethodName)) ∈ lw_all := lw_g (lw_at lw_m4 103 rfl) rfl
theorem q905 : (Jvm.Cond.privateMethod ({ cls := "PointsForAll", name := "bestChanged", desc := "(LPointsForAll$Sort;I)I" } : Jvm.MethodName)) ∈ lw_tbl := lw_at lw_m4 104 rfl
theorem q906 : (Jvm.Cond.instanceMethod ({ cls := "PointsForAll", name := "bestChanged", desc := "(LPointsForAll$Sort;I)I" } : Jvm.MethodName)) ∈ lw_all := lw_g (lw_at lw_m4 105 rfl) rfl
theorem q907 : (Jvm.Cond.code ({ cls := "PointsForAll", name := "bestChanged", desc := "(LPointsForAll$Sort;I)I" } : Jvm.MethodName) prog_1_method_42_code (8 : Nat) (Option.some Jvm.ClassFile.FieldType.int)) ∈ lw_all := lw_g (lw_at lw_m4 106 rfl) rfl
theorem q909 : (Jvm.Cond.instanceMethod ({ cls := "PointsForAll", name := "free", desc := "()I" } : Jvm.MethodName)) ∈ lw_all := lw_g (lw_at lw_m4 108 rfl) rfl
theorem q910 : (Jvm.Cond.selects "PointsForAll" ({ cls := "PointsForAll", name := "free", desc := "()I" } : Jvm.MethodName) ({ cls := "PointsForAll", name := "free", desc := "()I" } : Jvm.MethodName)) ∈ lw_all := lw_g (lw_at lw_m4 109 rfl) rfl
theorem q911 : (Jvm.Cond.code ({ cls := "PointsForAll", name := "free", desc := "()I" } : Jvm.MethodName) prog_1_method_44_code (5 : Nat) (Option.some Jvm.ClassFile.FieldType.int)) ∈ lw_all := lw_g (lw_at lw_m4 110 rfl) rfl
theorem q913 : (Jvm.Cond.instanceMethod ({ cls := "PointsForAll", name := "black", desc := "(III)I" } : Jvm.MethodName)) ∈ lw_all := lw_g (lw_at lw_m4 112 rfl) rfl
theorem q914 : (Jvm.Cond.selects "PointsForAll" ({ cls := "PointsForAll", name := "black", desc := "(III)I" } : Jvm.MethodName) ({ cls := "PointsForAll", name := "black", desc := "(III)I" } : Jvm.MethodName)) ∈ lw_all := lw_g (lw_at lw_m4 113 rfl) rfl
theorem q915 : (Jvm.Cond.code ({ cls := "PointsForAll", name := "black", desc := "(III)I" } : Jvm.MethodName) prog_1_method_45_code (8 : Nat) (Option.some Jvm.ClassFile.FieldType.int)) ∈ lw_all := lw_g (lw_at lw_m4 114 rfl) rfl
theorem q917 : (Jvm.Cond.instanceMethod ({ cls := "PointsForAll", name := "beside", desc := "(II)I" } : Jvm.MethodName)) ∈ lw_all := lw_g (lw_at lw_m4 116 rfl) rfl
theorem q918 : (Jvm.Cond.selects "PointsForAll" ({ cls := "PointsForAll", name := "beside", desc := "(II)I" } : Jvm.MethodName) ({ cls := "PointsForAll", name := "beside", desc := "(II)I" } : Jvm.MethodName)) ∈ lw_all := lw_g (lw_at lw_m4 117 rfl) rfl
theorem q919 : (Jvm.Cond.code ({ cls := "PointsForAll", name := "beside", desc := "(II)I" } : Jvm.MethodName) prog_1_method_49_code (3 : Nat) (Option.some Jvm.ClassFile.FieldType.int)) ∈ lw_all := lw_g (lw_at lw_m4 118 rfl) rfl
theorem q920 : (Jvm.Cond.methodLink "PointsForAll" (314 : Nat) ({ cls := "PointsForAll", name := "isDear", desc := "(I)Z" } : Jvm.MethodName)) ∈ lw_all := lw_g (lw_at lw_m4 119 rfl) rfl
theorem q921 : (Jvm.Cond.static ({ cls := "PointsForAll", name := "isDear", desc := "(I)Z" } : Jvm.MethodName)) ∈ lw_all := lw_g (lw_at lw_m4 120 rfl) rfl
theorem q922 : (Jvm.Cond.code ({ cls := "PointsForAll", name := "isDear", desc := "(I)Z" } : Jvm.MethodName) prog_1_method_48_code (1 : Nat) (Option.some Jvm.ClassFile.FieldType.boolean)) ∈ lw_all := lw_g (lw_at lw_m4 121 rfl) rfl
theorem q923 : (Jvm.Cond.methodLink "PointsForAll" (317 : Nat) ({ cls := "PointsForAll", name := "besideOf", desc := "(II)I" } : Jvm.MethodName)) ∈ lw_all := lw_g (lw_at lw_m4 122 rfl) rfl
theorem q924 : (Jvm.Cond.privateMethod ({ cls := "PointsForAll", name := "besideOf", desc := "(II)I" } : Jvm.MethodName)) ∈ lw_tbl := lw_at lw_m4 123 rfl
theorem q925 : (Jvm.Cond.instanceMethod ({ cls := "PointsForAll", name := "besideOf", desc := "(II)I" } : Jvm.MethodName)) ∈ lw_all := lw_g (lw_at lw_m4 124 rfl) rfl
theorem q926 : (Jvm.Cond.code ({ cls := "PointsForAll", name := "besideOf", desc := "(II)I" } : Jvm.MethodName) prog_1_method_47_code (7 : Nat) (Option.some Jvm.ClassFile.FieldType.int)) ∈ lw_all := lw_g (lw_at lw_m4 125 rfl) rfl
theorem q927 : (Jvm.Cond.methodLink "PointsForAll" (311 : Nat) ({ cls := "PointsForAll", name := "allHeads", desc := "()I" } : Jvm.MethodName)) ∈ lw_all := lw_g (lw_at lw_m4 126 rfl) rfl
theorem q928 : (Jvm.Cond.privateMethod ({ cls := "PointsForAll", name := "allHeads", desc := "()I" } : Jvm.MethodName)) ∈ lw_tbl := lw_at lw_m4 127 rfl
theorem q929 : (Jvm.Cond.instanceMethod ({ cls := "PointsForAll", name := "allHeads", desc := "()I" } : Jvm.MethodName)) ∈ lw_all := lw_g (lw_at lw_m4 128 rfl) rfl
theorem q930 : (Jvm.Cond.code ({ cls := "PointsForAll", name := "allHeads", desc := "()I" } : Jvm.MethodName) prog_1_method_46_code (3 : Nat) (Option.some Jvm.ClassFile.FieldType.int)) ∈ lw_all := lw_g (lw_at lw_m4 129 rfl) rfl
theorem q932 : (Jvm.Cond.instanceMethod ({ cls := "PointsForAll", name := "loses", desc := "(I)I" } : Jvm.MethodName)) ∈ lw_all := lw_g (lw_at lw_m4 131 rfl) rfl
theorem q933 : (Jvm.Cond.selects "PointsForAll" ({ cls := "PointsForAll", name := "loses", desc := "(I)I" } : Jvm.MethodName) ({ cls := "PointsForAll", name := "loses", desc := "(I)I" } : Jvm.MethodName)) ∈ lw_all := lw_g (lw_at lw_m4 132 rfl) rfl
theorem q934 : (Jvm.Cond.code ({ cls := "PointsForAll", name := "loses", desc := "(I)I" } : Jvm.MethodName) prog_1_method_50_code (4 : Nat) (Option.some Jvm.ClassFile.FieldType.int)) ∈ lw_all := lw_g (lw_at lw_m4 133 rfl) rfl
theorem q936 : (Jvm.Cond.instanceMethod ({ cls := "PointsForAll", name := "fewest", desc := "()I" } : Jvm.MethodName)) ∈ lw_all := lw_g (lw_at lw_m4 135 rfl) rfl
theorem q937 : (Jvm.Cond.selects "PointsForAll" ({ cls := "PointsForAll", name := "fewest", desc := "()I" } : Jvm.MethodName) ({ cls := "PointsForAll", name := "fewest", desc := "()I" } : Jvm.MethodName)) ∈ lw_all := lw_g (lw_at lw_m4 136 rfl) rfl
theorem q938 : (Jvm.Cond.code ({ cls := "PointsForAll", name := "fewest", desc := "()I" } : Jvm.MethodName) prog_1_method_51_code (5 : Nat) (Option.some Jvm.ClassFile.FieldType.int)) ∈ lw_all := lw_g (lw_at lw_m4 137 rfl) rfl
theorem q939 : (Jvm.Cond.methodLink "PointsForAll" (320 : Nat) ({ cls := "java/lang/Integer", name := "bitCount", desc := "(I)I" } : Jvm.MethodName)) ∈ lw_all := lw_g (lw_at lw_m4 138 rfl) rfl
theorem q946 : (Jvm.Cond.instanceMethod ({ cls := "PointsForAll", name := "least", desc := "(I)I" } : Jvm.MethodName)) ∈ lw_all := lw_g (lw_at lw_m4 145 rfl) rfl
theorem q947 : (Jvm.Cond.selects "PointsForAll" ({ cls := "PointsForAll", name := "least", desc := "(I)I" } : Jvm.MethodName) ({ cls := "PointsForAll", name := "least", desc := "(I)I" } : Jvm.MethodName)) ∈ lw_all := lw_g (lw_at lw_m4 146 rfl) rfl
theorem q948 : (Jvm.Cond.code ({ cls := "PointsForAll", name := "least", desc := "(I)I" } : Jvm.MethodName) prog_1_method_52_code (4 : Nat) (Option.some Jvm.ClassFile.FieldType.int)) ∈ lw_all := lw_g (lw_at lw_m4 147 rfl) rfl
theorem q950 : (Jvm.Cond.instanceMethod ({ cls := "PointsForAll", name := "months", desc := "(IIII)I" } : Jvm.MethodName)) ∈ lw_all := lw_g (lw_at lw_m4 149 rfl) rfl
theorem q951 : (Jvm.Cond.selects "PointsForAll" ({ cls := "PointsForAll", name := "months", desc := "(IIII)I" } : Jvm.MethodName) ({ cls := "PointsForAll", name := "months", desc := "(IIII)I" } : Jvm.MethodName)) ∈ lw_all := lw_g (lw_at lw_m4 150 rfl) rfl
theorem q952 : (Jvm.Cond.code ({ cls := "PointsForAll", name := "months", desc := "(IIII)I" } : Jvm.MethodName) prog_1_method_53_code (13 : Nat) (Option.some Jvm.ClassFile.FieldType.int)) ∈ lw_all := lw_g (lw_at lw_m4 151 rfl) rfl
theorem q954 : (Jvm.Cond.instanceMethod ({ cls := "PointsForAll", name := "foresight", desc := "(I)I" } : Jvm.MethodName)) ∈ lw_all := lw_g (lw_at lw_m4 153 rfl) rfl
theorem q955 : (Jvm.Cond.selects "PointsForAll" ({ cls := "PointsForAll", name := "foresight", desc := "(I)I" } : Jvm.MethodName) ({ cls := "PointsForAll", name := "foresight", desc := "(I)I" } : Jvm.MethodName)) ∈ lw_all := lw_g (lw_at lw_m4 154 rfl) rfl
theorem q956 : (Jvm.Cond.code ({ cls := "PointsForAll", name := "foresight", desc := "(I)I" } : Jvm.MethodName) prog_1_method_54_code (7 : Nat) (Option.some Jvm.ClassFile.FieldType.int)) ∈ lw_all := lw_g (lw_at lw_m4 155 rfl) rfl
theorem q958 : (Jvm.Cond.instanceMethod ({ cls := "PointsForAll", name := "cheap", desc := "(I)I" } : Jvm.MethodName)) ∈ lw_all := lw_g (lw_at lw_m4 157 rfl) rfl
theorem q959 : (Jvm.Cond.selects "PointsForAll" ({ cls := "PointsForAll", name := "cheap", desc := "(I)I" } : Jvm.MethodName) ({ cls := "PointsForAll", name := "cheap", desc := "(I)I" } : Jvm.MethodName)) ∈ lw_all := lw_g (lw_at lw_m4 158 rfl) rfl
theorem q960 : (Jvm.Cond.code ({ cls := "PointsForAll", name := "cheap", desc := "(I)I" } : Jvm.MethodName) prog_1_method_55_code (4 : Nat) (Option.some Jvm.ClassFile.FieldType.int)) ∈ lw_all := lw_g (lw_at lw_m4 159 rfl) rfl
theorem q962 : (Jvm.Cond.instanceMethod ({ cls := "PointsForAll", name := "wrong", desc := "(I)I" } : Jvm.MethodName)) ∈ lw_all := lw_g (lw_at lw_m4 161 rfl) rfl
theorem q963 : (Jvm.Cond.selects "PointsForAll" ({ cls := "PointsForAll", name := "wrong", desc := "(I)I" } : Jvm.MethodName) ({ cls := "PointsForAll", name := "wrong", desc := "(I)I" } : Jvm.MethodName)) ∈ lw_all := lw_g (lw_at lw_m4 162 rfl) rfl
theorem q964 : (Jvm.Cond.code ({ cls := "PointsForAll", name := "wrong", desc := "(I)I" } : Jvm.MethodName) prog_1_method_56_code (6 : Nat) (Option.some Jvm.ClassFile.FieldType.int)) ∈ lw_all := lw_g (lw_at lw_m4 163 rfl) rfl
theorem q965 : (Jvm.Cond.methodLink "PointsForAll" (325 : Nat) ({ cls := "java/lang/Integer", name := "signum", desc := "(I)I" } : Jvm.MethodName)) ∈ lw_all := lw_g (lw_at lw_m4 164 rfl) rfl
theorem q969 : (Jvm.Cond.instanceMethod ({ cls := "PointsForAll", name := "body", desc := "(I)I" } : Jvm.MethodName)) ∈ lw_all := lw_g (lw_at lw_m4 168 rfl) rfl
theorem q970 : (Jvm.Cond.selects "PointsForAll" ({ cls := "PointsForAll", name := "body", desc := "(I)I" } : Jvm.MethodName) ({ cls := "PointsForAll", name := "body", desc := "(I)I" } : Jvm.MethodName)) ∈ lw_all := lw_g (lw_at lw_m4 169 rfl) rfl
theorem q971 : (Jvm.Cond.code ({ cls := "PointsForAll", name := "body", desc := "(I)I" } : Jvm.MethodName) prog_1_method_60_code (2 : Nat) (Option.some Jvm.ClassFile.FieldType.int)) ∈ lw_all := lw_g (lw_at lw_m4 170 rfl) rfl
theorem q972 : (Jvm.Cond.methodLink "PointsForAll" (358 : Nat) ({ cls := "PointsForAll", name := "made", desc := "(I)LPointsForAll$Purse;" } : Jvm.MethodName)) ∈ lw_all := lw_g (lw_at lw_m4 171 rfl) rfl
theorem q973 : (Jvm.Cond.privateMethod ({ cls := "PointsForAll", name := "made", desc := "(I)LPointsForAll$Purse;" } : Jvm.MethodName)) ∈ lw_tbl := lw_at lw_m4 172 rfl
theorem q974 : (Jvm.Cond.instanceMethod ({ cls := "PointsForAll", name := "made", desc := "(I)LPointsForAll$Purse;" } : Jvm.MethodName)) ∈ lw_all := lw_g (lw_at lw_m4 173 rfl) rfl
theorem q975 : (Jvm.Cond.code ({ cls := "PointsForAll", name := "made", desc := "(I)LPointsForAll$Purse;" } : Jvm.MethodName) prog_1_method_59_code (2 : Nat) (Option.some (Jvm.ClassFile.FieldType.object "PointsForAll$Purse"))) ∈ lw_all := lw_g (lw_at lw_m4 174 rfl) rfl
theorem q976 : (Jvm.Cond.classLink "PointsForAll" (334 : Nat) "PointsForAll$Coin") ∈ lw_all := lw_g (lw_at lw_m4 175 rfl) rfl
theorem q978 : (Jvm.Cond.methodLink "PointsForAll" (336 : Nat) ({ cls := "PointsForAll$Coin", name := "<init>", desc := "(LPointsForAll;I)V" } : Jvm.MethodName)) ∈ lw_all := lw_g (lw_at lw_m4 177 rfl) rfl
theorem q998 : (Jvm.Cond.classLink "PointsForAll" (339 : Nat) "PointsForAll$Points") ∈ lw_all := lw_g (lw_at lw_m4 197 rfl) rfl
theorem q1000 : (Jvm.Cond.methodLink "PointsForAll" (341 : Nat) ({ cls := "PointsForAll$Points", name := "<init>", desc := "(LPointsForAll;I)V" } : Jvm.MethodName)) ∈ lw_all := lw_g (lw_at lw_m4 199 rfl) rfl
theorem q1010 : (Jvm.Cond.classLink "PointsForAll" (342 : Nat) "PointsForAll$Lent") ∈ lw_all := lw_g (lw_at lw_m4 209 rfl) rfl
theorem q1012 : (Jvm.Cond.methodLink "PointsForAll" (344 : Nat) ({ cls := "PointsForAll$Lent", name := "<init>", desc := "(LPointsForAll;I)V" } : Jvm.MethodName)) ∈ lw_all := lw_g (lw_at lw_m4 211 rfl) rfl
theorem q1023 : (Jvm.Cond.classLink "PointsForAll" (345 : Nat) "PointsForAll$Changed") ∈ lw_all := lw_g (lw_at lw_m4 222 rfl) rfl
theorem q1025 : (Jvm.Cond.methodLink "PointsForAll" (347 : Nat) ({ cls := "PointsForAll$Changed", name := "<init>", desc := "(LPointsForAll;I)V" } : Jvm.MethodName)) ∈ lw_all := lw_g (lw_at lw_m4 224 rfl) rfl
theorem q1036 : (Jvm.Cond.classLink "PointsForAll" (348 : Nat) "PointsForAll$Baby") ∈ lw_all := lw_g (lw_at lw_m4 235 rfl) rfl
theorem q1038 : (Jvm.Cond.methodLink "PointsForAll" (350 : Nat) ({ cls := "PointsForAll$Baby", name := "<init>", desc := "(LPointsForAll;I)V" } : Jvm.MethodName)) ∈ lw_all := lw_g (lw_at lw_m4 237 rfl) rfl
theorem q1050 : (Jvm.Cond.classLink "PointsForAll" (351 : Nat) "PointsForAll$Told") ∈ lw_all := lw_g (lw_at lw_m5 9 rfl) rfl
theorem q1052 : (Jvm.Cond.methodLink "PointsForAll" (353 : Nat) ({ cls := "PointsForAll$Told", name := "<init>", desc := "(LPointsForAll;I)V" } : Jvm.MethodName)) ∈ lw_all := lw_g (lw_at lw_m5 11 rfl) rfl
theorem q1062 : (Jvm.Cond.classLink "PointsForAll" (354 : Nat) "PointsForAll$Black") ∈ lw_all := lw_g (lw_at lw_m5 21 rfl) rfl
theorem q1064 : (Jvm.Cond.methodLink "PointsForAll" (356 : Nat) ({ cls := "PointsForAll$Black", name := "<init>", desc := "(LPointsForAll;I)V" } : Jvm.MethodName)) ∈ lw_all := lw_g (lw_at lw_m5 23 rfl) rfl
theorem q1077 : (Jvm.Cond.methodLink "PointsForAll" (357 : Nat) ({ cls := "PointsForAll$Purse", name := "<init>", desc := "(LPointsForAll;I)V" } : Jvm.MethodName)) ∈ lw_all := lw_g (lw_at lw_m5 36 rfl) rfl
theorem q1082 : (Jvm.Cond.instanceMethod ({ cls := "PointsForAll", name := "act", desc := "(III)I" } : Jvm.MethodName)) ∈ lw_all := lw_g (lw_at lw_m5 41 rfl) rfl
theorem q1083 : (Jvm.Cond.selects "PointsForAll" ({ cls := "PointsForAll", name := "act", desc := "(III)I" } : Jvm.MethodName) ({ cls := "PointsForAll", name := "act", desc := "(III)I" } : Jvm.MethodName)) ∈ lw_all := lw_g (lw_at lw_m5 42 rfl) rfl
theorem q1084 : (Jvm.Cond.code ({ cls := "PointsForAll", name := "act", desc := "(III)I" } : Jvm.MethodName) prog_1_method_62_code (6 : Nat) (Option.some Jvm.ClassFile.FieldType.int)) ∈ lw_all := lw_g (lw_at lw_m5 43 rfl) rfl
theorem q1085 : (Jvm.Cond.methodLink "PointsForAll" (361 : Nat) ({ cls := "PointsForAll", name := "isBody", desc := "(I)Z" } : Jvm.MethodName)) ∈ lw_all := lw_g (lw_at lw_m5 44 rfl) rfl
theorem q1086 : (Jvm.Cond.privateMethod ({ cls := "PointsForAll", name := "isBody", desc := "(I)Z" } : Jvm.MethodName)) ∈ lw_tbl := lw_at lw_m5 45 rfl
theorem q1087 : (Jvm.Cond.instanceMethod ({ cls := "PointsForAll", name := "isBody", desc := "(I)Z" } : Jvm.MethodName)) ∈ lw_all := lw_g (lw_at lw_m5 46 rfl) rfl
theorem q1088 : (Jvm.Cond.code ({ cls := "PointsForAll", name := "isBody", desc := "(I)Z" } : Jvm.MethodName) prog_1_method_58_code (2 : Nat) (Option.some Jvm.ClassFile.FieldType.boolean)) ∈ lw_all := lw_g (lw_at lw_m5 47 rfl) rfl
theorem q1089 : (Jvm.Cond.interfaceEntry "PointsForAll" (364 : Nat)) ∈ lw_tbl := lw_at lw_m5 48 rfl
theorem q1090 : (Jvm.Cond.methodLink "PointsForAll" (364 : Nat) ({ cls := "PointsForAll$Buys", name := "buys", desc := "(I)I" } : Jvm.MethodName)) ∈ lw_all := lw_g (lw_at lw_m5 49 rfl) rfl
theorem q1100 : (Jvm.Cond.privateMethod ({ cls := "PointsForAll", name := "ran", desc := "(I)V" } : Jvm.MethodName)) ∈ lw_tbl := lw_at lw_m5 59 rfl
theorem q1101 : (Jvm.Cond.instanceMethod ({ cls := "PointsForAll", name := "ran", desc := "(I)V" } : Jvm.MethodName)) ∈ lw_all := lw_g (lw_at lw_m5 60 rfl) rfl
theorem q1102 : (Jvm.Cond.code ({ cls := "PointsForAll", name := "ran", desc := "(I)V" } : Jvm.MethodName) prog_1_method_57_code (2 : Nat) (Option.none : Option Jvm.ClassFile.FieldType)) ∈ lw_all := lw_g (lw_at lw_m5 61 rfl) rfl
theorem q1141 : (Jvm.Cond.interfaceEntry "PointsForAll" (369 : Nat)) ∈ lw_tbl := lw_at lw_m5 100 rfl
theorem q1142 : (Jvm.Cond.methodLink "PointsForAll" (369 : Nat) ({ cls := "PointsForAll$Tells", name := "tells", desc := "(I)I" } : Jvm.MethodName)) ∈ lw_all := lw_g (lw_at lw_m5 101 rfl) rfl
theorem q1227 : (Jvm.Cond.methodLink "PointsForAll" (374 : Nat) ({ cls := "PointsForAll$Purse", name := "keeps", desc := "(I)I" } : Jvm.MethodName)) ∈ lw_all := lw_g (lw_at lw_m5 186 rfl) rfl
theorem q1228 : (Jvm.Cond.methodLink "PointsForAll" (377 : Nat) ({ cls := "PointsForAll$Purse", name := "lends", desc := "(I)I" } : Jvm.MethodName)) ∈ lw_all := lw_g (lw_at lw_m5 187 rfl) rfl
theorem q1230 : (Jvm.Cond.instanceMethod ({ cls := "PointsForAll", name := "trace", desc := "(I)I" } : Jvm.MethodName)) ∈ lw_all := lw_g (lw_at lw_m5 189 rfl) rfl
theorem q1231 : (Jvm.Cond.selects "PointsForAll" ({ cls := "PointsForAll", name := "trace", desc := "(I)I" } : Jvm.MethodName) ({ cls := "PointsForAll", name := "trace", desc := "(I)I" } : Jvm.MethodName)) ∈ lw_all := lw_g (lw_at lw_m5 190 rfl) rfl
theorem q1232 : (Jvm.Cond.code ({ cls := "PointsForAll", name := "trace", desc := "(I)I" } : Jvm.MethodName) prog_1_method_63_code (2 : Nat) (Option.some Jvm.ClassFile.FieldType.int)) ∈ lw_all := lw_g (lw_at lw_m5 191 rfl) rfl
theorem q1234 : (Jvm.Cond.instanceMethod ({ cls := "PointsForAll", name := "keep", desc := "(II)I" } : Jvm.MethodName)) ∈ lw_all := lw_g (lw_at lw_m5 193 rfl) rfl
theorem q1235 : (Jvm.Cond.selects "PointsForAll" ({ cls := "PointsForAll", name := "keep", desc := "(II)I" } : Jvm.MethodName) ({ cls := "PointsForAll", name := "keep", desc := "(II)I" } : Jvm.MethodName)) ∈ lw_all := lw_g (lw_at lw_m5 194 rfl) rfl
theorem q1236 : (Jvm.Cond.code ({ cls := "PointsForAll", name := "keep", desc := "(II)I" } : Jvm.MethodName) prog_1_method_64_code (3 : Nat) (Option.some Jvm.ClassFile.FieldType.int)) ∈ lw_all := lw_g (lw_at lw_m5 195 rfl) rfl
theorem q1238 : (Jvm.Cond.instanceMethod ({ cls := "PointsForAll", name := "row", desc := "(III)I" } : Jvm.MethodName)) ∈ lw_all := lw_g (lw_at lw_m5 197 rfl) rfl
theorem q1239 : (Jvm.Cond.selects "PointsForAll" ({ cls := "PointsForAll", name := "row", desc := "(III)I" } : Jvm.MethodName) ({ cls := "PointsForAll", name := "row", desc := "(III)I" } : Jvm.MethodName)) ∈ lw_all := lw_g (lw_at lw_m5 198 rfl) rfl
theorem q1240 : (Jvm.Cond.codeWith ({ cls := "PointsForAll", name := "row", desc := "(III)I" } : Jvm.MethodName) prog_1_method_66_code (5 : Nat) (Option.some Jvm.ClassFile.FieldType.int) [((24 : Nat), (35 : Nat), (38 : Nat), (398 : Nat))]) ∈ lw_all := lw_g (lw_at lw_m5 199 rfl) rfl
theorem q1241 : (Jvm.Cond.classLink "PointsForAll" (398 : Nat) "java/lang/NegativeArraySizeException") ∈ lw_all := lw_g (lw_at lw_m5 200 rfl) rfl
theorem q1255 : (Jvm.Cond.methodLink "PointsForAll" (394 : Nat) ({ cls := "PointsForAll", name := "newRow", desc := "(II)LPointsForAll$Row;" } : Jvm.MethodName)) ∈ lw_all := lw_g (lw_at lw_m5 214 rfl) rfl
theorem q1256 : (Jvm.Cond.static ({ cls := "PointsForAll", name := "newRow", desc := "(II)LPointsForAll$Row;" } : Jvm.MethodName)) ∈ lw_all := lw_g (lw_at lw_m5 215 rfl) rfl
theorem q1257 : (Jvm.Cond.code ({ cls := "PointsForAll", name := "newRow", desc := "(II)LPointsForAll$Row;" } : Jvm.MethodName) prog_1_method_65_code (2 : Nat) (Option.some (Jvm.ClassFile.FieldType.object "PointsForAll$Row"))) ∈ lw_all := lw_g (lw_at lw_m5 216 rfl) rfl
theorem q1258 : (Jvm.Cond.classLink "PointsForAll" (380 : Nat) "PointsForAll$ByteRow") ∈ lw_all := lw_g (lw_at lw_m5 217 rfl) rfl
theorem q1260 : (Jvm.Cond.methodLink "PointsForAll" (382 : Nat) ({ cls := "PointsForAll$ByteRow", name := "<init>", desc := "(I)V" } : Jvm.MethodName)) ∈ lw_all := lw_g (lw_at lw_m5 219 rfl) rfl
theorem q1272 : (Jvm.Cond.methodLink "PointsForAll" (384 : Nat) ({ cls := "PointsForAll$ShortRow", name := "<init>", desc := "(I)V" } : Jvm.MethodName)) ∈ lw_all := lw_g (lw_at lw_m5 231 rfl) rfl
theorem q1281 : (Jvm.Cond.classLink "PointsForAll" (385 : Nat) "PointsForAll$IntRow") ∈ lw_all := lw_g (lw_at lw_m6 0 rfl) rfl
theorem q1283 : (Jvm.Cond.methodLink "PointsForAll" (387 : Nat) ({ cls := "PointsForAll$IntRow", name := "<init>", desc := "(I)V" } : Jvm.MethodName)) ∈ lw_all := lw_g (lw_at lw_m6 2 rfl) rfl
theorem q1291 : (Jvm.Cond.classLink "PointsForAll" (388 : Nat) "PointsForAll$LongRow") ∈ lw_all := lw_g (lw_at lw_m6 10 rfl) rfl
theorem q1293 : (Jvm.Cond.methodLink "PointsForAll" (390 : Nat) ({ cls := "PointsForAll$LongRow", name := "<init>", desc := "(I)V" } : Jvm.MethodName)) ∈ lw_all := lw_g (lw_at lw_m6 12 rfl) rfl
theorem q1302 : (Jvm.Cond.classLink "PointsForAll" (391 : Nat) "PointsForAll$BooleanRow") ∈ lw_all := lw_g (lw_at lw_m6 21 rfl) rfl
theorem q1304 : (Jvm.Cond.methodLink "PointsForAll" (393 : Nat) ({ cls := "PointsForAll$BooleanRow", name := "<init>", desc := "(I)V" } : Jvm.MethodName)) ∈ lw_all := lw_g (lw_at lw_m6 23 rfl) rfl
theorem q1314 : (Jvm.Cond.instanceMethod ({ cls := "PointsForAll", name := "put", desc := "(IIJ)I" } : Jvm.MethodName)) ∈ lw_all := lw_g (lw_at lw_m6 33 rfl) rfl
theorem q1315 : (Jvm.Cond.selects "PointsForAll" ({ cls := "PointsForAll", name := "put", desc := "(IIJ)I" } : Jvm.MethodName) ({ cls := "PointsForAll", name := "put", desc := "(IIJ)I" } : Jvm.MethodName)) ∈ lw_all := lw_g (lw_at lw_m6 34 rfl) rfl
theorem q1316 : (Jvm.Cond.codeWith ({ cls := "PointsForAll", name := "put", desc := "(IIJ)I" } : Jvm.MethodName) prog_1_method_67_code (6 : Nat) (Option.some Jvm.ClassFile.FieldType.int) [((9 : Nat), (31 : Nat), (32 : Nat), (117 : Nat)), ((9 : Nat), (31 : Nat), (37 : Nat), (115 : Nat)), ((9 : Nat), (31 : Nat), (42 : Nat), (119 : Nat))]) ∈ lw_all := lw_g (lw_at lw_m6 35 rfl) rfl
theorem q1317 : (Jvm.Cond.classLink "PointsForAll" (400 : Nat) "PointsForAll$Row") ∈ lw_all := lw_g (lw_at lw_m6 36 rfl) rfl
theorem q1318 : (Jvm.Cond.methodLink "PointsForAll" (402 : Nat) ({ cls := "PointsForAll$Row", name := "put", desc := "(IJ)Z" } : Jvm.MethodName)) ∈ lw_all := lw_g (lw_at lw_m6 37 rfl) rfl
theorem q1337 : (Jvm.Cond.instanceMethod ({ cls := "PointsForAll", name := "element", desc := "(II)J" } : Jvm.MethodName)) ∈ lw_all := lw_g (lw_at lw_m6 56 rfl) rfl
theorem q1338 : (Jvm.Cond.selects "PointsForAll" ({ cls := "PointsForAll", name := "element", desc := "(II)J" } : Jvm.MethodName) ({ cls := "PointsForAll", name := "element", desc := "(II)J" } : Jvm.MethodName)) ∈ lw_all := lw_g (lw_at lw_m6 57 rfl) rfl
theorem q1339 : (Jvm.Cond.codeWith ({ cls := "PointsForAll", name := "element", desc := "(II)J" } : Jvm.MethodName) prog_1_method_68_code (4 : Nat) (Option.some Jvm.ClassFile.FieldType.long) [((11 : Nat), (24 : Nat), (25 : Nat), (117 : Nat)), ((11 : Nat), (24 : Nat), (30 : Nat), (115 : Nat)), ((11 : Nat), (24 : Nat), (35 : Nat), (119 : Nat))]) ∈ lw_all := lw_g (lw_at lw_m6 58 rfl) rfl
theorem q1340 : (Jvm.Cond.constantLong "PointsForAll" (408 : Nat) (-9223372036854775808 : Int64)) ∈ lw_all := lw_g (lw_at lw_m6 59 rfl) rfl
theorem q1341 : (Jvm.Cond.methodLink "PointsForAll" (410 : Nat) ({ cls := "PointsForAll$Row", name := "at", desc := "(I)J" } : Jvm.MethodName)) ∈ lw_all := lw_g (lw_at lw_m6 60 rfl) rfl
theorem q1358 : (Jvm.Cond.instanceMethod ({ cls := "PointsForAll", name := "shift", desc := "(IIIII)I" } : Jvm.MethodName)) ∈ lw_all := lw_g (lw_at lw_m6 77 rfl) rfl
theorem q1359 : (Jvm.Cond.selects "PointsForAll" ({ cls := "PointsForAll", name := "shift", desc := "(IIIII)I" } : Jvm.MethodName) ({ cls := "PointsForAll", name := "shift", desc := "(IIIII)I" } : Jvm.MethodName)) ∈ lw_all := lw_g (lw_at lw_m6 78 rfl) rfl
theorem q1360 : (Jvm.Cond.codeWith ({ cls := "PointsForAll", name := "shift", desc := "(IIIII)I" } : Jvm.MethodName) prog_1_method_69_code (7 : Nat) (Option.some Jvm.ClassFile.FieldType.int) [((37 : Nat), (63 : Nat), (66 : Nat), (115 : Nat)), ((37 : Nat), (63 : Nat), (71 : Nat), (119 : Nat))]) ∈ lw_all := lw_g (lw_at lw_m6 79 rfl) rfl
theorem q1361 : (Jvm.Cond.methodLink "PointsForAll" (411 : Nat) ({ cls := "PointsForAll$Row", name := "copy", desc := "(ILPointsForAll$Row;II)V" } : Jvm.MethodName)) ∈ lw_all := lw_g (lw_at lw_m6 80 rfl) rfl
theorem q1392 : (Jvm.Cond.instanceMethod ({ cls := "PointsForAll", name := "taken", desc := "(II)I" } : Jvm.MethodName)) ∈ lw_all := lw_g (lw_at lw_m6 111 rfl) rfl
theorem q1393 : (Jvm.Cond.selects "PointsForAll" ({ cls := "PointsForAll", name := "taken", desc := "(II)I" } : Jvm.MethodName) ({ cls := "PointsForAll", name := "taken", desc := "(II)I" } : Jvm.MethodName)) ∈ lw_all := lw_g (lw_at lw_m6 112 rfl) rfl
theorem q1394 : (Jvm.Cond.codeWith ({ cls := "PointsForAll", name := "taken", desc := "(II)I" } : Jvm.MethodName) prog_1_method_70_code (4 : Nat) (Option.some Jvm.ClassFile.FieldType.int) [((19 : Nat), (46 : Nat), (47 : Nat), (117 : Nat)), ((19 : Nat), (46 : Nat), (51 : Nat), (115 : Nat))]) ∈ lw_all := lw_g (lw_at lw_m6 113 rfl) rfl
theorem q1395 : (Jvm.Cond.methodLink "PointsForAll" (415 : Nat) ({ cls := "PointsForAll$Purse", name := "isUnder", desc := "(I)Z" } : Jvm.MethodName)) ∈ lw_all := lw_g (lw_at lw_m6 114 rfl) rfl
theorem q1442 : (Jvm.Cond.methodLink "PointsForAll" (418 : Nat) ({ cls := "PointsForAll$Purse", name := "kind", desc := "()I" } : Jvm.MethodName)) ∈ lw_all := lw_g (lw_at lw_m6 161 rfl) rfl
theorem q1444 : (Jvm.Cond.instanceMethod ({ cls := "PointsForAll", name := "count", desc := "(I)I" } : Jvm.MethodName)) ∈ lw_all := lw_g (lw_at lw_m6 163 rfl) rfl
theorem q1445 : (Jvm.Cond.selects "PointsForAll" ({ cls := "PointsForAll", name := "count", desc := "(I)I" } : Jvm.MethodName) ({ cls := "PointsForAll", name := "count", desc := "(I)I" } : Jvm.MethodName)) ∈ lw_all := lw_g (lw_at lw_m6 164 rfl) rfl
theorem q1446 : (Jvm.Cond.code ({ cls := "PointsForAll", name := "count", desc := "(I)I" } : Jvm.MethodName) prog_1_method_71_code (2 : Nat) (Option.some Jvm.ClassFile.FieldType.int)) ∈ lw_all := lw_g (lw_at lw_m6 165 rfl) rfl
theorem in_X0 : ∀ w ∈ wsX00, w ∈ lw_all := lw_in wsX00 [193, 195, 197, 199, 201, 203, 205, 207, 209, 211, 213, 215, 217, 219, 221, 223, 225, 227, 229, 231, 233, 235, 237, 239, 241, 243, 245, 247, 249, 251] (by decide +kernel) (by decide +kernel)
