/-! LastbusModel -/
set_option maxRecDepth 100000
def RX2 : String := "LastbusModel"
def TX2 : u_T := fun k => match k with
  | 0 => ("LastbusModel", "thrown", "I", false)
  | 1 => ("LastbusModel", "stops", "I", false)
  | 2 => ("LastbusModel", "change", "[I", true)
  | 3 => ("LastbusModel", "told", "[I", true)
  | 4 => ("LastbusModel", "way", "[I", true)
  | 5 => ("LastbusModel", "cut", "I", false)
  | 6 => ("LastbusModel", "services", "I", false)
  | 7 => ("LastbusModel", "on", "[Z", true)
  | 8 => ("LastbusModel", "trips", "I", false)
  | 9 => ("LastbusModel", "serviceOf", "[I", true)
  | 10 => ("LastbusModel", "calls", "[I", true)
  | 11 => ("LastbusModel", "stopOf", "[I", true)
  | 12 => ("LastbusModel", "arrival", "[I", true)
  | 13 => ("LastbusModel", "departure", "[I", true)
  | 14 => ("LastbusModel", "lates", "I", false)
  | 15 => ("LastbusModel", "lateDay", "[I", true)
  | 16 => ("LastbusModel", "lateTrip", "[I", true)
  | 17 => ("LastbusModel", "lateCall", "[I", true)
  | 18 => ("LastbusModel", "lateBy", "[I", true)
  | 19 => ("LastbusModel", "signs", "I", false)
  | 20 => ("LastbusModel", "typed", "[I", true)
  | 21 => ("LastbusModel", "fault", "I", false)
  | 22 => ("LastbusModel", "today", "I", false)
  | 23 => ("LastbusModel", "free", "[I", true)
  | 24 => ("LastbusModel", "ridden", "[I", true)
  | 25 => ("LastbusModel", "isChanged", "Z", false)
  | 26 => ("LastbusModel", "freeAt", "[I", true)
  | 27 => ("LastbusModel", "riddenAt", "[I", true)
  | 28 => ("LastbusModel", "rounds", "I", false)
  | 29 => ("LastbusModel", "rides", "I", false)
  | 30 => ("LastbusModel", "rideRun", "[I", true)
  | 31 => ("LastbusModel", "rideOn", "[I", true)
  | 32 => ("LastbusModel", "rideOff", "[I", true)
  | 33 => ("LastbusModel", "pairMany", "I", false)
  | 34 => ("LastbusModel", "leaves", "[I", true)
  | 35 => ("LastbusModel", "comes", "[I", true)
  | 36 => ("LastbusModel", "wishes", "I", false)
  | 37 => ("LastbusModel", "wishTrip", "[I", true)
  | 38 => ("LastbusModel", "wishCall", "[I", true)
  | 39 => ("LastbusModel", "wishOther", "[I", true)
  | 40 => ("LastbusModel", "wishOtherCall", "[I", true)
  | 41 => ("LastbusModel", "travellers", "[I", true)
  | 42 => ("LastbusModel", "waits", "[I", true)
  | 43 => ("LastbusModel", "before", "[I", true)
  | 44 => ("LastbusModel", "row", "[I", true)
  | 45 => ("LastbusModel", "rowMany", "I", false)
  | 46 => ("LastbusModel", "ends", "[I", true)
  | 47 => ("LastbusModel", "begins", "[I", true)
  | 48 => ("LastbusModel", "choiceRides", "I", false)
  | _ => ("LastbusModel", "choiceAt", "I", false)
def tyX2 : Nat → FieldType := fun k => match k with
  | 0 => .int
  | 1 => .int
  | 2 => .array .int
  | 3 => .array .int
  | 4 => .array .int
  | 5 => .int
  | 6 => .int
  | 7 => .array .boolean
  | 8 => .int
  | 9 => .array .int
  | 10 => .array .int
  | 11 => .array .int
  | 12 => .array .int
  | 13 => .array .int
  | 14 => .int
  | 15 => .array .int
  | 16 => .array .int
  | 17 => .array .int
  | 18 => .array .int
  | 19 => .int
  | 20 => .array .int
  | 21 => .int
  | 22 => .int
  | 23 => .array .int
  | 24 => .array .int
  | 25 => .boolean
  | 26 => .array .int
  | 27 => .array .int
  | 28 => .int
  | 29 => .int
  | 30 => .array .int
  | 31 => .array .int
  | 32 => .array .int
  | 33 => .int
  | 34 => .array .int
  | 35 => .array .int
  | 36 => .int
  | 37 => .array .int
  | 38 => .array .int
  | 39 => .array .int
  | 40 => .array .int
  | 41 => .array .int
  | 42 => .array .int
  | 43 => .array .int
  | 44 => .array .int
  | 45 => .int
  | 46 => .array .int
  | 47 => .array .int
  | 48 => .int
  | _ => .int
abbrev wsX20 : List Cond := u_ws RX2 TX2 50
set_option maxRecDepth 100000 in
theorem nmX2 : ∀ a, a < 50 → ∀ b, b < 50 → a ≠ b → (TX2 a).2.1 ≠ (TX2 b).2.1 := by decide +kernel
set_option maxRecDepth 100000 in
theorem tyX2_ok : ∀ k, k < 50 → parseFieldDescriptor (TX2 k).2.2.1 = some (tyX2 k) := by decide +kernel
abbrev cX2_init : ByteArray := prog_15_method_1_code
def yX2_init : MethodName := ⟨RX2, "<init>", "()V"⟩
def dkwX2_init_12 : List UInt8 := [16, 24, 188, 10, 181, 0, 114, 42, 16, 24, 188, 10, 181, 0, 117, 177]
abbrev dktX2_init_12 : List UInt8 := dkwX2_init_12 ++ []
def dkwX2_init_11 : List UInt8 := [188, 10, 181, 0, 105, 42, 17, 0, 144, 188, 10, 181, 0, 108, 42, 16, 32, 188, 10, 181, 0, 111, 42]
abbrev dktX2_init_11 : List UInt8 := dkwX2_init_11 ++ dktX2_init_12
def dkwX2_init_10 : List UInt8 := [181, 0, 96, 42, 16, 6, 188, 10, 181, 0, 99, 42, 16, 6, 188, 10, 181, 0, 102, 42, 17, 0, 192]
abbrev dktX2_init_10 : List UInt8 := dkwX2_init_10 ++ dktX2_init_11
def dkwX2_init_9 : List UInt8 := [181, 0, 87, 42, 16, 6, 188, 10, 181, 0, 90, 42, 16, 6, 188, 10, 181, 0, 93, 42, 16, 6, 188, 10]
abbrev dktX2_init_9 : List UInt8 := dkwX2_init_9 ++ dktX2_init_10
def dkwX2_init_8 : List UInt8 := [42, 16, 74, 188, 10, 181, 0, 81, 42, 17, 2, 88, 188, 10, 181, 0, 84, 42, 17, 2, 88, 188, 10]
abbrev dktX2_init_8 : List UInt8 := dkwX2_init_8 ++ dktX2_init_9
def dkwX2_init_7 : List UInt8 := [181, 0, 69, 42, 2, 181, 0, 72, 42, 16, 74, 188, 10, 181, 0, 75, 42, 16, 74, 188, 10, 181, 0, 78]
abbrev dktX2_init_7 : List UInt8 := dkwX2_init_7 ++ dktX2_init_8
def dkwX2_init_6 : List UInt8 := [42, 16, 12, 188, 10, 181, 0, 63, 42, 17, 3, 120, 188, 10, 181, 0, 66, 42, 17, 3, 120, 188, 10]
abbrev dktX2_init_6 : List UInt8 := dkwX2_init_6 ++ dktX2_init_7
def dkwX2_init_5 : List UInt8 := [181, 0, 51, 42, 16, 80, 188, 10, 181, 0, 54, 42, 2, 181, 0, 57, 42, 16, 12, 188, 10, 181, 0, 60]
abbrev dktX2_init_5 : List UInt8 := dkwX2_init_5 ++ dktX2_init_6
def dkwX2_init_4 : List UInt8 := [181, 0, 42, 42, 16, 12, 188, 10, 181, 0, 45, 42, 16, 12, 188, 10, 181, 0, 48, 42, 16, 12, 188, 10]
abbrev dktX2_init_4 : List UInt8 := dkwX2_init_4 ++ dktX2_init_5
def dkwX2_init_3 : List UInt8 := [42, 17, 0, 192, 188, 10, 181, 0, 36, 42, 17, 0, 192, 188, 10, 181, 0, 39, 42, 16, 12, 188, 10]
abbrev dktX2_init_3 : List UInt8 := dkwX2_init_3 ++ dktX2_init_4
def dkwX2_init_2 : List UInt8 := [16, 24, 188, 10, 181, 0, 27, 42, 16, 24, 188, 10, 181, 0, 30, 42, 17, 0, 192, 188, 10, 181, 0, 33]
abbrev dktX2_init_2 : List UInt8 := dkwX2_init_2 ++ dktX2_init_3
def dkwX2_init_1 : List UInt8 := [17, 0, 144, 188, 10, 181, 0, 16, 42, 2, 181, 0, 19, 42, 17, 0, 168, 188, 4, 181, 0, 23, 42]
abbrev dktX2_init_1 : List UInt8 := dkwX2_init_1 ++ dktX2_init_2
def dkwX2_init_0 : List UInt8 := [42, 183, 0, 1, 42, 16, 12, 188, 10, 181, 0, 9, 42, 17, 0, 144, 188, 10, 181, 0, 13, 42]
abbrev dktX2_init_0 : List UInt8 := dkwX2_init_0 ++ dktX2_init_1
theorem dksX2_init_0 : cX2_init.data.toList.drop 0 = dktX2_init_0 := by decide +kernel
theorem dksX2_init_1 : cX2_init.data.toList.drop 22 = dktX2_init_1 := dk_seg dksX2_init_0 22 rfl rfl
theorem dksX2_init_2 : cX2_init.data.toList.drop 45 = dktX2_init_2 := dk_seg dksX2_init_1 23 rfl rfl
theorem dksX2_init_3 : cX2_init.data.toList.drop 69 = dktX2_init_3 := dk_seg dksX2_init_2 24 rfl rfl
theorem dksX2_init_4 : cX2_init.data.toList.drop 92 = dktX2_init_4 := dk_seg dksX2_init_3 23 rfl rfl
theorem dksX2_init_5 : cX2_init.data.toList.drop 116 = dktX2_init_5 := dk_seg dksX2_init_4 24 rfl rfl
theorem dksX2_init_6 : cX2_init.data.toList.drop 140 = dktX2_init_6 := dk_seg dksX2_init_5 24 rfl rfl
theorem dksX2_init_7 : cX2_init.data.toList.drop 163 = dktX2_init_7 := dk_seg dksX2_init_6 23 rfl rfl
theorem dksX2_init_8 : cX2_init.data.toList.drop 187 = dktX2_init_8 := dk_seg dksX2_init_7 24 rfl rfl
theorem dksX2_init_9 : cX2_init.data.toList.drop 210 = dktX2_init_9 := dk_seg dksX2_init_8 23 rfl rfl
theorem dksX2_init_10 : cX2_init.data.toList.drop 234 = dktX2_init_10 := dk_seg dksX2_init_9 24 rfl rfl
theorem dksX2_init_11 : cX2_init.data.toList.drop 257 = dktX2_init_11 := dk_seg dksX2_init_10 23 rfl rfl
theorem dksX2_init_12 : cX2_init.data.toList.drop 280 = dktX2_init_12 := dk_seg dksX2_init_11 23 rfl rfl
theorem dX2_init_0 : decode cX2_init 0 = .ok (.aload_n 0, 1) := dk_42 (dk_at dksX2_init_0 0 rfl rfl)
theorem dX2_init_1 : decode cX2_init 1 = .ok (.invokespecial 1, 3) := dk_183 0 1 (dk_at dksX2_init_0 1 rfl rfl)
theorem dX2_init_4 : decode cX2_init 4 = .ok (.aload_n 0, 1) := dk_42 (dk_at dksX2_init_0 4 rfl rfl)
theorem dX2_init_5 : decode cX2_init 5 = .ok (.bipush 12, 2) := dk_16 12 (dk_at dksX2_init_0 5 rfl rfl)
theorem dX2_init_7 : decode cX2_init 7 = .ok (.newarray .int, 2) := dk_188_10 (dk_at dksX2_init_0 7 rfl rfl)
theorem dX2_init_9 : decode cX2_init 9 = .ok (.putfield 9, 3) := dk_181 0 9 (dk_at dksX2_init_0 9 rfl rfl)
theorem dX2_init_12 : decode cX2_init 12 = .ok (.aload_n 0, 1) := dk_42 (dk_at dksX2_init_0 12 rfl rfl)
theorem dX2_init_13 : decode cX2_init 13 = .ok (.sipush 144, 3) := dk_17 0 144 (dk_at dksX2_init_0 13 rfl rfl)
theorem dX2_init_16 : decode cX2_init 16 = .ok (.newarray .int, 2) := dk_188_10 (dk_at dksX2_init_0 16 rfl rfl)
theorem dX2_init_18 : decode cX2_init 18 = .ok (.putfield 13, 3) := dk_181 0 13 (dk_at dksX2_init_0 18 rfl rfl)
theorem dX2_init_21 : decode cX2_init 21 = .ok (.aload_n 0, 1) := dk_42 (dk_at dksX2_init_0 21 rfl rfl)
theorem dX2_init_22 : decode cX2_init 22 = .ok (.sipush 144, 3) := dk_17 0 144 (dk_at dksX2_init_1 0 rfl rfl)
theorem dX2_init_25 : decode cX2_init 25 = .ok (.newarray .int, 2) := dk_188_10 (dk_at dksX2_init_1 3 rfl rfl)
theorem dX2_init_27 : decode cX2_init 27 = .ok (.putfield 16, 3) := dk_181 0 16 (dk_at dksX2_init_1 5 rfl rfl)
theorem dX2_init_30 : decode cX2_init 30 = .ok (.aload_n 0, 1) := dk_42 (dk_at dksX2_init_1 8 rfl rfl)
theorem dX2_init_31 : decode cX2_init 31 = .ok (.iconst (-1), 1) := dk_2 (dk_at dksX2_init_1 9 rfl rfl)
theorem dX2_init_32 : decode cX2_init 32 = .ok (.putfield 19, 3) := dk_181 0 19 (dk_at dksX2_init_1 10 rfl rfl)
theorem dX2_init_35 : decode cX2_init 35 = .ok (.aload_n 0, 1) := dk_42 (dk_at dksX2_init_1 13 rfl rfl)
theorem dX2_init_36 : decode cX2_init 36 = .ok (.sipush 168, 3) := dk_17 0 168 (dk_at dksX2_init_1 14 rfl rfl)
theorem dX2_init_39 : decode cX2_init 39 = .ok (.newarray .boolean, 2) := dk_188_4 (dk_at dksX2_init_1 17 rfl rfl)
theorem dX2_init_41 : decode cX2_init 41 = .ok (.putfield 23, 3) := dk_181 0 23 (dk_at dksX2_init_1 19 rfl rfl)
theorem dX2_init_44 : decode cX2_init 44 = .ok (.aload_n 0, 1) := dk_42 (dk_at dksX2_init_1 22 rfl rfl)
theorem dX2_init_45 : decode cX2_init 45 = .ok (.bipush 24, 2) := dk_16 24 (dk_at dksX2_init_2 0 rfl rfl)
theorem dX2_init_47 : decode cX2_init 47 = .ok (.newarray .int, 2) := dk_188_10 (dk_at dksX2_init_2 2 rfl rfl)
theorem dX2_init_49 : decode cX2_init 49 = .ok (.putfield 27, 3) := dk_181 0 27 (dk_at dksX2_init_2 4 rfl rfl)
theorem dX2_init_52 : decode cX2_init 52 = .ok (.aload_n 0, 1) := dk_42 (dk_at dksX2_init_2 7 rfl rfl)
theorem dX2_init_53 : decode cX2_init 53 = .ok (.bipush 24, 2) := dk_16 24 (dk_at dksX2_init_2 8 rfl rfl)
theorem dX2_init_55 : decode cX2_init 55 = .ok (.newarray .int, 2) := dk_188_10 (dk_at dksX2_init_2 10 rfl rfl)
theorem dX2_init_57 : decode cX2_init 57 = .ok (.putfield 30, 3) := dk_181 0 30 (dk_at dksX2_init_2 12 rfl rfl)
theorem dX2_init_60 : decode cX2_init 60 = .ok (.aload_n 0, 1) := dk_42 (dk_at dksX2_init_2 15 rfl rfl)
theorem dX2_init_61 : decode cX2_init 61 = .ok (.sipush 192, 3) := dk_17 0 192 (dk_at dksX2_init_2 16 rfl rfl)
theorem dX2_init_64 : decode cX2_init 64 = .ok (.newarray .int, 2) := dk_188_10 (dk_at dksX2_init_2 19 rfl rfl)
theorem dX2_init_66 : decode cX2_init 66 = .ok (.putfield 33, 3) := dk_181 0 33 (dk_at dksX2_init_2 21 rfl rfl)
theorem dX2_init_69 : decode cX2_init 69 = .ok (.aload_n 0, 1) := dk_42 (dk_at dksX2_init_3 0 rfl rfl)
theorem dX2_init_70 : decode cX2_init 70 = .ok (.sipush 192, 3) := dk_17 0 192 (dk_at dksX2_init_3 1 rfl rfl)
theorem dX2_init_73 : decode cX2_init 73 = .ok (.newarray .int, 2) := dk_188_10 (dk_at dksX2_init_3 4 rfl rfl)
theorem dX2_init_75 : decode cX2_init 75 = .ok (.putfield 36, 3) := dk_181 0 36 (dk_at dksX2_init_3 6 rfl rfl)
theorem dX2_init_78 : decode cX2_init 78 = .ok (.aload_n 0, 1) := dk_42 (dk_at dksX2_init_3 9 rfl rfl)
theorem dX2_init_79 : decode cX2_init 79 = .ok (.sipush 192, 3) := dk_17 0 192 (dk_at dksX2_init_3 10 rfl rfl)
theorem dX2_init_82 : decode cX2_init 82 = .ok (.newarray .int, 2) := dk_188_10 (dk_at dksX2_init_3 13 rfl rfl)
theorem dX2_init_84 : decode cX2_init 84 = .ok (.putfield 39, 3) := dk_181 0 39 (dk_at dksX2_init_3 15 rfl rfl)
theorem dX2_init_87 : decode cX2_init 87 = .ok (.aload_n 0, 1) := dk_42 (dk_at dksX2_init_3 18 rfl rfl)
theorem dX2_init_88 : decode cX2_init 88 = .ok (.bipush 12, 2) := dk_16 12 (dk_at dksX2_init_3 19 rfl rfl)
theorem dX2_init_90 : decode cX2_init 90 = .ok (.newarray .int, 2) := dk_188_10 (dk_at dksX2_init_3 21 rfl rfl)
theorem dX2_init_92 : decode cX2_init 92 = .ok (.putfield 42, 3) := dk_181 0 42 (dk_at dksX2_init_4 0 rfl rfl)
theorem dX2_init_95 : decode cX2_init 95 = .ok (.aload_n 0, 1) := dk_42 (dk_at dksX2_init_4 3 rfl rfl)
theorem dX2_init_96 : decode cX2_init 96 = .ok (.bipush 12, 2) := dk_16 12 (dk_at dksX2_init_4 4 rfl rfl)
theorem dX2_init_98 : decode cX2_init 98 = .ok (.newarray .int, 2) := dk_188_10 (dk_at dksX2_init_4 6 rfl rfl)
theorem dX2_init_100 : decode cX2_init 100 = .ok (.putfield 45, 3) := dk_181 0 45 (dk_at dksX2_init_4 8 rfl rfl)
theorem dX2_init_103 : decode cX2_init 103 = .ok (.aload_n 0, 1) := dk_42 (dk_at dksX2_init_4 11 rfl rfl)
theorem dX2_init_104 : decode cX2_init 104 = .ok (.bipush 12, 2) := dk_16 12 (dk_at dksX2_init_4 12 rfl rfl)
theorem dX2_init_106 : decode cX2_init 106 = .ok (.newarray .int, 2) := dk_188_10 (dk_at dksX2_init_4 14 rfl rfl)
theorem dX2_init_108 : decode cX2_init 108 = .ok (.putfield 48, 3) := dk_181 0 48 (dk_at dksX2_init_4 16 rfl rfl)
theorem dX2_init_111 : decode cX2_init 111 = .ok (.aload_n 0, 1) := dk_42 (dk_at dksX2_init_4 19 rfl rfl)
theorem dX2_init_112 : decode cX2_init 112 = .ok (.bipush 12, 2) := dk_16 12 (dk_at dksX2_init_4 20 rfl rfl)
theorem dX2_init_114 : decode cX2_init 114 = .ok (.newarray .int, 2) := dk_188_10 (dk_at dksX2_init_4 22 rfl rfl)
theorem dX2_init_116 : decode cX2_init 116 = .ok (.putfield 51, 3) := dk_181 0 51 (dk_at dksX2_init_5 0 rfl rfl)
theorem dX2_init_119 : decode cX2_init 119 = .ok (.aload_n 0, 1) := dk_42 (dk_at dksX2_init_5 3 rfl rfl)
theorem dX2_init_120 : decode cX2_init 120 = .ok (.bipush 80, 2) := dk_16 80 (dk_at dksX2_init_5 4 rfl rfl)
theorem dX2_init_122 : decode cX2_init 122 = .ok (.newarray .int, 2) := dk_188_10 (dk_at dksX2_init_5 6 rfl rfl)
theorem dX2_init_124 : decode cX2_init 124 = .ok (.putfield 54, 3) := dk_181 0 54 (dk_at dksX2_init_5 8 rfl rfl)
theorem dX2_init_127 : decode cX2_init 127 = .ok (.aload_n 0, 1) := dk_42 (dk_at dksX2_init_5 11 rfl rfl)
theorem dX2_init_128 : decode cX2_init 128 = .ok (.iconst (-1), 1) := dk_2 (dk_at dksX2_init_5 12 rfl rfl)
theorem dX2_init_129 : decode cX2_init 129 = .ok (.putfield 57, 3) := dk_181 0 57 (dk_at dksX2_init_5 13 rfl rfl)
theorem dX2_init_132 : decode cX2_init 132 = .ok (.aload_n 0, 1) := dk_42 (dk_at dksX2_init_5 16 rfl rfl)
theorem dX2_init_133 : decode cX2_init 133 = .ok (.bipush 12, 2) := dk_16 12 (dk_at dksX2_init_5 17 rfl rfl)
theorem dX2_init_135 : decode cX2_init 135 = .ok (.newarray .int, 2) := dk_188_10 (dk_at dksX2_init_5 19 rfl rfl)
theorem dX2_init_137 : decode cX2_init 137 = .ok (.putfield 60, 3) := dk_181 0 60 (dk_at dksX2_init_5 21 rfl rfl)
theorem dX2_init_140 : decode cX2_init 140 = .ok (.aload_n 0, 1) := dk_42 (dk_at dksX2_init_6 0 rfl rfl)
theorem dX2_init_141 : decode cX2_init 141 = .ok (.bipush 12, 2) := dk_16 12 (dk_at dksX2_init_6 1 rfl rfl)
theorem dX2_init_143 : decode cX2_init 143 = .ok (.newarray .int, 2) := dk_188_10 (dk_at dksX2_init_6 3 rfl rfl)
theorem dX2_init_145 : decode cX2_init 145 = .ok (.putfield 63, 3) := dk_181 0 63 (dk_at dksX2_init_6 5 rfl rfl)
theorem dX2_init_148 : decode cX2_init 148 = .ok (.aload_n 0, 1) := dk_42 (dk_at dksX2_init_6 8 rfl rfl)
theorem dX2_init_149 : decode cX2_init 149 = .ok (.sipush 888, 3) := dk_17 3 120 (dk_at dksX2_init_6 9 rfl rfl)
theorem dX2_init_152 : decode cX2_init 152 = .ok (.newarray .int, 2) := dk_188_10 (dk_at dksX2_init_6 12 rfl rfl)
theorem dX2_init_154 : decode cX2_init 154 = .ok (.putfield 66, 3) := dk_181 0 66 (dk_at dksX2_init_6 14 rfl rfl)
theorem dX2_init_157 : decode cX2_init 157 = .ok (.aload_n 0, 1) := dk_42 (dk_at dksX2_init_6 17 rfl rfl)
theorem dX2_init_158 : decode cX2_init 158 = .ok (.sipush 888, 3) := dk_17 3 120 (dk_at dksX2_init_6 18 rfl rfl)
theorem dX2_init_161 : decode cX2_init 161 = .ok (.newarray .int, 2) := dk_188_10 (dk_at dksX2_init_6 21 rfl rfl)
theorem dX2_init_163 : decode cX2_init 163 = .ok (.putfield 69, 3) := dk_181 0 69 (dk_at dksX2_init_7 0 rfl rfl)
theorem dX2_init_166 : decode cX2_init 166 = .ok (.aload_n 0, 1) := dk_42 (dk_at dksX2_init_7 3 rfl rfl)
theorem dX2_init_167 : decode cX2_init 167 = .ok (.iconst (-1), 1) := dk_2 (dk_at dksX2_init_7 4 rfl rfl)
theorem dX2_init_168 : decode cX2_init 168 = .ok (.putfield 72, 3) := dk_181 0 72 (dk_at dksX2_init_7 5 rfl rfl)
theorem dX2_init_171 : decode cX2_init 171 = .ok (.aload_n 0, 1) := dk_42 (dk_at dksX2_init_7 8 rfl rfl)
theorem dX2_init_172 : decode cX2_init 172 = .ok (.bipush 74, 2) := dk_16 74 (dk_at dksX2_init_7 9 rfl rfl)
theorem dX2_init_174 : decode cX2_init 174 = .ok (.newarray .int, 2) := dk_188_10 (dk_at dksX2_init_7 11 rfl rfl)
theorem dX2_init_176 : decode cX2_init 176 = .ok (.putfield 75, 3) := dk_181 0 75 (dk_at dksX2_init_7 13 rfl rfl)
theorem dX2_init_179 : decode cX2_init 179 = .ok (.aload_n 0, 1) := dk_42 (dk_at dksX2_init_7 16 rfl rfl)
theorem dX2_init_180 : decode cX2_init 180 = .ok (.bipush 74, 2) := dk_16 74 (dk_at dksX2_init_7 17 rfl rfl)
theorem dX2_init_182 : decode cX2_init 182 = .ok (.newarray .int, 2) := dk_188_10 (dk_at dksX2_init_7 19 rfl rfl)
theorem dX2_init_184 : decode cX2_init 184 = .ok (.putfield 78, 3) := dk_181 0 78 (dk_at dksX2_init_7 21 rfl rfl)
theorem dX2_init_187 : decode cX2_init 187 = .ok (.aload_n 0, 1) := dk_42 (dk_at dksX2_init_8 0 rfl rfl)
theorem dX2_init_188 : decode cX2_init 188 = .ok (.bipush 74, 2) := dk_16 74 (dk_at dksX2_init_8 1 rfl rfl)
theorem dX2_init_190 : decode cX2_init 190 = .ok (.newarray .int, 2) := dk_188_10 (dk_at dksX2_init_8 3 rfl rfl)
theorem dX2_init_192 : decode cX2_init 192 = .ok (.putfield 81, 3) := dk_181 0 81 (dk_at dksX2_init_8 5 rfl rfl)
theorem dX2_init_195 : decode cX2_init 195 = .ok (.aload_n 0, 1) := dk_42 (dk_at dksX2_init_8 8 rfl rfl)
theorem dX2_init_196 : decode cX2_init 196 = .ok (.sipush 600, 3) := dk_17 2 88 (dk_at dksX2_init_8 9 rfl rfl)
theorem dX2_init_199 : decode cX2_init 199 = .ok (.newarray .int, 2) := dk_188_10 (dk_at dksX2_init_8 12 rfl rfl)
theorem dX2_init_201 : decode cX2_init 201 = .ok (.putfield 84, 3) := dk_181 0 84 (dk_at dksX2_init_8 14 rfl rfl)
theorem dX2_init_204 : decode cX2_init 204 = .ok (.aload_n 0, 1) := dk_42 (dk_at dksX2_init_8 17 rfl rfl)
theorem dX2_init_205 : decode cX2_init 205 = .ok (.sipush 600, 3) := dk_17 2 88 (dk_at dksX2_init_8 18 rfl rfl)
theorem dX2_init_208 : decode cX2_init 208 = .ok (.newarray .int, 2) := dk_188_10 (dk_at dksX2_init_8 21 rfl rfl)
theorem dX2_init_210 : decode cX2_init 210 = .ok (.putfield 87, 3) := dk_181 0 87 (dk_at dksX2_init_9 0 rfl rfl)
theorem dX2_init_213 : decode cX2_init 213 = .ok (.aload_n 0, 1) := dk_42 (dk_at dksX2_init_9 3 rfl rfl)
theorem dX2_init_214 : decode cX2_init 214 = .ok (.bipush 6, 2) := dk_16 6 (dk_at dksX2_init_9 4 rfl rfl)
theorem dX2_init_216 : decode cX2_init 216 = .ok (.newarray .int, 2) := dk_188_10 (dk_at dksX2_init_9 6 rfl rfl)
theorem dX2_init_218 : decode cX2_init 218 = .ok (.putfield 90, 3) := dk_181 0 90 (dk_at dksX2_init_9 8 rfl rfl)
theorem dX2_init_221 : decode cX2_init 221 = .ok (.aload_n 0, 1) := dk_42 (dk_at dksX2_init_9 11 rfl rfl)
theorem dX2_init_222 : decode cX2_init 222 = .ok (.bipush 6, 2) := dk_16 6 (dk_at dksX2_init_9 12 rfl rfl)
theorem dX2_init_224 : decode cX2_init 224 = .ok (.newarray .int, 2) := dk_188_10 (dk_at dksX2_init_9 14 rfl rfl)
theorem dX2_init_226 : decode cX2_init 226 = .ok (.putfield 93, 3) := dk_181 0 93 (dk_at dksX2_init_9 16 rfl rfl)
theorem dX2_init_229 : decode cX2_init 229 = .ok (.aload_n 0, 1) := dk_42 (dk_at dksX2_init_9 19 rfl rfl)
theorem dX2_init_230 : decode cX2_init 230 = .ok (.bipush 6, 2) := dk_16 6 (dk_at dksX2_init_9 20 rfl rfl)
theorem dX2_init_232 : decode cX2_init 232 = .ok (.newarray .int, 2) := dk_188_10 (dk_at dksX2_init_9 22 rfl rfl)
theorem dX2_init_234 : decode cX2_init 234 = .ok (.putfield 96, 3) := dk_181 0 96 (dk_at dksX2_init_10 0 rfl rfl)
theorem dX2_init_237 : decode cX2_init 237 = .ok (.aload_n 0, 1) := dk_42 (dk_at dksX2_init_10 3 rfl rfl)
theorem dX2_init_238 : decode cX2_init 238 = .ok (.bipush 6, 2) := dk_16 6 (dk_at dksX2_init_10 4 rfl rfl)
theorem dX2_init_240 : decode cX2_init 240 = .ok (.newarray .int, 2) := dk_188_10 (dk_at dksX2_init_10 6 rfl rfl)
theorem dX2_init_242 : decode cX2_init 242 = .ok (.putfield 99, 3) := dk_181 0 99 (dk_at dksX2_init_10 8 rfl rfl)
theorem dX2_init_245 : decode cX2_init 245 = .ok (.aload_n 0, 1) := dk_42 (dk_at dksX2_init_10 11 rfl rfl)
theorem dX2_init_246 : decode cX2_init 246 = .ok (.bipush 6, 2) := dk_16 6 (dk_at dksX2_init_10 12 rfl rfl)
theorem dX2_init_248 : decode cX2_init 248 = .ok (.newarray .int, 2) := dk_188_10 (dk_at dksX2_init_10 14 rfl rfl)
theorem dX2_init_250 : decode cX2_init 250 = .ok (.putfield 102, 3) := dk_181 0 102 (dk_at dksX2_init_10 16 rfl rfl)
theorem dX2_init_253 : decode cX2_init 253 = .ok (.aload_n 0, 1) := dk_42 (dk_at dksX2_init_10 19 rfl rfl)
theorem dX2_init_254 : decode cX2_init 254 = .ok (.sipush 192, 3) := dk_17 0 192 (dk_at dksX2_init_10 20 rfl rfl)
theorem dX2_init_257 : decode cX2_init 257 = .ok (.newarray .int, 2) := dk_188_10 (dk_at dksX2_init_11 0 rfl rfl)
theorem dX2_init_259 : decode cX2_init 259 = .ok (.putfield 105, 3) := dk_181 0 105 (dk_at dksX2_init_11 2 rfl rfl)
theorem dX2_init_262 : decode cX2_init 262 = .ok (.aload_n 0, 1) := dk_42 (dk_at dksX2_init_11 5 rfl rfl)
theorem dX2_init_263 : decode cX2_init 263 = .ok (.sipush 144, 3) := dk_17 0 144 (dk_at dksX2_init_11 6 rfl rfl)
theorem dX2_init_266 : decode cX2_init 266 = .ok (.newarray .int, 2) := dk_188_10 (dk_at dksX2_init_11 9 rfl rfl)
theorem dX2_init_268 : decode cX2_init 268 = .ok (.putfield 108, 3) := dk_181 0 108 (dk_at dksX2_init_11 11 rfl rfl)
theorem dX2_init_271 : decode cX2_init 271 = .ok (.aload_n 0, 1) := dk_42 (dk_at dksX2_init_11 14 rfl rfl)
theorem dX2_init_272 : decode cX2_init 272 = .ok (.bipush 32, 2) := dk_16 32 (dk_at dksX2_init_11 15 rfl rfl)
theorem dX2_init_274 : decode cX2_init 274 = .ok (.newarray .int, 2) := dk_188_10 (dk_at dksX2_init_11 17 rfl rfl)
theorem dX2_init_276 : decode cX2_init 276 = .ok (.putfield 111, 3) := dk_181 0 111 (dk_at dksX2_init_11 19 rfl rfl)
theorem dX2_init_279 : decode cX2_init 279 = .ok (.aload_n 0, 1) := dk_42 (dk_at dksX2_init_11 22 rfl rfl)
theorem dX2_init_280 : decode cX2_init 280 = .ok (.bipush 24, 2) := dk_16 24 (dk_at dksX2_init_12 0 rfl rfl)
theorem dX2_init_282 : decode cX2_init 282 = .ok (.newarray .int, 2) := dk_188_10 (dk_at dksX2_init_12 2 rfl rfl)
theorem dX2_init_284 : decode cX2_init 284 = .ok (.putfield 114, 3) := dk_181 0 114 (dk_at dksX2_init_12 4 rfl rfl)
theorem dX2_init_287 : decode cX2_init 287 = .ok (.aload_n 0, 1) := dk_42 (dk_at dksX2_init_12 7 rfl rfl)
theorem dX2_init_288 : decode cX2_init 288 = .ok (.bipush 24, 2) := dk_16 24 (dk_at dksX2_init_12 8 rfl rfl)
theorem dX2_init_290 : decode cX2_init 290 = .ok (.newarray .int, 2) := dk_188_10 (dk_at dksX2_init_12 10 rfl rfl)
theorem dX2_init_292 : decode cX2_init 292 = .ok (.putfield 117, 3) := dk_181 0 117 (dk_at dksX2_init_12 12 rfl rfl)
theorem dX2_init_295 : decode cX2_init 295 = .ok (.return_, 1) := dk_177 (dk_at dksX2_init_12 15 rfl rfl)
abbrev cX2_thrown : ByteArray := prog_15_method_2_code
def yX2_thrown : MethodName := ⟨RX2, "thrown", "()I"⟩
theorem dX2_thrown_0 : decode cX2_thrown 0 = .ok (.aload_n 0, 1) := by decide +kernel
theorem dX2_thrown_1 : decode cX2_thrown 1 = .ok (.getfield 120, 3) := by decide +kernel
theorem dX2_thrown_4 : decode cX2_thrown 4 = .ok (.ireturn, 1) := by decide +kernel
abbrev cX2_stop : ByteArray := prog_15_method_10_code
def yX2_stop : MethodName := ⟨RX2, "stop", "(I)I"⟩
def dkwX2_stop_3 : List UInt8 := [180, 0, 123, 4, 100, 172]
abbrev dktX2_stop_3 : List UInt8 := dkwX2_stop_3 ++ []
def dkwX2_stop_2 : List UInt8 := [180, 0, 9, 42, 180, 0, 123, 27, 79, 42, 89, 180, 0, 123, 4, 96, 181, 0, 123, 42, 182, 0, 144, 42]
abbrev dktX2_stop_2 : List UInt8 := dkwX2_stop_2 ++ dktX2_stop_3
def dkwX2_stop_1 : List UInt8 := [42, 180, 0, 123, 16, 12, 160, 0, 7, 4, 167, 0, 4, 3, 5, 182, 0, 130, 153, 0, 5, 3, 172, 42]
abbrev dktX2_stop_1 : List UInt8 := dkwX2_stop_1 ++ dktX2_stop_2
def dkwX2_stop_0 : List UInt8 := [42, 27, 3, 16, 30, 184, 0, 126, 154, 0, 7, 4, 167, 0, 4, 3, 4, 182, 0, 130, 154, 0, 25, 42]
abbrev dktX2_stop_0 : List UInt8 := dkwX2_stop_0 ++ dktX2_stop_1
theorem dksX2_stop_0 : cX2_stop.data.toList.drop 0 = dktX2_stop_0 := by decide +kernel
theorem dksX2_stop_1 : cX2_stop.data.toList.drop 24 = dktX2_stop_1 := dk_seg dksX2_stop_0 24 rfl rfl
theorem dksX2_stop_2 : cX2_stop.data.toList.drop 48 = dktX2_stop_2 := dk_seg dksX2_stop_1 24 rfl rfl
theorem dksX2_stop_3 : cX2_stop.data.toList.drop 72 = dktX2_stop_3 := dk_seg dksX2_stop_2 24 rfl rfl
theorem dX2_stop_0 : decode cX2_stop 0 = .ok (.aload_n 0, 1) := dk_42 (dk_at dksX2_stop_0 0 rfl rfl)
theorem dX2_stop_1 : decode cX2_stop 1 = .ok (.iload_n 1, 1) := dk_27 (dk_at dksX2_stop_0 1 rfl rfl)
theorem dX2_stop_2 : decode cX2_stop 2 = .ok (.iconst 0, 1) := dk_3 (dk_at dksX2_stop_0 2 rfl rfl)
theorem dX2_stop_3 : decode cX2_stop 3 = .ok (.bipush 30, 2) := dk_16 30 (dk_at dksX2_stop_0 3 rfl rfl)
theorem dX2_stop_5 : decode cX2_stop 5 = .ok (.invokestatic 126, 3) := dk_184 0 126 (dk_at dksX2_stop_0 5 rfl rfl)
theorem dX2_stop_8 : decode cX2_stop 8 = .ok (.ifCond .ne 7, 3) := dk_154 0 7 (dk_at dksX2_stop_0 8 rfl rfl)
theorem dX2_stop_11 : decode cX2_stop 11 = .ok (.iconst 1, 1) := dk_4 (dk_at dksX2_stop_0 11 rfl rfl)
theorem dX2_stop_12 : decode cX2_stop 12 = .ok (.goto 4, 3) := dk_167 0 4 (dk_at dksX2_stop_0 12 rfl rfl)
theorem dX2_stop_15 : decode cX2_stop 15 = .ok (.iconst 0, 1) := dk_3 (dk_at dksX2_stop_0 15 rfl rfl)
theorem dX2_stop_16 : decode cX2_stop 16 = .ok (.iconst 1, 1) := dk_4 (dk_at dksX2_stop_0 16 rfl rfl)
theorem dX2_stop_17 : decode cX2_stop 17 = .ok (.invokevirtual 130, 3) := dk_182 0 130 (dk_at dksX2_stop_0 17 rfl rfl)
theorem dX2_stop_20 : decode cX2_stop 20 = .ok (.ifCond .ne 25, 3) := dk_154 0 25 (dk_at dksX2_stop_0 20 rfl rfl)
theorem dX2_stop_23 : decode cX2_stop 23 = .ok (.aload_n 0, 1) := dk_42 (dk_at dksX2_stop_0 23 rfl rfl)
theorem dX2_stop_24 : decode cX2_stop 24 = .ok (.aload_n 0, 1) := dk_42 (dk_at dksX2_stop_1 0 rfl rfl)
theorem dX2_stop_25 : decode cX2_stop 25 = .ok (.getfield 123, 3) := dk_180 0 123 (dk_at dksX2_stop_1 1 rfl rfl)
theorem dX2_stop_28 : decode cX2_stop 28 = .ok (.bipush 12, 2) := dk_16 12 (dk_at dksX2_stop_1 4 rfl rfl)
theorem dX2_stop_30 : decode cX2_stop 30 = .ok (.if_icmp .ne 7, 3) := dk_160 0 7 (dk_at dksX2_stop_1 6 rfl rfl)
theorem dX2_stop_33 : decode cX2_stop 33 = .ok (.iconst 1, 1) := dk_4 (dk_at dksX2_stop_1 9 rfl rfl)
theorem dX2_stop_34 : decode cX2_stop 34 = .ok (.goto 4, 3) := dk_167 0 4 (dk_at dksX2_stop_1 10 rfl rfl)
theorem dX2_stop_37 : decode cX2_stop 37 = .ok (.iconst 0, 1) := dk_3 (dk_at dksX2_stop_1 13 rfl rfl)
theorem dX2_stop_38 : decode cX2_stop 38 = .ok (.iconst 2, 1) := dk_5 (dk_at dksX2_stop_1 14 rfl rfl)
theorem dX2_stop_39 : decode cX2_stop 39 = .ok (.invokevirtual 130, 3) := dk_182 0 130 (dk_at dksX2_stop_1 15 rfl rfl)
theorem dX2_stop_42 : decode cX2_stop 42 = .ok (.ifCond .eq 5, 3) := dk_153 0 5 (dk_at dksX2_stop_1 18 rfl rfl)
theorem dX2_stop_45 : decode cX2_stop 45 = .ok (.iconst 0, 1) := dk_3 (dk_at dksX2_stop_1 21 rfl rfl)
theorem dX2_stop_46 : decode cX2_stop 46 = .ok (.ireturn, 1) := dk_172 (dk_at dksX2_stop_1 22 rfl rfl)
theorem dX2_stop_47 : decode cX2_stop 47 = .ok (.aload_n 0, 1) := dk_42 (dk_at dksX2_stop_1 23 rfl rfl)
theorem dX2_stop_48 : decode cX2_stop 48 = .ok (.getfield 9, 3) := dk_180 0 9 (dk_at dksX2_stop_2 0 rfl rfl)
theorem dX2_stop_51 : decode cX2_stop 51 = .ok (.aload_n 0, 1) := dk_42 (dk_at dksX2_stop_2 3 rfl rfl)
theorem dX2_stop_52 : decode cX2_stop 52 = .ok (.getfield 123, 3) := dk_180 0 123 (dk_at dksX2_stop_2 4 rfl rfl)
theorem dX2_stop_55 : decode cX2_stop 55 = .ok (.iload_n 1, 1) := dk_27 (dk_at dksX2_stop_2 7 rfl rfl)
theorem dX2_stop_56 : decode cX2_stop 56 = .ok (.iastore, 1) := dk_79 (dk_at dksX2_stop_2 8 rfl rfl)
theorem dX2_stop_57 : decode cX2_stop 57 = .ok (.aload_n 0, 1) := dk_42 (dk_at dksX2_stop_2 9 rfl rfl)
theorem dX2_stop_58 : decode cX2_stop 58 = .ok (.dup, 1) := dk_89 (dk_at dksX2_stop_2 10 rfl rfl)
theorem dX2_stop_59 : decode cX2_stop 59 = .ok (.getfield 123, 3) := dk_180 0 123 (dk_at dksX2_stop_2 11 rfl rfl)
theorem dX2_stop_62 : decode cX2_stop 62 = .ok (.iconst 1, 1) := dk_4 (dk_at dksX2_stop_2 14 rfl rfl)
theorem dX2_stop_63 : decode cX2_stop 63 = .ok (.iadd, 1) := dk_96 (dk_at dksX2_stop_2 15 rfl rfl)
theorem dX2_stop_64 : decode cX2_stop 64 = .ok (.putfield 123, 3) := dk_181 0 123 (dk_at dksX2_stop_2 16 rfl rfl)
theorem dX2_stop_67 : decode cX2_stop 67 = .ok (.aload_n 0, 1) := dk_42 (dk_at dksX2_stop_2 19 rfl rfl)
theorem dX2_stop_68 : decode cX2_stop 68 = .ok (.invokevirtual 144, 3) := dk_182 0 144 (dk_at dksX2_stop_2 20 rfl rfl)
theorem dX2_stop_71 : decode cX2_stop 71 = .ok (.aload_n 0, 1) := dk_42 (dk_at dksX2_stop_2 23 rfl rfl)
theorem dX2_stop_72 : decode cX2_stop 72 = .ok (.getfield 123, 3) := dk_180 0 123 (dk_at dksX2_stop_3 0 rfl rfl)
theorem dX2_stop_75 : decode cX2_stop 75 = .ok (.iconst 1, 1) := dk_4 (dk_at dksX2_stop_3 3 rfl rfl)
theorem dX2_stop_76 : decode cX2_stop 76 = .ok (.isub, 1) := dk_100 (dk_at dksX2_stop_3 4 rfl rfl)
theorem dX2_stop_77 : decode cX2_stop 77 = .ok (.ireturn, 1) := dk_172 (dk_at dksX2_stop_3 5 rfl rfl)
abbrev cX2_isIn : ByteArray := prog_15_method_4_code
def yX2_isIn : MethodName := ⟨RX2, "isIn", "(III)Z"⟩
def dkwX2_isIn_0 : List UInt8 := [26, 27, 161, 0, 12, 26, 28, 163, 0, 7, 4, 167, 0, 4, 3, 172]
abbrev dktX2_isIn_0 : List UInt8 := dkwX2_isIn_0 ++ []
theorem dksX2_isIn_0 : cX2_isIn.data.toList.drop 0 = dktX2_isIn_0 := by decide +kernel
theorem dX2_isIn_0 : decode cX2_isIn 0 = .ok (.iload_n 0, 1) := dk_26 (dk_at dksX2_isIn_0 0 rfl rfl)
theorem dX2_isIn_1 : decode cX2_isIn 1 = .ok (.iload_n 1, 1) := dk_27 (dk_at dksX2_isIn_0 1 rfl rfl)
theorem dX2_isIn_2 : decode cX2_isIn 2 = .ok (.if_icmp .lt 12, 3) := dk_161 0 12 (dk_at dksX2_isIn_0 2 rfl rfl)
theorem dX2_isIn_5 : decode cX2_isIn 5 = .ok (.iload_n 0, 1) := dk_26 (dk_at dksX2_isIn_0 5 rfl rfl)
theorem dX2_isIn_6 : decode cX2_isIn 6 = .ok (.iload_n 2, 1) := dk_28 (dk_at dksX2_isIn_0 6 rfl rfl)
theorem dX2_isIn_7 : decode cX2_isIn 7 = .ok (.if_icmp .gt 7, 3) := dk_163 0 7 (dk_at dksX2_isIn_0 7 rfl rfl)
theorem dX2_isIn_10 : decode cX2_isIn 10 = .ok (.iconst 1, 1) := dk_4 (dk_at dksX2_isIn_0 10 rfl rfl)
theorem dX2_isIn_11 : decode cX2_isIn 11 = .ok (.goto 4, 3) := dk_167 0 4 (dk_at dksX2_isIn_0 11 rfl rfl)
theorem dX2_isIn_14 : decode cX2_isIn 14 = .ok (.iconst 0, 1) := dk_3 (dk_at dksX2_isIn_0 14 rfl rfl)
theorem dX2_isIn_15 : decode cX2_isIn 15 = .ok (.ireturn, 1) := dk_172 (dk_at dksX2_isIn_0 15 rfl rfl)
abbrev cX2_isThrown : ByteArray := prog_15_method_3_code
def yX2_isThrown : MethodName := ⟨RX2, "isThrown", "(ZI)Z"⟩
def dkwX2_isThrown_0 : List UInt8 := [42, 27, 153, 0, 7, 28, 167, 0, 4, 3, 181, 0, 120, 27, 172]
abbrev dktX2_isThrown_0 : List UInt8 := dkwX2_isThrown_0 ++ []
theorem dksX2_isThrown_0 : cX2_isThrown.data.toList.drop 0 = dktX2_isThrown_0 := by decide +kernel
theorem dX2_isThrown_0 : decode cX2_isThrown 0 = .ok (.aload_n 0, 1) := dk_42 (dk_at dksX2_isThrown_0 0 rfl rfl)
theorem dX2_isThrown_1 : decode cX2_isThrown 1 = .ok (.iload_n 1, 1) := dk_27 (dk_at dksX2_isThrown_0 1 rfl rfl)
theorem dX2_isThrown_2 : decode cX2_isThrown 2 = .ok (.ifCond .eq 7, 3) := dk_153 0 7 (dk_at dksX2_isThrown_0 2 rfl rfl)
theorem dX2_isThrown_5 : decode cX2_isThrown 5 = .ok (.iload_n 2, 1) := dk_28 (dk_at dksX2_isThrown_0 5 rfl rfl)
theorem dX2_isThrown_6 : decode cX2_isThrown 6 = .ok (.goto 4, 3) := dk_167 0 4 (dk_at dksX2_isThrown_0 6 rfl rfl)
theorem dX2_isThrown_9 : decode cX2_isThrown 9 = .ok (.iconst 0, 1) := dk_3 (dk_at dksX2_isThrown_0 9 rfl rfl)
theorem dX2_isThrown_10 : decode cX2_isThrown 10 = .ok (.putfield 120, 3) := dk_181 0 120 (dk_at dksX2_isThrown_0 10 rfl rfl)
theorem dX2_isThrown_13 : decode cX2_isThrown 13 = .ok (.iload_n 1, 1) := dk_27 (dk_at dksX2_isThrown_0 13 rfl rfl)
theorem dX2_isThrown_14 : decode cX2_isThrown 14 = .ok (.ireturn, 1) := dk_172 (dk_at dksX2_isThrown_0 14 rfl rfl)
abbrev cX2_walks : ByteArray := prog_15_method_13_code
def yX2_walks : MethodName := ⟨RX2, "walks", "()V"⟩
def dkwX2_walks_8 : List UInt8 := [167, 255, 159, 177]
abbrev dktX2_walks_8 : List UInt8 := dkwX2_walks_8 ++ []
def dkwX2_walks_7 : List UInt8 := [16, 12, 28, 104, 29, 96, 21, 4, 79, 132, 3, 1, 167, 255, 191, 132, 2, 1, 167, 255, 175, 132, 1, 1]
abbrev dktX2_walks_7 : List UInt8 := dkwX2_walks_7 ++ dktX2_walks_8
def dkwX2_walks_6 : List UInt8 := [46, 96, 54, 4, 21, 4, 42, 180, 0, 16, 16, 12, 28, 104, 29, 96, 46, 162, 0, 16, 42, 180, 0, 16]
abbrev dktX2_walks_6 : List UInt8 := dkwX2_walks_6 ++ dktX2_walks_7
def dkwX2_walks_5 : List UInt8 := [162, 0, 63, 42, 180, 0, 16, 16, 12, 28, 104, 27, 96, 46, 42, 180, 0, 16, 16, 12, 27, 104, 29, 96]
abbrev dktX2_walks_5 : List UInt8 := dkwX2_walks_5 ++ dktX2_walks_6
def dkwX2_walks_4 : List UInt8 := [180, 0, 123, 162, 0, 95, 3, 61, 28, 42, 180, 0, 123, 162, 0, 79, 3, 62, 29, 42, 180, 0, 123]
abbrev dktX2_walks_4 : List UInt8 := dkwX2_walks_4 ++ dktX2_walks_5
def dkwX2_walks_3 : List UInt8 := [18, 150, 167, 0, 4, 29, 79, 132, 2, 1, 167, 255, 187, 132, 1, 1, 167, 255, 171, 3, 60, 27, 42]
abbrev dktX2_walks_3 : List UInt8 := dkwX2_walks_3 ++ dktX2_walks_4
def dkwX2_walks_2 : List UInt8 := [167, 0, 29, 29, 153, 0, 19, 27, 42, 180, 0, 19, 159, 0, 11, 28, 42, 180, 0, 19, 160, 0, 8]
abbrev dktX2_walks_2 : List UInt8 := dkwX2_walks_2 ++ dktX2_walks_3
def dkwX2_walks_1 : List UInt8 := [16, 12, 27, 104, 28, 96, 46, 62, 42, 180, 0, 16, 16, 12, 27, 104, 28, 96, 27, 28, 160, 0, 7, 3]
abbrev dktX2_walks_1 : List UInt8 := dkwX2_walks_1 ++ dktX2_walks_2
def dkwX2_walks_0 : List UInt8 := [3, 60, 27, 42, 180, 0, 123, 162, 0, 83, 3, 61, 28, 42, 180, 0, 123, 162, 0, 67, 42, 180, 0, 13]
abbrev dktX2_walks_0 : List UInt8 := dkwX2_walks_0 ++ dktX2_walks_1
theorem dksX2_walks_0 : cX2_walks.data.toList.drop 0 = dktX2_walks_0 := by decide +kernel
theorem dksX2_walks_1 : cX2_walks.data.toList.drop 24 = dktX2_walks_1 := dk_seg dksX2_walks_0 24 rfl rfl
theorem dksX2_walks_2 : cX2_walks.data.toList.drop 48 = dktX2_walks_2 := dk_seg dksX2_walks_1 24 rfl rfl
theorem dksX2_walks_3 : cX2_walks.data.toList.drop 71 = dktX2_walks_3 := dk_seg dksX2_walks_2 23 rfl rfl
theorem dksX2_walks_4 : cX2_walks.data.toList.drop 94 = dktX2_walks_4 := dk_seg dksX2_walks_3 23 rfl rfl
theorem dksX2_walks_5 : cX2_walks.data.toList.drop 117 = dktX2_walks_5 := dk_seg dksX2_walks_4 23 rfl rfl
theorem dksX2_walks_6 : cX2_walks.data.toList.drop 141 = dktX2_walks_6 := dk_seg dksX2_walks_5 24 rfl rfl
theorem dksX2_walks_7 : cX2_walks.data.toList.drop 165 = dktX2_walks_7 := dk_seg dksX2_walks_6 24 rfl rfl
theorem dksX2_walks_8 : cX2_walks.data.toList.drop 189 = dktX2_walks_8 := dk_seg dksX2_walks_7 24 rfl rfl
theorem dX2_walks_0 : decode cX2_walks 0 = .ok (.iconst 0, 1) := dk_3 (dk_at dksX2_walks_0 0 rfl rfl)
theorem dX2_walks_1 : decode cX2_walks 1 = .ok (.istore_n 1, 1) := dk_60 (dk_at dksX2_walks_0 1 rfl rfl)
theorem dX2_walks_2 : decode cX2_walks 2 = .ok (.iload_n 1, 1) := dk_27 (dk_at dksX2_walks_0 2 rfl rfl)
theorem dX2_walks_3 : decode cX2_walks 3 = .ok (.aload_n 0, 1) := dk_42 (dk_at dksX2_walks_0 3 rfl rfl)
theorem dX2_walks_4 : decode cX2_walks 4 = .ok (.getfield 123, 3) := dk_180 0 123 (dk_at dksX2_walks_0 4 rfl rfl)
theorem dX2_walks_7 : decode cX2_walks 7 = .ok (.if_icmp .ge 83, 3) := dk_162 0 83 (dk_at dksX2_walks_0 7 rfl rfl)
theorem dX2_walks_10 : decode cX2_walks 10 = .ok (.iconst 0, 1) := dk_3 (dk_at dksX2_walks_0 10 rfl rfl)
theorem dX2_walks_11 : decode cX2_walks 11 = .ok (.istore_n 2, 1) := dk_61 (dk_at dksX2_walks_0 11 rfl rfl)
theorem dX2_walks_12 : decode cX2_walks 12 = .ok (.iload_n 2, 1) := dk_28 (dk_at dksX2_walks_0 12 rfl rfl)
theorem dX2_walks_13 : decode cX2_walks 13 = .ok (.aload_n 0, 1) := dk_42 (dk_at dksX2_walks_0 13 rfl rfl)
theorem dX2_walks_14 : decode cX2_walks 14 = .ok (.getfield 123, 3) := dk_180 0 123 (dk_at dksX2_walks_0 14 rfl rfl)
theorem dX2_walks_17 : decode cX2_walks 17 = .ok (.if_icmp .ge 67, 3) := dk_162 0 67 (dk_at dksX2_walks_0 17 rfl rfl)
theorem dX2_walks_20 : decode cX2_walks 20 = .ok (.aload_n 0, 1) := dk_42 (dk_at dksX2_walks_0 20 rfl rfl)
theorem dX2_walks_21 : decode cX2_walks 21 = .ok (.getfield 13, 3) := dk_180 0 13 (dk_at dksX2_walks_0 21 rfl rfl)
theorem dX2_walks_24 : decode cX2_walks 24 = .ok (.bipush 12, 2) := dk_16 12 (dk_at dksX2_walks_1 0 rfl rfl)
theorem dX2_walks_26 : decode cX2_walks 26 = .ok (.iload_n 1, 1) := dk_27 (dk_at dksX2_walks_1 2 rfl rfl)
theorem dX2_walks_27 : decode cX2_walks 27 = .ok (.imul, 1) := dk_104 (dk_at dksX2_walks_1 3 rfl rfl)
theorem dX2_walks_28 : decode cX2_walks 28 = .ok (.iload_n 2, 1) := dk_28 (dk_at dksX2_walks_1 4 rfl rfl)
theorem dX2_walks_29 : decode cX2_walks 29 = .ok (.iadd, 1) := dk_96 (dk_at dksX2_walks_1 5 rfl rfl)
theorem dX2_walks_30 : decode cX2_walks 30 = .ok (.iaload, 1) := dk_46 (dk_at dksX2_walks_1 6 rfl rfl)
theorem dX2_walks_31 : decode cX2_walks 31 = .ok (.istore_n 3, 1) := dk_62 (dk_at dksX2_walks_1 7 rfl rfl)
theorem dX2_walks_32 : decode cX2_walks 32 = .ok (.aload_n 0, 1) := dk_42 (dk_at dksX2_walks_1 8 rfl rfl)
theorem dX2_walks_33 : decode cX2_walks 33 = .ok (.getfield 16, 3) := dk_180 0 16 (dk_at dksX2_walks_1 9 rfl rfl)
theorem dX2_walks_36 : decode cX2_walks 36 = .ok (.bipush 12, 2) := dk_16 12 (dk_at dksX2_walks_1 12 rfl rfl)
theorem dX2_walks_38 : decode cX2_walks 38 = .ok (.iload_n 1, 1) := dk_27 (dk_at dksX2_walks_1 14 rfl rfl)
theorem dX2_walks_39 : decode cX2_walks 39 = .ok (.imul, 1) := dk_104 (dk_at dksX2_walks_1 15 rfl rfl)
theorem dX2_walks_40 : decode cX2_walks 40 = .ok (.iload_n 2, 1) := dk_28 (dk_at dksX2_walks_1 16 rfl rfl)
theorem dX2_walks_41 : decode cX2_walks 41 = .ok (.iadd, 1) := dk_96 (dk_at dksX2_walks_1 17 rfl rfl)
theorem dX2_walks_42 : decode cX2_walks 42 = .ok (.iload_n 1, 1) := dk_27 (dk_at dksX2_walks_1 18 rfl rfl)
theorem dX2_walks_43 : decode cX2_walks 43 = .ok (.iload_n 2, 1) := dk_28 (dk_at dksX2_walks_1 19 rfl rfl)
theorem dX2_walks_44 : decode cX2_walks 44 = .ok (.if_icmp .ne 7, 3) := dk_160 0 7 (dk_at dksX2_walks_1 20 rfl rfl)
theorem dX2_walks_47 : decode cX2_walks 47 = .ok (.iconst 0, 1) := dk_3 (dk_at dksX2_walks_1 23 rfl rfl)
theorem dX2_walks_48 : decode cX2_walks 48 = .ok (.goto 29, 3) := dk_167 0 29 (dk_at dksX2_walks_2 0 rfl rfl)
theorem dX2_walks_51 : decode cX2_walks 51 = .ok (.iload_n 3, 1) := dk_29 (dk_at dksX2_walks_2 3 rfl rfl)
theorem dX2_walks_52 : decode cX2_walks 52 = .ok (.ifCond .eq 19, 3) := dk_153 0 19 (dk_at dksX2_walks_2 4 rfl rfl)
theorem dX2_walks_55 : decode cX2_walks 55 = .ok (.iload_n 1, 1) := dk_27 (dk_at dksX2_walks_2 7 rfl rfl)
theorem dX2_walks_56 : decode cX2_walks 56 = .ok (.aload_n 0, 1) := dk_42 (dk_at dksX2_walks_2 8 rfl rfl)
theorem dX2_walks_57 : decode cX2_walks 57 = .ok (.getfield 19, 3) := dk_180 0 19 (dk_at dksX2_walks_2 9 rfl rfl)
theorem dX2_walks_60 : decode cX2_walks 60 = .ok (.if_icmp .eq 11, 3) := dk_159 0 11 (dk_at dksX2_walks_2 12 rfl rfl)
theorem dX2_walks_63 : decode cX2_walks 63 = .ok (.iload_n 2, 1) := dk_28 (dk_at dksX2_walks_2 15 rfl rfl)
theorem dX2_walks_64 : decode cX2_walks 64 = .ok (.aload_n 0, 1) := dk_42 (dk_at dksX2_walks_2 16 rfl rfl)
theorem dX2_walks_65 : decode cX2_walks 65 = .ok (.getfield 19, 3) := dk_180 0 19 (dk_at dksX2_walks_2 17 rfl rfl)
theorem dX2_walks_68 : decode cX2_walks 68 = .ok (.if_icmp .ne 8, 3) := dk_160 0 8 (dk_at dksX2_walks_2 20 rfl rfl)
theorem dX2_walks_71 : decode cX2_walks 71 = .ok (.ldc 150, 2) := dk_18 150 (dk_at dksX2_walks_3 0 rfl rfl)
theorem dX2_walks_73 : decode cX2_walks 73 = .ok (.goto 4, 3) := dk_167 0 4 (dk_at dksX2_walks_3 2 rfl rfl)
theorem dX2_walks_76 : decode cX2_walks 76 = .ok (.iload_n 3, 1) := dk_29 (dk_at dksX2_walks_3 5 rfl rfl)
theorem dX2_walks_77 : decode cX2_walks 77 = .ok (.iastore, 1) := dk_79 (dk_at dksX2_walks_3 6 rfl rfl)
theorem dX2_walks_78 : decode cX2_walks 78 = .ok (.iinc 2 1, 3) := dk_132 2 1 (dk_at dksX2_walks_3 7 rfl rfl)
theorem dX2_walks_81 : decode cX2_walks 81 = .ok (.goto (-69), 3) := dk_167 255 187 (dk_at dksX2_walks_3 10 rfl rfl)
theorem dX2_walks_84 : decode cX2_walks 84 = .ok (.iinc 1 1, 3) := dk_132 1 1 (dk_at dksX2_walks_3 13 rfl rfl)
theorem dX2_walks_87 : decode cX2_walks 87 = .ok (.goto (-85), 3) := dk_167 255 171 (dk_at dksX2_walks_3 16 rfl rfl)
theorem dX2_walks_90 : decode cX2_walks 90 = .ok (.iconst 0, 1) := dk_3 (dk_at dksX2_walks_3 19 rfl rfl)
theorem dX2_walks_91 : decode cX2_walks 91 = .ok (.istore_n 1, 1) := dk_60 (dk_at dksX2_walks_3 20 rfl rfl)
theorem dX2_walks_92 : decode cX2_walks 92 = .ok (.iload_n 1, 1) := dk_27 (dk_at dksX2_walks_3 21 rfl rfl)
theorem dX2_walks_93 : decode cX2_walks 93 = .ok (.aload_n 0, 1) := dk_42 (dk_at dksX2_walks_3 22 rfl rfl)
theorem dX2_walks_94 : decode cX2_walks 94 = .ok (.getfield 123, 3) := dk_180 0 123 (dk_at dksX2_walks_4 0 rfl rfl)
theorem dX2_walks_97 : decode cX2_walks 97 = .ok (.if_icmp .ge 95, 3) := dk_162 0 95 (dk_at dksX2_walks_4 3 rfl rfl)
theorem dX2_walks_100 : decode cX2_walks 100 = .ok (.iconst 0, 1) := dk_3 (dk_at dksX2_walks_4 6 rfl rfl)
theorem dX2_walks_101 : decode cX2_walks 101 = .ok (.istore_n 2, 1) := dk_61 (dk_at dksX2_walks_4 7 rfl rfl)
theorem dX2_walks_102 : decode cX2_walks 102 = .ok (.iload_n 2, 1) := dk_28 (dk_at dksX2_walks_4 8 rfl rfl)
theorem dX2_walks_103 : decode cX2_walks 103 = .ok (.aload_n 0, 1) := dk_42 (dk_at dksX2_walks_4 9 rfl rfl)
theorem dX2_walks_104 : decode cX2_walks 104 = .ok (.getfield 123, 3) := dk_180 0 123 (dk_at dksX2_walks_4 10 rfl rfl)
theorem dX2_walks_107 : decode cX2_walks 107 = .ok (.if_icmp .ge 79, 3) := dk_162 0 79 (dk_at dksX2_walks_4 13 rfl rfl)
theorem dX2_walks_110 : decode cX2_walks 110 = .ok (.iconst 0, 1) := dk_3 (dk_at dksX2_walks_4 16 rfl rfl)
theorem dX2_walks_111 : decode cX2_walks 111 = .ok (.istore_n 3, 1) := dk_62 (dk_at dksX2_walks_4 17 rfl rfl)
theorem dX2_walks_112 : decode cX2_walks 112 = .ok (.iload_n 3, 1) := dk_29 (dk_at dksX2_walks_4 18 rfl rfl)
theorem dX2_walks_113 : decode cX2_walks 113 = .ok (.aload_n 0, 1) := dk_42 (dk_at dksX2_walks_4 19 rfl rfl)
theorem dX2_walks_114 : decode cX2_walks 114 = .ok (.getfield 123, 3) := dk_180 0 123 (dk_at dksX2_walks_4 20 rfl rfl)
theorem dX2_walks_117 : decode cX2_walks 117 = .ok (.if_icmp .ge 63, 3) := dk_162 0 63 (dk_at dksX2_walks_5 0 rfl rfl)
theorem dX2_walks_120 : decode cX2_walks 120 = .ok (.aload_n 0, 1) := dk_42 (dk_at dksX2_walks_5 3 rfl rfl)
theorem dX2_walks_121 : decode cX2_walks 121 = .ok (.getfield 16, 3) := dk_180 0 16 (dk_at dksX2_walks_5 4 rfl rfl)
theorem dX2_walks_124 : decode cX2_walks 124 = .ok (.bipush 12, 2) := dk_16 12 (dk_at dksX2_walks_5 7 rfl rfl)
theorem dX2_walks_126 : decode cX2_walks 126 = .ok (.iload_n 2, 1) := dk_28 (dk_at dksX2_walks_5 9 rfl rfl)
theorem dX2_walks_127 : decode cX2_walks 127 = .ok (.imul, 1) := dk_104 (dk_at dksX2_walks_5 10 rfl rfl)
theorem dX2_walks_128 : decode cX2_walks 128 = .ok (.iload_n 1, 1) := dk_27 (dk_at dksX2_walks_5 11 rfl rfl)
theorem dX2_walks_129 : decode cX2_walks 129 = .ok (.iadd, 1) := dk_96 (dk_at dksX2_walks_5 12 rfl rfl)
theorem dX2_walks_130 : decode cX2_walks 130 = .ok (.iaload, 1) := dk_46 (dk_at dksX2_walks_5 13 rfl rfl)
theorem dX2_walks_131 : decode cX2_walks 131 = .ok (.aload_n 0, 1) := dk_42 (dk_at dksX2_walks_5 14 rfl rfl)
theorem dX2_walks_132 : decode cX2_walks 132 = .ok (.getfield 16, 3) := dk_180 0 16 (dk_at dksX2_walks_5 15 rfl rfl)
theorem dX2_walks_135 : decode cX2_walks 135 = .ok (.bipush 12, 2) := dk_16 12 (dk_at dksX2_walks_5 18 rfl rfl)
theorem dX2_walks_137 : decode cX2_walks 137 = .ok (.iload_n 1, 1) := dk_27 (dk_at dksX2_walks_5 20 rfl rfl)
theorem dX2_walks_138 : decode cX2_walks 138 = .ok (.imul, 1) := dk_104 (dk_at dksX2_walks_5 21 rfl rfl)
theorem dX2_walks_139 : decode cX2_walks 139 = .ok (.iload_n 3, 1) := dk_29 (dk_at dksX2_walks_5 22 rfl rfl)
theorem dX2_walks_140 : decode cX2_walks 140 = .ok (.iadd, 1) := dk_96 (dk_at dksX2_walks_5 23 rfl rfl)
theorem dX2_walks_141 : decode cX2_walks 141 = .ok (.iaload, 1) := dk_46 (dk_at dksX2_walks_6 0 rfl rfl)
theorem dX2_walks_142 : decode cX2_walks 142 = .ok (.iadd, 1) := dk_96 (dk_at dksX2_walks_6 1 rfl rfl)
theorem dX2_walks_143 : decode cX2_walks 143 = .ok (.istore 4, 2) := dk_54 4 (dk_at dksX2_walks_6 2 rfl rfl)
theorem dX2_walks_145 : decode cX2_walks 145 = .ok (.iload 4, 2) := dk_21 4 (dk_at dksX2_walks_6 4 rfl rfl)
theorem dX2_walks_147 : decode cX2_walks 147 = .ok (.aload_n 0, 1) := dk_42 (dk_at dksX2_walks_6 6 rfl rfl)
theorem dX2_walks_148 : decode cX2_walks 148 = .ok (.getfield 16, 3) := dk_180 0 16 (dk_at dksX2_walks_6 7 rfl rfl)
theorem dX2_walks_151 : decode cX2_walks 151 = .ok (.bipush 12, 2) := dk_16 12 (dk_at dksX2_walks_6 10 rfl rfl)
theorem dX2_walks_153 : decode cX2_walks 153 = .ok (.iload_n 2, 1) := dk_28 (dk_at dksX2_walks_6 12 rfl rfl)
theorem dX2_walks_154 : decode cX2_walks 154 = .ok (.imul, 1) := dk_104 (dk_at dksX2_walks_6 13 rfl rfl)
theorem dX2_walks_155 : decode cX2_walks 155 = .ok (.iload_n 3, 1) := dk_29 (dk_at dksX2_walks_6 14 rfl rfl)
theorem dX2_walks_156 : decode cX2_walks 156 = .ok (.iadd, 1) := dk_96 (dk_at dksX2_walks_6 15 rfl rfl)
theorem dX2_walks_157 : decode cX2_walks 157 = .ok (.iaload, 1) := dk_46 (dk_at dksX2_walks_6 16 rfl rfl)
theorem dX2_walks_158 : decode cX2_walks 158 = .ok (.if_icmp .ge 16, 3) := dk_162 0 16 (dk_at dksX2_walks_6 17 rfl rfl)
theorem dX2_walks_161 : decode cX2_walks 161 = .ok (.aload_n 0, 1) := dk_42 (dk_at dksX2_walks_6 20 rfl rfl)
theorem dX2_walks_162 : decode cX2_walks 162 = .ok (.getfield 16, 3) := dk_180 0 16 (dk_at dksX2_walks_6 21 rfl rfl)
theorem dX2_walks_165 : decode cX2_walks 165 = .ok (.bipush 12, 2) := dk_16 12 (dk_at dksX2_walks_7 0 rfl rfl)
theorem dX2_walks_167 : decode cX2_walks 167 = .ok (.iload_n 2, 1) := dk_28 (dk_at dksX2_walks_7 2 rfl rfl)
theorem dX2_walks_168 : decode cX2_walks 168 = .ok (.imul, 1) := dk_104 (dk_at dksX2_walks_7 3 rfl rfl)
theorem dX2_walks_169 : decode cX2_walks 169 = .ok (.iload_n 3, 1) := dk_29 (dk_at dksX2_walks_7 4 rfl rfl)
theorem dX2_walks_170 : decode cX2_walks 170 = .ok (.iadd, 1) := dk_96 (dk_at dksX2_walks_7 5 rfl rfl)
theorem dX2_walks_171 : decode cX2_walks 171 = .ok (.iload 4, 2) := dk_21 4 (dk_at dksX2_walks_7 6 rfl rfl)
theorem dX2_walks_173 : decode cX2_walks 173 = .ok (.iastore, 1) := dk_79 (dk_at dksX2_walks_7 8 rfl rfl)
theorem dX2_walks_174 : decode cX2_walks 174 = .ok (.iinc 3 1, 3) := dk_132 3 1 (dk_at dksX2_walks_7 9 rfl rfl)
theorem dX2_walks_177 : decode cX2_walks 177 = .ok (.goto (-65), 3) := dk_167 255 191 (dk_at dksX2_walks_7 12 rfl rfl)
theorem dX2_walks_180 : decode cX2_walks 180 = .ok (.iinc 2 1, 3) := dk_132 2 1 (dk_at dksX2_walks_7 15 rfl rfl)
theorem dX2_walks_183 : decode cX2_walks 183 = .ok (.goto (-81), 3) := dk_167 255 175 (dk_at dksX2_walks_7 18 rfl rfl)
theorem dX2_walks_186 : decode cX2_walks 186 = .ok (.iinc 1 1, 3) := dk_132 1 1 (dk_at dksX2_walks_7 21 rfl rfl)
theorem dX2_walks_189 : decode cX2_walks 189 = .ok (.goto (-97), 3) := dk_167 255 159 (dk_at dksX2_walks_8 0 rfl rfl)
theorem dX2_walks_192 : decode cX2_walks 192 = .ok (.return_, 1) := dk_177 (dk_at dksX2_walks_8 3 rfl rfl)
abbrev cX2_setChange : ByteArray := prog_15_method_11_code
def yX2_setChange : MethodName := ⟨RX2, "setChange", "(II)I"⟩
def dkwX2_setChange_2 : List UInt8 := [172]
abbrev dktX2_setChange_2 : List UInt8 := dkwX2_setChange_2 ++ []
def dkwX2_setChange_1 : List UInt8 := [5, 182, 0, 130, 153, 0, 5, 3, 172, 42, 180, 0, 9, 27, 46, 62, 42, 180, 0, 9, 27, 28, 79, 29]
abbrev dktX2_setChange_1 : List UInt8 := dkwX2_setChange_1 ++ dktX2_setChange_2
def dkwX2_setChange_0 : List UInt8 := [42, 27, 182, 0, 147, 154, 0, 26, 42, 28, 3, 16, 30, 184, 0, 126, 154, 0, 7, 4, 167, 0, 4, 3]
abbrev dktX2_setChange_0 : List UInt8 := dkwX2_setChange_0 ++ dktX2_setChange_1
theorem dksX2_setChange_0 : cX2_setChange.data.toList.drop 0 = dktX2_setChange_0 := by decide +kernel
theorem dksX2_setChange_1 : cX2_setChange.data.toList.drop 24 = dktX2_setChange_1 := dk_seg dksX2_setChange_0 24 rfl rfl
theorem dksX2_setChange_2 : cX2_setChange.data.toList.drop 48 = dktX2_setChange_2 := dk_seg dksX2_setChange_1 24 rfl rfl
theorem dX2_setChange_0 : decode cX2_setChange 0 = .ok (.aload_n 0, 1) := dk_42 (dk_at dksX2_setChange_0 0 rfl rfl)
theorem dX2_setChange_1 : decode cX2_setChange 1 = .ok (.iload_n 1, 1) := dk_27 (dk_at dksX2_setChange_0 1 rfl rfl)
theorem dX2_setChange_2 : decode cX2_setChange 2 = .ok (.invokevirtual 147, 3) := dk_182 0 147 (dk_at dksX2_setChange_0 2 rfl rfl)
theorem dX2_setChange_5 : decode cX2_setChange 5 = .ok (.ifCond .ne 26, 3) := dk_154 0 26 (dk_at dksX2_setChange_0 5 rfl rfl)
theorem dX2_setChange_8 : decode cX2_setChange 8 = .ok (.aload_n 0, 1) := dk_42 (dk_at dksX2_setChange_0 8 rfl rfl)
theorem dX2_setChange_9 : decode cX2_setChange 9 = .ok (.iload_n 2, 1) := dk_28 (dk_at dksX2_setChange_0 9 rfl rfl)
theorem dX2_setChange_10 : decode cX2_setChange 10 = .ok (.iconst 0, 1) := dk_3 (dk_at dksX2_setChange_0 10 rfl rfl)
theorem dX2_setChange_11 : decode cX2_setChange 11 = .ok (.bipush 30, 2) := dk_16 30 (dk_at dksX2_setChange_0 11 rfl rfl)
theorem dX2_setChange_13 : decode cX2_setChange 13 = .ok (.invokestatic 126, 3) := dk_184 0 126 (dk_at dksX2_setChange_0 13 rfl rfl)
theorem dX2_setChange_16 : decode cX2_setChange 16 = .ok (.ifCond .ne 7, 3) := dk_154 0 7 (dk_at dksX2_setChange_0 16 rfl rfl)
theorem dX2_setChange_19 : decode cX2_setChange 19 = .ok (.iconst 1, 1) := dk_4 (dk_at dksX2_setChange_0 19 rfl rfl)
theorem dX2_setChange_20 : decode cX2_setChange 20 = .ok (.goto 4, 3) := dk_167 0 4 (dk_at dksX2_setChange_0 20 rfl rfl)
theorem dX2_setChange_23 : decode cX2_setChange 23 = .ok (.iconst 0, 1) := dk_3 (dk_at dksX2_setChange_0 23 rfl rfl)
theorem dX2_setChange_24 : decode cX2_setChange 24 = .ok (.iconst 2, 1) := dk_5 (dk_at dksX2_setChange_1 0 rfl rfl)
theorem dX2_setChange_25 : decode cX2_setChange 25 = .ok (.invokevirtual 130, 3) := dk_182 0 130 (dk_at dksX2_setChange_1 1 rfl rfl)
theorem dX2_setChange_28 : decode cX2_setChange 28 = .ok (.ifCond .eq 5, 3) := dk_153 0 5 (dk_at dksX2_setChange_1 4 rfl rfl)
theorem dX2_setChange_31 : decode cX2_setChange 31 = .ok (.iconst 0, 1) := dk_3 (dk_at dksX2_setChange_1 7 rfl rfl)
theorem dX2_setChange_32 : decode cX2_setChange 32 = .ok (.ireturn, 1) := dk_172 (dk_at dksX2_setChange_1 8 rfl rfl)
theorem dX2_setChange_33 : decode cX2_setChange 33 = .ok (.aload_n 0, 1) := dk_42 (dk_at dksX2_setChange_1 9 rfl rfl)
theorem dX2_setChange_34 : decode cX2_setChange 34 = .ok (.getfield 9, 3) := dk_180 0 9 (dk_at dksX2_setChange_1 10 rfl rfl)
theorem dX2_setChange_37 : decode cX2_setChange 37 = .ok (.iload_n 1, 1) := dk_27 (dk_at dksX2_setChange_1 13 rfl rfl)
theorem dX2_setChange_38 : decode cX2_setChange 38 = .ok (.iaload, 1) := dk_46 (dk_at dksX2_setChange_1 14 rfl rfl)
theorem dX2_setChange_39 : decode cX2_setChange 39 = .ok (.istore_n 3, 1) := dk_62 (dk_at dksX2_setChange_1 15 rfl rfl)
theorem dX2_setChange_40 : decode cX2_setChange 40 = .ok (.aload_n 0, 1) := dk_42 (dk_at dksX2_setChange_1 16 rfl rfl)
theorem dX2_setChange_41 : decode cX2_setChange 41 = .ok (.getfield 9, 3) := dk_180 0 9 (dk_at dksX2_setChange_1 17 rfl rfl)
theorem dX2_setChange_44 : decode cX2_setChange 44 = .ok (.iload_n 1, 1) := dk_27 (dk_at dksX2_setChange_1 20 rfl rfl)
theorem dX2_setChange_45 : decode cX2_setChange 45 = .ok (.iload_n 2, 1) := dk_28 (dk_at dksX2_setChange_1 21 rfl rfl)
theorem dX2_setChange_46 : decode cX2_setChange 46 = .ok (.iastore, 1) := dk_79 (dk_at dksX2_setChange_1 22 rfl rfl)
theorem dX2_setChange_47 : decode cX2_setChange 47 = .ok (.iload_n 3, 1) := dk_29 (dk_at dksX2_setChange_1 23 rfl rfl)
theorem dX2_setChange_48 : decode cX2_setChange 48 = .ok (.ireturn, 1) := dk_172 (dk_at dksX2_setChange_2 0 rfl rfl)
abbrev cX2_isNoStop : ByteArray := prog_15_method_5_code
def yX2_isNoStop : MethodName := ⟨RX2, "isNoStop", "(I)Z"⟩
def dkwX2_isNoStop_1 : List UInt8 := [172]
abbrev dktX2_isNoStop_1 : List UInt8 := dkwX2_isNoStop_1 ++ []
def dkwX2_isNoStop_0 : List UInt8 := [42, 27, 3, 42, 180, 0, 123, 4, 100, 184, 0, 126, 154, 0, 7, 4, 167, 0, 4, 3, 4, 182, 0, 130]
abbrev dktX2_isNoStop_0 : List UInt8 := dkwX2_isNoStop_0 ++ dktX2_isNoStop_1
theorem dksX2_isNoStop_0 : cX2_isNoStop.data.toList.drop 0 = dktX2_isNoStop_0 := by decide +kernel
theorem dksX2_isNoStop_1 : cX2_isNoStop.data.toList.drop 24 = dktX2_isNoStop_1 := dk_seg dksX2_isNoStop_0 24 rfl rfl
theorem dX2_isNoStop_0 : decode cX2_isNoStop 0 = .ok (.aload_n 0, 1) := dk_42 (dk_at dksX2_isNoStop_0 0 rfl rfl)
theorem dX2_isNoStop_1 : decode cX2_isNoStop 1 = .ok (.iload_n 1, 1) := dk_27 (dk_at dksX2_isNoStop_0 1 rfl rfl)
theorem dX2_isNoStop_2 : decode cX2_isNoStop 2 = .ok (.iconst 0, 1) := dk_3 (dk_at dksX2_isNoStop_0 2 rfl rfl)
theorem dX2_isNoStop_3 : decode cX2_isNoStop 3 = .ok (.aload_n 0, 1) := dk_42 (dk_at dksX2_isNoStop_0 3 rfl rfl)
theorem dX2_isNoStop_4 : decode cX2_isNoStop 4 = .ok (.getfield 123, 3) := dk_180 0 123 (dk_at dksX2_isNoStop_0 4 rfl rfl)
theorem dX2_isNoStop_7 : decode cX2_isNoStop 7 = .ok (.iconst 1, 1) := dk_4 (dk_at dksX2_isNoStop_0 7 rfl rfl)
theorem dX2_isNoStop_8 : decode cX2_isNoStop 8 = .ok (.isub, 1) := dk_100 (dk_at dksX2_isNoStop_0 8 rfl rfl)
theorem dX2_isNoStop_9 : decode cX2_isNoStop 9 = .ok (.invokestatic 126, 3) := dk_184 0 126 (dk_at dksX2_isNoStop_0 9 rfl rfl)
theorem dX2_isNoStop_12 : decode cX2_isNoStop 12 = .ok (.ifCond .ne 7, 3) := dk_154 0 7 (dk_at dksX2_isNoStop_0 12 rfl rfl)
theorem dX2_isNoStop_15 : decode cX2_isNoStop 15 = .ok (.iconst 1, 1) := dk_4 (dk_at dksX2_isNoStop_0 15 rfl rfl)
theorem dX2_isNoStop_16 : decode cX2_isNoStop 16 = .ok (.goto 4, 3) := dk_167 0 4 (dk_at dksX2_isNoStop_0 16 rfl rfl)
theorem dX2_isNoStop_19 : decode cX2_isNoStop 19 = .ok (.iconst 0, 1) := dk_3 (dk_at dksX2_isNoStop_0 19 rfl rfl)
theorem dX2_isNoStop_20 : decode cX2_isNoStop 20 = .ok (.iconst 1, 1) := dk_4 (dk_at dksX2_isNoStop_0 20 rfl rfl)
theorem dX2_isNoStop_21 : decode cX2_isNoStop 21 = .ok (.invokevirtual 130, 3) := dk_182 0 130 (dk_at dksX2_isNoStop_0 21 rfl rfl)
theorem dX2_isNoStop_24 : decode cX2_isNoStop 24 = .ok (.ireturn, 1) := dk_172 (dk_at dksX2_isNoStop_1 0 rfl rfl)
abbrev cX2_walk : ByteArray := prog_15_method_12_code
def yX2_walk : MethodName := ⟨RX2, "walk", "(III)I"⟩
def dkwX2_walk_3 : List UInt8 := [42, 180, 0, 13, 16, 12, 28, 104, 27, 96, 29, 79, 42, 182, 0, 144, 21, 4, 172]
abbrev dktX2_walk_3 : List UInt8 := dkwX2_walk_3 ++ []
def dkwX2_walk_2 : List UInt8 := [180, 0, 13, 16, 12, 27, 104, 28, 96, 46, 54, 4, 42, 180, 0, 13, 16, 12, 27, 104, 28, 96, 29, 79]
abbrev dktX2_walk_2 : List UInt8 := dkwX2_walk_2 ++ dktX2_walk_3
def dkwX2_walk_1 : List UInt8 := [16, 60, 184, 0, 126, 154, 0, 7, 4, 167, 0, 4, 3, 5, 182, 0, 130, 153, 0, 5, 3, 172, 42]
abbrev dktX2_walk_1 : List UInt8 := dkwX2_walk_1 ++ dktX2_walk_2
def dkwX2_walk_0 : List UInt8 := [42, 27, 182, 0, 147, 154, 0, 39, 42, 28, 182, 0, 147, 154, 0, 31, 42, 27, 28, 159, 0, 13, 29, 3]
abbrev dktX2_walk_0 : List UInt8 := dkwX2_walk_0 ++ dktX2_walk_1
theorem dksX2_walk_0 : cX2_walk.data.toList.drop 0 = dktX2_walk_0 := by decide +kernel
theorem dksX2_walk_1 : cX2_walk.data.toList.drop 24 = dktX2_walk_1 := dk_seg dksX2_walk_0 24 rfl rfl
theorem dksX2_walk_2 : cX2_walk.data.toList.drop 47 = dktX2_walk_2 := dk_seg dksX2_walk_1 23 rfl rfl
theorem dksX2_walk_3 : cX2_walk.data.toList.drop 71 = dktX2_walk_3 := dk_seg dksX2_walk_2 24 rfl rfl
theorem dX2_walk_0 : decode cX2_walk 0 = .ok (.aload_n 0, 1) := dk_42 (dk_at dksX2_walk_0 0 rfl rfl)
theorem dX2_walk_1 : decode cX2_walk 1 = .ok (.iload_n 1, 1) := dk_27 (dk_at dksX2_walk_0 1 rfl rfl)
theorem dX2_walk_2 : decode cX2_walk 2 = .ok (.invokevirtual 147, 3) := dk_182 0 147 (dk_at dksX2_walk_0 2 rfl rfl)
theorem dX2_walk_5 : decode cX2_walk 5 = .ok (.ifCond .ne 39, 3) := dk_154 0 39 (dk_at dksX2_walk_0 5 rfl rfl)
theorem dX2_walk_8 : decode cX2_walk 8 = .ok (.aload_n 0, 1) := dk_42 (dk_at dksX2_walk_0 8 rfl rfl)
theorem dX2_walk_9 : decode cX2_walk 9 = .ok (.iload_n 2, 1) := dk_28 (dk_at dksX2_walk_0 9 rfl rfl)
theorem dX2_walk_10 : decode cX2_walk 10 = .ok (.invokevirtual 147, 3) := dk_182 0 147 (dk_at dksX2_walk_0 10 rfl rfl)
theorem dX2_walk_13 : decode cX2_walk 13 = .ok (.ifCond .ne 31, 3) := dk_154 0 31 (dk_at dksX2_walk_0 13 rfl rfl)
theorem dX2_walk_16 : decode cX2_walk 16 = .ok (.aload_n 0, 1) := dk_42 (dk_at dksX2_walk_0 16 rfl rfl)
theorem dX2_walk_17 : decode cX2_walk 17 = .ok (.iload_n 1, 1) := dk_27 (dk_at dksX2_walk_0 17 rfl rfl)
theorem dX2_walk_18 : decode cX2_walk 18 = .ok (.iload_n 2, 1) := dk_28 (dk_at dksX2_walk_0 18 rfl rfl)
theorem dX2_walk_19 : decode cX2_walk 19 = .ok (.if_icmp .eq 13, 3) := dk_159 0 13 (dk_at dksX2_walk_0 19 rfl rfl)
theorem dX2_walk_22 : decode cX2_walk 22 = .ok (.iload_n 3, 1) := dk_29 (dk_at dksX2_walk_0 22 rfl rfl)
theorem dX2_walk_23 : decode cX2_walk 23 = .ok (.iconst 0, 1) := dk_3 (dk_at dksX2_walk_0 23 rfl rfl)
theorem dX2_walk_24 : decode cX2_walk 24 = .ok (.bipush 60, 2) := dk_16 60 (dk_at dksX2_walk_1 0 rfl rfl)
theorem dX2_walk_26 : decode cX2_walk 26 = .ok (.invokestatic 126, 3) := dk_184 0 126 (dk_at dksX2_walk_1 2 rfl rfl)
theorem dX2_walk_29 : decode cX2_walk 29 = .ok (.ifCond .ne 7, 3) := dk_154 0 7 (dk_at dksX2_walk_1 5 rfl rfl)
theorem dX2_walk_32 : decode cX2_walk 32 = .ok (.iconst 1, 1) := dk_4 (dk_at dksX2_walk_1 8 rfl rfl)
theorem dX2_walk_33 : decode cX2_walk 33 = .ok (.goto 4, 3) := dk_167 0 4 (dk_at dksX2_walk_1 9 rfl rfl)
theorem dX2_walk_36 : decode cX2_walk 36 = .ok (.iconst 0, 1) := dk_3 (dk_at dksX2_walk_1 12 rfl rfl)
theorem dX2_walk_37 : decode cX2_walk 37 = .ok (.iconst 2, 1) := dk_5 (dk_at dksX2_walk_1 13 rfl rfl)
theorem dX2_walk_38 : decode cX2_walk 38 = .ok (.invokevirtual 130, 3) := dk_182 0 130 (dk_at dksX2_walk_1 14 rfl rfl)
theorem dX2_walk_41 : decode cX2_walk 41 = .ok (.ifCond .eq 5, 3) := dk_153 0 5 (dk_at dksX2_walk_1 17 rfl rfl)
theorem dX2_walk_44 : decode cX2_walk 44 = .ok (.iconst 0, 1) := dk_3 (dk_at dksX2_walk_1 20 rfl rfl)
theorem dX2_walk_45 : decode cX2_walk 45 = .ok (.ireturn, 1) := dk_172 (dk_at dksX2_walk_1 21 rfl rfl)
theorem dX2_walk_46 : decode cX2_walk 46 = .ok (.aload_n 0, 1) := dk_42 (dk_at dksX2_walk_1 22 rfl rfl)
theorem dX2_walk_47 : decode cX2_walk 47 = .ok (.getfield 13, 3) := dk_180 0 13 (dk_at dksX2_walk_2 0 rfl rfl)
theorem dX2_walk_50 : decode cX2_walk 50 = .ok (.bipush 12, 2) := dk_16 12 (dk_at dksX2_walk_2 3 rfl rfl)
theorem dX2_walk_52 : decode cX2_walk 52 = .ok (.iload_n 1, 1) := dk_27 (dk_at dksX2_walk_2 5 rfl rfl)
theorem dX2_walk_53 : decode cX2_walk 53 = .ok (.imul, 1) := dk_104 (dk_at dksX2_walk_2 6 rfl rfl)
theorem dX2_walk_54 : decode cX2_walk 54 = .ok (.iload_n 2, 1) := dk_28 (dk_at dksX2_walk_2 7 rfl rfl)
theorem dX2_walk_55 : decode cX2_walk 55 = .ok (.iadd, 1) := dk_96 (dk_at dksX2_walk_2 8 rfl rfl)
theorem dX2_walk_56 : decode cX2_walk 56 = .ok (.iaload, 1) := dk_46 (dk_at dksX2_walk_2 9 rfl rfl)
theorem dX2_walk_57 : decode cX2_walk 57 = .ok (.istore 4, 2) := dk_54 4 (dk_at dksX2_walk_2 10 rfl rfl)
theorem dX2_walk_59 : decode cX2_walk 59 = .ok (.aload_n 0, 1) := dk_42 (dk_at dksX2_walk_2 12 rfl rfl)
theorem dX2_walk_60 : decode cX2_walk 60 = .ok (.getfield 13, 3) := dk_180 0 13 (dk_at dksX2_walk_2 13 rfl rfl)
theorem dX2_walk_63 : decode cX2_walk 63 = .ok (.bipush 12, 2) := dk_16 12 (dk_at dksX2_walk_2 16 rfl rfl)
theorem dX2_walk_65 : decode cX2_walk 65 = .ok (.iload_n 1, 1) := dk_27 (dk_at dksX2_walk_2 18 rfl rfl)
theorem dX2_walk_66 : decode cX2_walk 66 = .ok (.imul, 1) := dk_104 (dk_at dksX2_walk_2 19 rfl rfl)
theorem dX2_walk_67 : decode cX2_walk 67 = .ok (.iload_n 2, 1) := dk_28 (dk_at dksX2_walk_2 20 rfl rfl)
theorem dX2_walk_68 : decode cX2_walk 68 = .ok (.iadd, 1) := dk_96 (dk_at dksX2_walk_2 21 rfl rfl)
theorem dX2_walk_69 : decode cX2_walk 69 = .ok (.iload_n 3, 1) := dk_29 (dk_at dksX2_walk_2 22 rfl rfl)
theorem dX2_walk_70 : decode cX2_walk 70 = .ok (.iastore, 1) := dk_79 (dk_at dksX2_walk_2 23 rfl rfl)
theorem dX2_walk_71 : decode cX2_walk 71 = .ok (.aload_n 0, 1) := dk_42 (dk_at dksX2_walk_3 0 rfl rfl)
theorem dX2_walk_72 : decode cX2_walk 72 = .ok (.getfield 13, 3) := dk_180 0 13 (dk_at dksX2_walk_3 1 rfl rfl)
theorem dX2_walk_75 : decode cX2_walk 75 = .ok (.bipush 12, 2) := dk_16 12 (dk_at dksX2_walk_3 4 rfl rfl)
theorem dX2_walk_77 : decode cX2_walk 77 = .ok (.iload_n 2, 1) := dk_28 (dk_at dksX2_walk_3 6 rfl rfl)
theorem dX2_walk_78 : decode cX2_walk 78 = .ok (.imul, 1) := dk_104 (dk_at dksX2_walk_3 7 rfl rfl)
theorem dX2_walk_79 : decode cX2_walk 79 = .ok (.iload_n 1, 1) := dk_27 (dk_at dksX2_walk_3 8 rfl rfl)
theorem dX2_walk_80 : decode cX2_walk 80 = .ok (.iadd, 1) := dk_96 (dk_at dksX2_walk_3 9 rfl rfl)
theorem dX2_walk_81 : decode cX2_walk 81 = .ok (.iload_n 3, 1) := dk_29 (dk_at dksX2_walk_3 10 rfl rfl)
theorem dX2_walk_82 : decode cX2_walk 82 = .ok (.iastore, 1) := dk_79 (dk_at dksX2_walk_3 11 rfl rfl)
theorem dX2_walk_83 : decode cX2_walk 83 = .ok (.aload_n 0, 1) := dk_42 (dk_at dksX2_walk_3 12 rfl rfl)
theorem dX2_walk_84 : decode cX2_walk 84 = .ok (.invokevirtual 144, 3) := dk_182 0 144 (dk_at dksX2_walk_3 13 rfl rfl)
theorem dX2_walk_87 : decode cX2_walk 87 = .ok (.iload 4, 2) := dk_21 4 (dk_at dksX2_walk_3 16 rfl rfl)
theorem dX2_walk_89 : decode cX2_walk 89 = .ok (.ireturn, 1) := dk_172 (dk_at dksX2_walk_3 18 rfl rfl)
abbrev cX2_walkTime : ByteArray := prog_15_method_14_code
def yX2_walkTime : MethodName := ⟨RX2, "walkTime", "(II)I"⟩
def dkwX2_walkTime_2 : List UInt8 := [180, 0, 16, 16, 12, 27, 104, 28, 96, 46, 172]
abbrev dktX2_walkTime_2 : List UInt8 := dkwX2_walkTime_2 ++ []
def dkwX2_walkTime_1 : List UInt8 := [104, 28, 96, 46, 18, 150, 161, 0, 7, 4, 167, 0, 4, 3, 5, 182, 0, 130, 153, 0, 5, 3, 172, 42]
abbrev dktX2_walkTime_1 : List UInt8 := dkwX2_walkTime_1 ++ dktX2_walkTime_2
def dkwX2_walkTime_0 : List UInt8 := [42, 27, 182, 0, 147, 154, 0, 40, 42, 28, 182, 0, 147, 154, 0, 32, 42, 42, 180, 0, 16, 16, 12, 27]
abbrev dktX2_walkTime_0 : List UInt8 := dkwX2_walkTime_0 ++ dktX2_walkTime_1
theorem dksX2_walkTime_0 : cX2_walkTime.data.toList.drop 0 = dktX2_walkTime_0 := by decide +kernel
theorem dksX2_walkTime_1 : cX2_walkTime.data.toList.drop 24 = dktX2_walkTime_1 := dk_seg dksX2_walkTime_0 24 rfl rfl
theorem dksX2_walkTime_2 : cX2_walkTime.data.toList.drop 48 = dktX2_walkTime_2 := dk_seg dksX2_walkTime_1 24 rfl rfl
theorem dX2_walkTime_0 : decode cX2_walkTime 0 = .ok (.aload_n 0, 1) := dk_42 (dk_at dksX2_walkTime_0 0 rfl rfl)
theorem dX2_walkTime_1 : decode cX2_walkTime 1 = .ok (.iload_n 1, 1) := dk_27 (dk_at dksX2_walkTime_0 1 rfl rfl)
theorem dX2_walkTime_2 : decode cX2_walkTime 2 = .ok (.invokevirtual 147, 3) := dk_182 0 147 (dk_at dksX2_walkTime_0 2 rfl rfl)
theorem dX2_walkTime_5 : decode cX2_walkTime 5 = .ok (.ifCond .ne 40, 3) := dk_154 0 40 (dk_at dksX2_walkTime_0 5 rfl rfl)
theorem dX2_walkTime_8 : decode cX2_walkTime 8 = .ok (.aload_n 0, 1) := dk_42 (dk_at dksX2_walkTime_0 8 rfl rfl)
theorem dX2_walkTime_9 : decode cX2_walkTime 9 = .ok (.iload_n 2, 1) := dk_28 (dk_at dksX2_walkTime_0 9 rfl rfl)
theorem dX2_walkTime_10 : decode cX2_walkTime 10 = .ok (.invokevirtual 147, 3) := dk_182 0 147 (dk_at dksX2_walkTime_0 10 rfl rfl)
theorem dX2_walkTime_13 : decode cX2_walkTime 13 = .ok (.ifCond .ne 32, 3) := dk_154 0 32 (dk_at dksX2_walkTime_0 13 rfl rfl)
theorem dX2_walkTime_16 : decode cX2_walkTime 16 = .ok (.aload_n 0, 1) := dk_42 (dk_at dksX2_walkTime_0 16 rfl rfl)
theorem dX2_walkTime_17 : decode cX2_walkTime 17 = .ok (.aload_n 0, 1) := dk_42 (dk_at dksX2_walkTime_0 17 rfl rfl)
theorem dX2_walkTime_18 : decode cX2_walkTime 18 = .ok (.getfield 16, 3) := dk_180 0 16 (dk_at dksX2_walkTime_0 18 rfl rfl)
theorem dX2_walkTime_21 : decode cX2_walkTime 21 = .ok (.bipush 12, 2) := dk_16 12 (dk_at dksX2_walkTime_0 21 rfl rfl)
theorem dX2_walkTime_23 : decode cX2_walkTime 23 = .ok (.iload_n 1, 1) := dk_27 (dk_at dksX2_walkTime_0 23 rfl rfl)
theorem dX2_walkTime_24 : decode cX2_walkTime 24 = .ok (.imul, 1) := dk_104 (dk_at dksX2_walkTime_1 0 rfl rfl)
theorem dX2_walkTime_25 : decode cX2_walkTime 25 = .ok (.iload_n 2, 1) := dk_28 (dk_at dksX2_walkTime_1 1 rfl rfl)
theorem dX2_walkTime_26 : decode cX2_walkTime 26 = .ok (.iadd, 1) := dk_96 (dk_at dksX2_walkTime_1 2 rfl rfl)
theorem dX2_walkTime_27 : decode cX2_walkTime 27 = .ok (.iaload, 1) := dk_46 (dk_at dksX2_walkTime_1 3 rfl rfl)
theorem dX2_walkTime_28 : decode cX2_walkTime 28 = .ok (.ldc 150, 2) := dk_18 150 (dk_at dksX2_walkTime_1 4 rfl rfl)
theorem dX2_walkTime_30 : decode cX2_walkTime 30 = .ok (.if_icmp .lt 7, 3) := dk_161 0 7 (dk_at dksX2_walkTime_1 6 rfl rfl)
theorem dX2_walkTime_33 : decode cX2_walkTime 33 = .ok (.iconst 1, 1) := dk_4 (dk_at dksX2_walkTime_1 9 rfl rfl)
theorem dX2_walkTime_34 : decode cX2_walkTime 34 = .ok (.goto 4, 3) := dk_167 0 4 (dk_at dksX2_walkTime_1 10 rfl rfl)
theorem dX2_walkTime_37 : decode cX2_walkTime 37 = .ok (.iconst 0, 1) := dk_3 (dk_at dksX2_walkTime_1 13 rfl rfl)
theorem dX2_walkTime_38 : decode cX2_walkTime 38 = .ok (.iconst 2, 1) := dk_5 (dk_at dksX2_walkTime_1 14 rfl rfl)
theorem dX2_walkTime_39 : decode cX2_walkTime 39 = .ok (.invokevirtual 130, 3) := dk_182 0 130 (dk_at dksX2_walkTime_1 15 rfl rfl)
theorem dX2_walkTime_42 : decode cX2_walkTime 42 = .ok (.ifCond .eq 5, 3) := dk_153 0 5 (dk_at dksX2_walkTime_1 18 rfl rfl)
theorem dX2_walkTime_45 : decode cX2_walkTime 45 = .ok (.iconst 0, 1) := dk_3 (dk_at dksX2_walkTime_1 21 rfl rfl)
theorem dX2_walkTime_46 : decode cX2_walkTime 46 = .ok (.ireturn, 1) := dk_172 (dk_at dksX2_walkTime_1 22 rfl rfl)
theorem dX2_walkTime_47 : decode cX2_walkTime 47 = .ok (.aload_n 0, 1) := dk_42 (dk_at dksX2_walkTime_1 23 rfl rfl)
theorem dX2_walkTime_48 : decode cX2_walkTime 48 = .ok (.getfield 16, 3) := dk_180 0 16 (dk_at dksX2_walkTime_2 0 rfl rfl)
theorem dX2_walkTime_51 : decode cX2_walkTime 51 = .ok (.bipush 12, 2) := dk_16 12 (dk_at dksX2_walkTime_2 3 rfl rfl)
theorem dX2_walkTime_53 : decode cX2_walkTime 53 = .ok (.iload_n 1, 1) := dk_27 (dk_at dksX2_walkTime_2 5 rfl rfl)
theorem dX2_walkTime_54 : decode cX2_walkTime 54 = .ok (.imul, 1) := dk_104 (dk_at dksX2_walkTime_2 6 rfl rfl)
theorem dX2_walkTime_55 : decode cX2_walkTime 55 = .ok (.iload_n 2, 1) := dk_28 (dk_at dksX2_walkTime_2 7 rfl rfl)
theorem dX2_walkTime_56 : decode cX2_walkTime 56 = .ok (.iadd, 1) := dk_96 (dk_at dksX2_walkTime_2 8 rfl rfl)
theorem dX2_walkTime_57 : decode cX2_walkTime 57 = .ok (.iaload, 1) := dk_46 (dk_at dksX2_walkTime_2 9 rfl rfl)
theorem dX2_walkTime_58 : decode cX2_walkTime 58 = .ok (.ireturn, 1) := dk_172 (dk_at dksX2_walkTime_2 10 rfl rfl)
abbrev cX2_service : ByteArray := prog_15_method_15_code
def yX2_service : MethodName := ⟨RX2, "service", "()I"⟩
def dkwX2_service_1 : List UInt8 := [42, 89, 180, 0, 134, 4, 96, 181, 0, 134, 42, 180, 0, 134, 4, 100, 172]
abbrev dktX2_service_1 : List UInt8 := dkwX2_service_1 ++ []
def dkwX2_service_0 : List UInt8 := [42, 42, 180, 0, 134, 16, 6, 160, 0, 7, 4, 167, 0, 4, 3, 4, 182, 0, 130, 153, 0, 5, 3, 172]
abbrev dktX2_service_0 : List UInt8 := dkwX2_service_0 ++ dktX2_service_1
theorem dksX2_service_0 : cX2_service.data.toList.drop 0 = dktX2_service_0 := by decide +kernel
theorem dksX2_service_1 : cX2_service.data.toList.drop 24 = dktX2_service_1 := dk_seg dksX2_service_0 24 rfl rfl
theorem dX2_service_0 : decode cX2_service 0 = .ok (.aload_n 0, 1) := dk_42 (dk_at dksX2_service_0 0 rfl rfl)
theorem dX2_service_1 : decode cX2_service 1 = .ok (.aload_n 0, 1) := dk_42 (dk_at dksX2_service_0 1 rfl rfl)
theorem dX2_service_2 : decode cX2_service 2 = .ok (.getfield 134, 3) := dk_180 0 134 (dk_at dksX2_service_0 2 rfl rfl)
theorem dX2_service_5 : decode cX2_service 5 = .ok (.bipush 6, 2) := dk_16 6 (dk_at dksX2_service_0 5 rfl rfl)
theorem dX2_service_7 : decode cX2_service 7 = .ok (.if_icmp .ne 7, 3) := dk_160 0 7 (dk_at dksX2_service_0 7 rfl rfl)
theorem dX2_service_10 : decode cX2_service 10 = .ok (.iconst 1, 1) := dk_4 (dk_at dksX2_service_0 10 rfl rfl)
theorem dX2_service_11 : decode cX2_service 11 = .ok (.goto 4, 3) := dk_167 0 4 (dk_at dksX2_service_0 11 rfl rfl)
theorem dX2_service_14 : decode cX2_service 14 = .ok (.iconst 0, 1) := dk_3 (dk_at dksX2_service_0 14 rfl rfl)
theorem dX2_service_15 : decode cX2_service 15 = .ok (.iconst 1, 1) := dk_4 (dk_at dksX2_service_0 15 rfl rfl)
theorem dX2_service_16 : decode cX2_service 16 = .ok (.invokevirtual 130, 3) := dk_182 0 130 (dk_at dksX2_service_0 16 rfl rfl)
theorem dX2_service_19 : decode cX2_service 19 = .ok (.ifCond .eq 5, 3) := dk_153 0 5 (dk_at dksX2_service_0 19 rfl rfl)
theorem dX2_service_22 : decode cX2_service 22 = .ok (.iconst 0, 1) := dk_3 (dk_at dksX2_service_0 22 rfl rfl)
theorem dX2_service_23 : decode cX2_service 23 = .ok (.ireturn, 1) := dk_172 (dk_at dksX2_service_0 23 rfl rfl)
theorem dX2_service_24 : decode cX2_service 24 = .ok (.aload_n 0, 1) := dk_42 (dk_at dksX2_service_1 0 rfl rfl)
theorem dX2_service_25 : decode cX2_service 25 = .ok (.dup, 1) := dk_89 (dk_at dksX2_service_1 1 rfl rfl)
theorem dX2_service_26 : decode cX2_service 26 = .ok (.getfield 134, 3) := dk_180 0 134 (dk_at dksX2_service_1 2 rfl rfl)
theorem dX2_service_29 : decode cX2_service 29 = .ok (.iconst 1, 1) := dk_4 (dk_at dksX2_service_1 5 rfl rfl)
theorem dX2_service_30 : decode cX2_service 30 = .ok (.iadd, 1) := dk_96 (dk_at dksX2_service_1 6 rfl rfl)
theorem dX2_service_31 : decode cX2_service 31 = .ok (.putfield 134, 3) := dk_181 0 134 (dk_at dksX2_service_1 7 rfl rfl)
theorem dX2_service_34 : decode cX2_service 34 = .ok (.aload_n 0, 1) := dk_42 (dk_at dksX2_service_1 10 rfl rfl)
theorem dX2_service_35 : decode cX2_service 35 = .ok (.getfield 134, 3) := dk_180 0 134 (dk_at dksX2_service_1 11 rfl rfl)
theorem dX2_service_38 : decode cX2_service 38 = .ok (.iconst 1, 1) := dk_4 (dk_at dksX2_service_1 14 rfl rfl)
theorem dX2_service_39 : decode cX2_service 39 = .ok (.isub, 1) := dk_100 (dk_at dksX2_service_1 15 rfl rfl)
theorem dX2_service_40 : decode cX2_service 40 = .ok (.ireturn, 1) := dk_172 (dk_at dksX2_service_1 16 rfl rfl)
abbrev cX2_week : ByteArray := prog_15_method_16_code
def yX2_week : MethodName := ⟨RX2, "week", "(IIII)I"⟩
def dkwX2_week_6 : List UInt8 := [132, 6, 1, 167, 255, 221, 21, 5, 172]
abbrev dktX2_week_6 : List UInt8 := dkwX2_week_6 ++ []
def dkwX2_week_5 : List UInt8 := [180, 0, 23, 16, 28, 27, 104, 21, 6, 96, 51, 153, 0, 7, 4, 167, 0, 4, 3, 96, 54, 5]
abbrev dktX2_week_5 : List UInt8 := dkwX2_week_5 ++ dktX2_week_6
def dkwX2_week_4 : List UInt8 := [84, 132, 5, 1, 167, 255, 220, 3, 54, 5, 3, 54, 6, 21, 6, 16, 28, 162, 0, 34, 21, 5, 42]
abbrev dktX2_week_4 : List UInt8 := dkwX2_week_4 ++ dktX2_week_5
def dkwX2_week_3 : List UInt8 := [21, 5, 16, 7, 112, 122, 4, 126, 4, 160, 0, 16, 42, 180, 0, 23, 16, 28, 27, 104, 21, 5, 96, 4]
abbrev dktX2_week_3 : List UInt8 := dkwX2_week_3 ++ dktX2_week_4
def dkwX2_week_2 : List UInt8 := [167, 0, 4, 3, 5, 182, 0, 130, 153, 0, 5, 3, 172, 29, 54, 5, 21, 5, 21, 4, 163, 0, 35, 28]
abbrev dktX2_week_2 : List UInt8 := dkwX2_week_2 ++ dktX2_week_3
def dkwX2_week_1 : List UInt8 := [184, 0, 126, 153, 0, 20, 21, 4, 3, 16, 27, 184, 0, 126, 153, 0, 9, 21, 4, 29, 162, 0, 7, 4]
abbrev dktX2_week_1 : List UInt8 := dkwX2_week_1 ++ dktX2_week_2
def dkwX2_week_0 : List UInt8 := [42, 27, 182, 0, 151, 154, 0, 53, 42, 28, 3, 16, 127, 184, 0, 126, 153, 0, 30, 29, 3, 16, 27]
abbrev dktX2_week_0 : List UInt8 := dkwX2_week_0 ++ dktX2_week_1
theorem dksX2_week_0 : cX2_week.data.toList.drop 0 = dktX2_week_0 := by decide +kernel
theorem dksX2_week_1 : cX2_week.data.toList.drop 23 = dktX2_week_1 := dk_seg dksX2_week_0 23 rfl rfl
theorem dksX2_week_2 : cX2_week.data.toList.drop 47 = dktX2_week_2 := dk_seg dksX2_week_1 24 rfl rfl
theorem dksX2_week_3 : cX2_week.data.toList.drop 71 = dktX2_week_3 := dk_seg dksX2_week_2 24 rfl rfl
theorem dksX2_week_4 : cX2_week.data.toList.drop 95 = dktX2_week_4 := dk_seg dksX2_week_3 24 rfl rfl
theorem dksX2_week_5 : cX2_week.data.toList.drop 118 = dktX2_week_5 := dk_seg dksX2_week_4 23 rfl rfl
theorem dksX2_week_6 : cX2_week.data.toList.drop 140 = dktX2_week_6 := dk_seg dksX2_week_5 22 rfl rfl
theorem dX2_week_0 : decode cX2_week 0 = .ok (.aload_n 0, 1) := dk_42 (dk_at dksX2_week_0 0 rfl rfl)
theorem dX2_week_1 : decode cX2_week 1 = .ok (.iload_n 1, 1) := dk_27 (dk_at dksX2_week_0 1 rfl rfl)
theorem dX2_week_2 : decode cX2_week 2 = .ok (.invokevirtual 151, 3) := dk_182 0 151 (dk_at dksX2_week_0 2 rfl rfl)
theorem dX2_week_5 : decode cX2_week 5 = .ok (.ifCond .ne 53, 3) := dk_154 0 53 (dk_at dksX2_week_0 5 rfl rfl)
theorem dX2_week_8 : decode cX2_week 8 = .ok (.aload_n 0, 1) := dk_42 (dk_at dksX2_week_0 8 rfl rfl)
theorem dX2_week_9 : decode cX2_week 9 = .ok (.iload_n 2, 1) := dk_28 (dk_at dksX2_week_0 9 rfl rfl)
theorem dX2_week_10 : decode cX2_week 10 = .ok (.iconst 0, 1) := dk_3 (dk_at dksX2_week_0 10 rfl rfl)
theorem dX2_week_11 : decode cX2_week 11 = .ok (.bipush 127, 2) := dk_16 127 (dk_at dksX2_week_0 11 rfl rfl)
theorem dX2_week_13 : decode cX2_week 13 = .ok (.invokestatic 126, 3) := dk_184 0 126 (dk_at dksX2_week_0 13 rfl rfl)
theorem dX2_week_16 : decode cX2_week 16 = .ok (.ifCond .eq 30, 3) := dk_153 0 30 (dk_at dksX2_week_0 16 rfl rfl)
theorem dX2_week_19 : decode cX2_week 19 = .ok (.iload_n 3, 1) := dk_29 (dk_at dksX2_week_0 19 rfl rfl)
theorem dX2_week_20 : decode cX2_week 20 = .ok (.iconst 0, 1) := dk_3 (dk_at dksX2_week_0 20 rfl rfl)
theorem dX2_week_21 : decode cX2_week 21 = .ok (.bipush 27, 2) := dk_16 27 (dk_at dksX2_week_0 21 rfl rfl)
theorem dX2_week_23 : decode cX2_week 23 = .ok (.invokestatic 126, 3) := dk_184 0 126 (dk_at dksX2_week_1 0 rfl rfl)
theorem dX2_week_26 : decode cX2_week 26 = .ok (.ifCond .eq 20, 3) := dk_153 0 20 (dk_at dksX2_week_1 3 rfl rfl)
theorem dX2_week_29 : decode cX2_week 29 = .ok (.iload 4, 2) := dk_21 4 (dk_at dksX2_week_1 6 rfl rfl)
theorem dX2_week_31 : decode cX2_week 31 = .ok (.iconst 0, 1) := dk_3 (dk_at dksX2_week_1 8 rfl rfl)
theorem dX2_week_32 : decode cX2_week 32 = .ok (.bipush 27, 2) := dk_16 27 (dk_at dksX2_week_1 9 rfl rfl)
theorem dX2_week_34 : decode cX2_week 34 = .ok (.invokestatic 126, 3) := dk_184 0 126 (dk_at dksX2_week_1 11 rfl rfl)
theorem dX2_week_37 : decode cX2_week 37 = .ok (.ifCond .eq 9, 3) := dk_153 0 9 (dk_at dksX2_week_1 14 rfl rfl)
theorem dX2_week_40 : decode cX2_week 40 = .ok (.iload 4, 2) := dk_21 4 (dk_at dksX2_week_1 17 rfl rfl)
theorem dX2_week_42 : decode cX2_week 42 = .ok (.iload_n 3, 1) := dk_29 (dk_at dksX2_week_1 19 rfl rfl)
theorem dX2_week_43 : decode cX2_week 43 = .ok (.if_icmp .ge 7, 3) := dk_162 0 7 (dk_at dksX2_week_1 20 rfl rfl)
theorem dX2_week_46 : decode cX2_week 46 = .ok (.iconst 1, 1) := dk_4 (dk_at dksX2_week_1 23 rfl rfl)
theorem dX2_week_47 : decode cX2_week 47 = .ok (.goto 4, 3) := dk_167 0 4 (dk_at dksX2_week_2 0 rfl rfl)
theorem dX2_week_50 : decode cX2_week 50 = .ok (.iconst 0, 1) := dk_3 (dk_at dksX2_week_2 3 rfl rfl)
theorem dX2_week_51 : decode cX2_week 51 = .ok (.iconst 2, 1) := dk_5 (dk_at dksX2_week_2 4 rfl rfl)
theorem dX2_week_52 : decode cX2_week 52 = .ok (.invokevirtual 130, 3) := dk_182 0 130 (dk_at dksX2_week_2 5 rfl rfl)
theorem dX2_week_55 : decode cX2_week 55 = .ok (.ifCond .eq 5, 3) := dk_153 0 5 (dk_at dksX2_week_2 8 rfl rfl)
theorem dX2_week_58 : decode cX2_week 58 = .ok (.iconst 0, 1) := dk_3 (dk_at dksX2_week_2 11 rfl rfl)
theorem dX2_week_59 : decode cX2_week 59 = .ok (.ireturn, 1) := dk_172 (dk_at dksX2_week_2 12 rfl rfl)
theorem dX2_week_60 : decode cX2_week 60 = .ok (.iload_n 3, 1) := dk_29 (dk_at dksX2_week_2 13 rfl rfl)
theorem dX2_week_61 : decode cX2_week 61 = .ok (.istore 5, 2) := dk_54 5 (dk_at dksX2_week_2 14 rfl rfl)
theorem dX2_week_63 : decode cX2_week 63 = .ok (.iload 5, 2) := dk_21 5 (dk_at dksX2_week_2 16 rfl rfl)
theorem dX2_week_65 : decode cX2_week 65 = .ok (.iload 4, 2) := dk_21 4 (dk_at dksX2_week_2 18 rfl rfl)
theorem dX2_week_67 : decode cX2_week 67 = .ok (.if_icmp .gt 35, 3) := dk_163 0 35 (dk_at dksX2_week_2 20 rfl rfl)
theorem dX2_week_70 : decode cX2_week 70 = .ok (.iload_n 2, 1) := dk_28 (dk_at dksX2_week_2 23 rfl rfl)
theorem dX2_week_71 : decode cX2_week 71 = .ok (.iload 5, 2) := dk_21 5 (dk_at dksX2_week_3 0 rfl rfl)
theorem dX2_week_73 : decode cX2_week 73 = .ok (.bipush 7, 2) := dk_16 7 (dk_at dksX2_week_3 2 rfl rfl)
theorem dX2_week_75 : decode cX2_week 75 = .ok (.irem, 1) := dk_112 (dk_at dksX2_week_3 4 rfl rfl)
theorem dX2_week_76 : decode cX2_week 76 = .ok (.ishr, 1) := dk_122 (dk_at dksX2_week_3 5 rfl rfl)
theorem dX2_week_77 : decode cX2_week 77 = .ok (.iconst 1, 1) := dk_4 (dk_at dksX2_week_3 6 rfl rfl)
theorem dX2_week_78 : decode cX2_week 78 = .ok (.iand, 1) := dk_126 (dk_at dksX2_week_3 7 rfl rfl)
theorem dX2_week_79 : decode cX2_week 79 = .ok (.iconst 1, 1) := dk_4 (dk_at dksX2_week_3 8 rfl rfl)
theorem dX2_week_80 : decode cX2_week 80 = .ok (.if_icmp .ne 16, 3) := dk_160 0 16 (dk_at dksX2_week_3 9 rfl rfl)
theorem dX2_week_83 : decode cX2_week 83 = .ok (.aload_n 0, 1) := dk_42 (dk_at dksX2_week_3 12 rfl rfl)
theorem dX2_week_84 : decode cX2_week 84 = .ok (.getfield 23, 3) := dk_180 0 23 (dk_at dksX2_week_3 13 rfl rfl)
theorem dX2_week_87 : decode cX2_week 87 = .ok (.bipush 28, 2) := dk_16 28 (dk_at dksX2_week_3 16 rfl rfl)
theorem dX2_week_89 : decode cX2_week 89 = .ok (.iload_n 1, 1) := dk_27 (dk_at dksX2_week_3 18 rfl rfl)
theorem dX2_week_90 : decode cX2_week 90 = .ok (.imul, 1) := dk_104 (dk_at dksX2_week_3 19 rfl rfl)
theorem dX2_week_91 : decode cX2_week 91 = .ok (.iload 5, 2) := dk_21 5 (dk_at dksX2_week_3 20 rfl rfl)
theorem dX2_week_93 : decode cX2_week 93 = .ok (.iadd, 1) := dk_96 (dk_at dksX2_week_3 22 rfl rfl)
theorem dX2_week_94 : decode cX2_week 94 = .ok (.iconst 1, 1) := dk_4 (dk_at dksX2_week_3 23 rfl rfl)
theorem dX2_week_95 : decode cX2_week 95 = .ok (.bastore, 1) := dk_84 (dk_at dksX2_week_4 0 rfl rfl)
theorem dX2_week_96 : decode cX2_week 96 = .ok (.iinc 5 1, 3) := dk_132 5 1 (dk_at dksX2_week_4 1 rfl rfl)
theorem dX2_week_99 : decode cX2_week 99 = .ok (.goto (-36), 3) := dk_167 255 220 (dk_at dksX2_week_4 4 rfl rfl)
theorem dX2_week_102 : decode cX2_week 102 = .ok (.iconst 0, 1) := dk_3 (dk_at dksX2_week_4 7 rfl rfl)
theorem dX2_week_103 : decode cX2_week 103 = .ok (.istore 5, 2) := dk_54 5 (dk_at dksX2_week_4 8 rfl rfl)
theorem dX2_week_105 : decode cX2_week 105 = .ok (.iconst 0, 1) := dk_3 (dk_at dksX2_week_4 10 rfl rfl)
theorem dX2_week_106 : decode cX2_week 106 = .ok (.istore 6, 2) := dk_54 6 (dk_at dksX2_week_4 11 rfl rfl)
theorem dX2_week_108 : decode cX2_week 108 = .ok (.iload 6, 2) := dk_21 6 (dk_at dksX2_week_4 13 rfl rfl)
theorem dX2_week_110 : decode cX2_week 110 = .ok (.bipush 28, 2) := dk_16 28 (dk_at dksX2_week_4 15 rfl rfl)
theorem dX2_week_112 : decode cX2_week 112 = .ok (.if_icmp .ge 34, 3) := dk_162 0 34 (dk_at dksX2_week_4 17 rfl rfl)
theorem dX2_week_115 : decode cX2_week 115 = .ok (.iload 5, 2) := dk_21 5 (dk_at dksX2_week_4 20 rfl rfl)
theorem dX2_week_117 : decode cX2_week 117 = .ok (.aload_n 0, 1) := dk_42 (dk_at dksX2_week_4 22 rfl rfl)
theorem dX2_week_118 : decode cX2_week 118 = .ok (.getfield 23, 3) := dk_180 0 23 (dk_at dksX2_week_5 0 rfl rfl)
theorem dX2_week_121 : decode cX2_week 121 = .ok (.bipush 28, 2) := dk_16 28 (dk_at dksX2_week_5 3 rfl rfl)
theorem dX2_week_123 : decode cX2_week 123 = .ok (.iload_n 1, 1) := dk_27 (dk_at dksX2_week_5 5 rfl rfl)
theorem dX2_week_124 : decode cX2_week 124 = .ok (.imul, 1) := dk_104 (dk_at dksX2_week_5 6 rfl rfl)
theorem dX2_week_125 : decode cX2_week 125 = .ok (.iload 6, 2) := dk_21 6 (dk_at dksX2_week_5 7 rfl rfl)
theorem dX2_week_127 : decode cX2_week 127 = .ok (.iadd, 1) := dk_96 (dk_at dksX2_week_5 9 rfl rfl)
theorem dX2_week_128 : decode cX2_week 128 = .ok (.baload, 1) := dk_51 (dk_at dksX2_week_5 10 rfl rfl)
theorem dX2_week_129 : decode cX2_week 129 = .ok (.ifCond .eq 7, 3) := dk_153 0 7 (dk_at dksX2_week_5 11 rfl rfl)
theorem dX2_week_132 : decode cX2_week 132 = .ok (.iconst 1, 1) := dk_4 (dk_at dksX2_week_5 14 rfl rfl)
theorem dX2_week_133 : decode cX2_week 133 = .ok (.goto 4, 3) := dk_167 0 4 (dk_at dksX2_week_5 15 rfl rfl)
theorem dX2_week_136 : decode cX2_week 136 = .ok (.iconst 0, 1) := dk_3 (dk_at dksX2_week_5 18 rfl rfl)
theorem dX2_week_137 : decode cX2_week 137 = .ok (.iadd, 1) := dk_96 (dk_at dksX2_week_5 19 rfl rfl)
theorem dX2_week_138 : decode cX2_week 138 = .ok (.istore 5, 2) := dk_54 5 (dk_at dksX2_week_5 20 rfl rfl)
theorem dX2_week_140 : decode cX2_week 140 = .ok (.iinc 6 1, 3) := dk_132 6 1 (dk_at dksX2_week_6 0 rfl rfl)
theorem dX2_week_143 : decode cX2_week 143 = .ok (.goto (-35), 3) := dk_167 255 221 (dk_at dksX2_week_6 3 rfl rfl)
theorem dX2_week_146 : decode cX2_week 146 = .ok (.iload 5, 2) := dk_21 5 (dk_at dksX2_week_6 6 rfl rfl)
theorem dX2_week_148 : decode cX2_week 148 = .ok (.ireturn, 1) := dk_172 (dk_at dksX2_week_6 8 rfl rfl)
abbrev cX2_isNoService : ByteArray := prog_15_method_7_code
def yX2_isNoService : MethodName := ⟨RX2, "isNoService", "(I)Z"⟩
def dkwX2_isNoService_1 : List UInt8 := [172]
abbrev dktX2_isNoService_1 : List UInt8 := dkwX2_isNoService_1 ++ []
def dkwX2_isNoService_0 : List UInt8 := [42, 27, 3, 42, 180, 0, 134, 4, 100, 184, 0, 126, 154, 0, 7, 4, 167, 0, 4, 3, 4, 182, 0, 130]
abbrev dktX2_isNoService_0 : List UInt8 := dkwX2_isNoService_0 ++ dktX2_isNoService_1
theorem dksX2_isNoService_0 : cX2_isNoService.data.toList.drop 0 = dktX2_isNoService_0 := by decide +kernel
theorem dksX2_isNoService_1 : cX2_isNoService.data.toList.drop 24 = dktX2_isNoService_1 := dk_seg dksX2_isNoService_0 24 rfl rfl
theorem dX2_isNoService_0 : decode cX2_isNoService 0 = .ok (.aload_n 0, 1) := dk_42 (dk_at dksX2_isNoService_0 0 rfl rfl)
theorem dX2_isNoService_1 : decode cX2_isNoService 1 = .ok (.iload_n 1, 1) := dk_27 (dk_at dksX2_isNoService_0 1 rfl rfl)
theorem dX2_isNoService_2 : decode cX2_isNoService 2 = .ok (.iconst 0, 1) := dk_3 (dk_at dksX2_isNoService_0 2 rfl rfl)
theorem dX2_isNoService_3 : decode cX2_isNoService 3 = .ok (.aload_n 0, 1) := dk_42 (dk_at dksX2_isNoService_0 3 rfl rfl)
theorem dX2_isNoService_4 : decode cX2_isNoService 4 = .ok (.getfield 134, 3) := dk_180 0 134 (dk_at dksX2_isNoService_0 4 rfl rfl)
theorem dX2_isNoService_7 : decode cX2_isNoService 7 = .ok (.iconst 1, 1) := dk_4 (dk_at dksX2_isNoService_0 7 rfl rfl)
theorem dX2_isNoService_8 : decode cX2_isNoService 8 = .ok (.isub, 1) := dk_100 (dk_at dksX2_isNoService_0 8 rfl rfl)
theorem dX2_isNoService_9 : decode cX2_isNoService 9 = .ok (.invokestatic 126, 3) := dk_184 0 126 (dk_at dksX2_isNoService_0 9 rfl rfl)
theorem dX2_isNoService_12 : decode cX2_isNoService 12 = .ok (.ifCond .ne 7, 3) := dk_154 0 7 (dk_at dksX2_isNoService_0 12 rfl rfl)
theorem dX2_isNoService_15 : decode cX2_isNoService 15 = .ok (.iconst 1, 1) := dk_4 (dk_at dksX2_isNoService_0 15 rfl rfl)
theorem dX2_isNoService_16 : decode cX2_isNoService 16 = .ok (.goto 4, 3) := dk_167 0 4 (dk_at dksX2_isNoService_0 16 rfl rfl)
theorem dX2_isNoService_19 : decode cX2_isNoService 19 = .ok (.iconst 0, 1) := dk_3 (dk_at dksX2_isNoService_0 19 rfl rfl)
theorem dX2_isNoService_20 : decode cX2_isNoService 20 = .ok (.iconst 1, 1) := dk_4 (dk_at dksX2_isNoService_0 20 rfl rfl)
theorem dX2_isNoService_21 : decode cX2_isNoService 21 = .ok (.invokevirtual 130, 3) := dk_182 0 130 (dk_at dksX2_isNoService_0 21 rfl rfl)
theorem dX2_isNoService_24 : decode cX2_isNoService 24 = .ok (.ireturn, 1) := dk_172 (dk_at dksX2_isNoService_1 0 rfl rfl)
abbrev cX2_putDay : ByteArray := prog_15_method_17_code
def yX2_putDay : MethodName := ⟨RX2, "putDay", "(IIZ)Z"⟩
def dkwX2_putDay_1 : List UInt8 := [16, 28, 27, 104, 28, 96, 51, 54, 4, 42, 180, 0, 23, 16, 28, 27, 104, 28, 96, 29, 84, 21, 4, 172]
abbrev dktX2_putDay_1 : List UInt8 := dkwX2_putDay_1 ++ []
def dkwX2_putDay_0 : List UInt8 := [42, 27, 182, 0, 151, 154, 0, 12, 42, 28, 5, 182, 0, 154, 153, 0, 5, 3, 172, 42, 180, 0, 23]
abbrev dktX2_putDay_0 : List UInt8 := dkwX2_putDay_0 ++ dktX2_putDay_1
theorem dksX2_putDay_0 : cX2_putDay.data.toList.drop 0 = dktX2_putDay_0 := by decide +kernel
theorem dksX2_putDay_1 : cX2_putDay.data.toList.drop 23 = dktX2_putDay_1 := dk_seg dksX2_putDay_0 23 rfl rfl
theorem dX2_putDay_0 : decode cX2_putDay 0 = .ok (.aload_n 0, 1) := dk_42 (dk_at dksX2_putDay_0 0 rfl rfl)
theorem dX2_putDay_1 : decode cX2_putDay 1 = .ok (.iload_n 1, 1) := dk_27 (dk_at dksX2_putDay_0 1 rfl rfl)
theorem dX2_putDay_2 : decode cX2_putDay 2 = .ok (.invokevirtual 151, 3) := dk_182 0 151 (dk_at dksX2_putDay_0 2 rfl rfl)
theorem dX2_putDay_5 : decode cX2_putDay 5 = .ok (.ifCond .ne 12, 3) := dk_154 0 12 (dk_at dksX2_putDay_0 5 rfl rfl)
theorem dX2_putDay_8 : decode cX2_putDay 8 = .ok (.aload_n 0, 1) := dk_42 (dk_at dksX2_putDay_0 8 rfl rfl)
theorem dX2_putDay_9 : decode cX2_putDay 9 = .ok (.iload_n 2, 1) := dk_28 (dk_at dksX2_putDay_0 9 rfl rfl)
theorem dX2_putDay_10 : decode cX2_putDay 10 = .ok (.iconst 2, 1) := dk_5 (dk_at dksX2_putDay_0 10 rfl rfl)
theorem dX2_putDay_11 : decode cX2_putDay 11 = .ok (.invokevirtual 154, 3) := dk_182 0 154 (dk_at dksX2_putDay_0 11 rfl rfl)
theorem dX2_putDay_14 : decode cX2_putDay 14 = .ok (.ifCond .eq 5, 3) := dk_153 0 5 (dk_at dksX2_putDay_0 14 rfl rfl)
theorem dX2_putDay_17 : decode cX2_putDay 17 = .ok (.iconst 0, 1) := dk_3 (dk_at dksX2_putDay_0 17 rfl rfl)
theorem dX2_putDay_18 : decode cX2_putDay 18 = .ok (.ireturn, 1) := dk_172 (dk_at dksX2_putDay_0 18 rfl rfl)
theorem dX2_putDay_19 : decode cX2_putDay 19 = .ok (.aload_n 0, 1) := dk_42 (dk_at dksX2_putDay_0 19 rfl rfl)
theorem dX2_putDay_20 : decode cX2_putDay 20 = .ok (.getfield 23, 3) := dk_180 0 23 (dk_at dksX2_putDay_0 20 rfl rfl)
theorem dX2_putDay_23 : decode cX2_putDay 23 = .ok (.bipush 28, 2) := dk_16 28 (dk_at dksX2_putDay_1 0 rfl rfl)
theorem dX2_putDay_25 : decode cX2_putDay 25 = .ok (.iload_n 1, 1) := dk_27 (dk_at dksX2_putDay_1 2 rfl rfl)
theorem dX2_putDay_26 : decode cX2_putDay 26 = .ok (.imul, 1) := dk_104 (dk_at dksX2_putDay_1 3 rfl rfl)
theorem dX2_putDay_27 : decode cX2_putDay 27 = .ok (.iload_n 2, 1) := dk_28 (dk_at dksX2_putDay_1 4 rfl rfl)
theorem dX2_putDay_28 : decode cX2_putDay 28 = .ok (.iadd, 1) := dk_96 (dk_at dksX2_putDay_1 5 rfl rfl)
theorem dX2_putDay_29 : decode cX2_putDay 29 = .ok (.baload, 1) := dk_51 (dk_at dksX2_putDay_1 6 rfl rfl)
theorem dX2_putDay_30 : decode cX2_putDay 30 = .ok (.istore 4, 2) := dk_54 4 (dk_at dksX2_putDay_1 7 rfl rfl)
theorem dX2_putDay_32 : decode cX2_putDay 32 = .ok (.aload_n 0, 1) := dk_42 (dk_at dksX2_putDay_1 9 rfl rfl)
theorem dX2_putDay_33 : decode cX2_putDay 33 = .ok (.getfield 23, 3) := dk_180 0 23 (dk_at dksX2_putDay_1 10 rfl rfl)
theorem dX2_putDay_36 : decode cX2_putDay 36 = .ok (.bipush 28, 2) := dk_16 28 (dk_at dksX2_putDay_1 13 rfl rfl)
theorem dX2_putDay_38 : decode cX2_putDay 38 = .ok (.iload_n 1, 1) := dk_27 (dk_at dksX2_putDay_1 15 rfl rfl)
theorem dX2_putDay_39 : decode cX2_putDay 39 = .ok (.imul, 1) := dk_104 (dk_at dksX2_putDay_1 16 rfl rfl)
theorem dX2_putDay_40 : decode cX2_putDay 40 = .ok (.iload_n 2, 1) := dk_28 (dk_at dksX2_putDay_1 17 rfl rfl)
theorem dX2_putDay_41 : decode cX2_putDay 41 = .ok (.iadd, 1) := dk_96 (dk_at dksX2_putDay_1 18 rfl rfl)
theorem dX2_putDay_42 : decode cX2_putDay 42 = .ok (.iload_n 3, 1) := dk_29 (dk_at dksX2_putDay_1 19 rfl rfl)
theorem dX2_putDay_43 : decode cX2_putDay 43 = .ok (.bastore, 1) := dk_84 (dk_at dksX2_putDay_1 20 rfl rfl)
theorem dX2_putDay_44 : decode cX2_putDay 44 = .ok (.iload 4, 2) := dk_21 4 (dk_at dksX2_putDay_1 21 rfl rfl)
theorem dX2_putDay_46 : decode cX2_putDay 46 = .ok (.ireturn, 1) := dk_172 (dk_at dksX2_putDay_1 23 rfl rfl)
abbrev cX2_isNoDay : ByteArray := prog_15_method_6_code
def yX2_isNoDay : MethodName := ⟨RX2, "isNoDay", "(II)Z"⟩
def dkwX2_isNoDay_0 : List UInt8 := [42, 27, 3, 16, 27, 184, 0, 126, 154, 0, 7, 4, 167, 0, 4, 3, 28, 182, 0, 130, 172]
abbrev dktX2_isNoDay_0 : List UInt8 := dkwX2_isNoDay_0 ++ []
theorem dksX2_isNoDay_0 : cX2_isNoDay.data.toList.drop 0 = dktX2_isNoDay_0 := by decide +kernel
theorem dX2_isNoDay_0 : decode cX2_isNoDay 0 = .ok (.aload_n 0, 1) := dk_42 (dk_at dksX2_isNoDay_0 0 rfl rfl)
theorem dX2_isNoDay_1 : decode cX2_isNoDay 1 = .ok (.iload_n 1, 1) := dk_27 (dk_at dksX2_isNoDay_0 1 rfl rfl)
theorem dX2_isNoDay_2 : decode cX2_isNoDay 2 = .ok (.iconst 0, 1) := dk_3 (dk_at dksX2_isNoDay_0 2 rfl rfl)
theorem dX2_isNoDay_3 : decode cX2_isNoDay 3 = .ok (.bipush 27, 2) := dk_16 27 (dk_at dksX2_isNoDay_0 3 rfl rfl)
theorem dX2_isNoDay_5 : decode cX2_isNoDay 5 = .ok (.invokestatic 126, 3) := dk_184 0 126 (dk_at dksX2_isNoDay_0 5 rfl rfl)
theorem dX2_isNoDay_8 : decode cX2_isNoDay 8 = .ok (.ifCond .ne 7, 3) := dk_154 0 7 (dk_at dksX2_isNoDay_0 8 rfl rfl)
theorem dX2_isNoDay_11 : decode cX2_isNoDay 11 = .ok (.iconst 1, 1) := dk_4 (dk_at dksX2_isNoDay_0 11 rfl rfl)
theorem dX2_isNoDay_12 : decode cX2_isNoDay 12 = .ok (.goto 4, 3) := dk_167 0 4 (dk_at dksX2_isNoDay_0 12 rfl rfl)
theorem dX2_isNoDay_15 : decode cX2_isNoDay 15 = .ok (.iconst 0, 1) := dk_3 (dk_at dksX2_isNoDay_0 15 rfl rfl)
theorem dX2_isNoDay_16 : decode cX2_isNoDay 16 = .ok (.iload_n 2, 1) := dk_28 (dk_at dksX2_isNoDay_0 16 rfl rfl)
theorem dX2_isNoDay_17 : decode cX2_isNoDay 17 = .ok (.invokevirtual 130, 3) := dk_182 0 130 (dk_at dksX2_isNoDay_0 17 rfl rfl)
theorem dX2_isNoDay_20 : decode cX2_isNoDay 20 = .ok (.ireturn, 1) := dk_172 (dk_at dksX2_isNoDay_0 20 rfl rfl)
abbrev cX2_runsOn : ByteArray := prog_15_method_18_code
def yX2_runsOn : MethodName := ⟨RX2, "runsOn", "(II)Z"⟩
def dkwX2_runsOn_1 : List UInt8 := [104, 28, 96, 51, 153, 0, 7, 4, 167, 0, 4, 3, 172]
abbrev dktX2_runsOn_1 : List UInt8 := dkwX2_runsOn_1 ++ []
def dkwX2_runsOn_0 : List UInt8 := [42, 27, 182, 0, 151, 154, 0, 30, 42, 28, 5, 182, 0, 154, 154, 0, 21, 42, 180, 0, 23, 16, 28, 27]
abbrev dktX2_runsOn_0 : List UInt8 := dkwX2_runsOn_0 ++ dktX2_runsOn_1
theorem dksX2_runsOn_0 : cX2_runsOn.data.toList.drop 0 = dktX2_runsOn_0 := by decide +kernel
theorem dksX2_runsOn_1 : cX2_runsOn.data.toList.drop 24 = dktX2_runsOn_1 := dk_seg dksX2_runsOn_0 24 rfl rfl
theorem dX2_runsOn_0 : decode cX2_runsOn 0 = .ok (.aload_n 0, 1) := dk_42 (dk_at dksX2_runsOn_0 0 rfl rfl)
theorem dX2_runsOn_1 : decode cX2_runsOn 1 = .ok (.iload_n 1, 1) := dk_27 (dk_at dksX2_runsOn_0 1 rfl rfl)
theorem dX2_runsOn_2 : decode cX2_runsOn 2 = .ok (.invokevirtual 151, 3) := dk_182 0 151 (dk_at dksX2_runsOn_0 2 rfl rfl)
theorem dX2_runsOn_5 : decode cX2_runsOn 5 = .ok (.ifCond .ne 30, 3) := dk_154 0 30 (dk_at dksX2_runsOn_0 5 rfl rfl)
theorem dX2_runsOn_8 : decode cX2_runsOn 8 = .ok (.aload_n 0, 1) := dk_42 (dk_at dksX2_runsOn_0 8 rfl rfl)
theorem dX2_runsOn_9 : decode cX2_runsOn 9 = .ok (.iload_n 2, 1) := dk_28 (dk_at dksX2_runsOn_0 9 rfl rfl)
theorem dX2_runsOn_10 : decode cX2_runsOn 10 = .ok (.iconst 2, 1) := dk_5 (dk_at dksX2_runsOn_0 10 rfl rfl)
theorem dX2_runsOn_11 : decode cX2_runsOn 11 = .ok (.invokevirtual 154, 3) := dk_182 0 154 (dk_at dksX2_runsOn_0 11 rfl rfl)
theorem dX2_runsOn_14 : decode cX2_runsOn 14 = .ok (.ifCond .ne 21, 3) := dk_154 0 21 (dk_at dksX2_runsOn_0 14 rfl rfl)
theorem dX2_runsOn_17 : decode cX2_runsOn 17 = .ok (.aload_n 0, 1) := dk_42 (dk_at dksX2_runsOn_0 17 rfl rfl)
theorem dX2_runsOn_18 : decode cX2_runsOn 18 = .ok (.getfield 23, 3) := dk_180 0 23 (dk_at dksX2_runsOn_0 18 rfl rfl)
theorem dX2_runsOn_21 : decode cX2_runsOn 21 = .ok (.bipush 28, 2) := dk_16 28 (dk_at dksX2_runsOn_0 21 rfl rfl)
theorem dX2_runsOn_23 : decode cX2_runsOn 23 = .ok (.iload_n 1, 1) := dk_27 (dk_at dksX2_runsOn_0 23 rfl rfl)
theorem dX2_runsOn_24 : decode cX2_runsOn 24 = .ok (.imul, 1) := dk_104 (dk_at dksX2_runsOn_1 0 rfl rfl)
theorem dX2_runsOn_25 : decode cX2_runsOn 25 = .ok (.iload_n 2, 1) := dk_28 (dk_at dksX2_runsOn_1 1 rfl rfl)
theorem dX2_runsOn_26 : decode cX2_runsOn 26 = .ok (.iadd, 1) := dk_96 (dk_at dksX2_runsOn_1 2 rfl rfl)
theorem dX2_runsOn_27 : decode cX2_runsOn 27 = .ok (.baload, 1) := dk_51 (dk_at dksX2_runsOn_1 3 rfl rfl)
theorem dX2_runsOn_28 : decode cX2_runsOn 28 = .ok (.ifCond .eq 7, 3) := dk_153 0 7 (dk_at dksX2_runsOn_1 4 rfl rfl)
theorem dX2_runsOn_31 : decode cX2_runsOn 31 = .ok (.iconst 1, 1) := dk_4 (dk_at dksX2_runsOn_1 7 rfl rfl)
theorem dX2_runsOn_32 : decode cX2_runsOn 32 = .ok (.goto 4, 3) := dk_167 0 4 (dk_at dksX2_runsOn_1 8 rfl rfl)
theorem dX2_runsOn_35 : decode cX2_runsOn 35 = .ok (.iconst 0, 1) := dk_3 (dk_at dksX2_runsOn_1 11 rfl rfl)
theorem dX2_runsOn_36 : decode cX2_runsOn 36 = .ok (.ireturn, 1) := dk_172 (dk_at dksX2_runsOn_1 12 rfl rfl)
abbrev cX2_nextDay : ByteArray := prog_15_method_19_code
def yX2_nextDay : MethodName := ⟨RX2, "nextDay", "(II)I"⟩
def dkwX2_nextDay_2 : List UInt8 := [29, 16, 28, 160, 0, 7, 4, 167, 0, 4, 3, 6, 182, 0, 130, 153, 0, 7, 3, 167, 0, 4, 29, 172]
abbrev dktX2_nextDay_2 : List UInt8 := dkwX2_nextDay_2 ++ []
def dkwX2_nextDay_1 : List UInt8 := [162, 0, 23, 42, 180, 0, 23, 16, 28, 27, 104, 29, 96, 51, 154, 0, 9, 132, 3, 1, 167, 255, 233, 42]
abbrev dktX2_nextDay_1 : List UInt8 := dkwX2_nextDay_1 ++ dktX2_nextDay_2
def dkwX2_nextDay_0 : List UInt8 := [42, 27, 182, 0, 151, 154, 0, 12, 42, 28, 5, 182, 0, 154, 153, 0, 5, 3, 172, 28, 62, 29, 16, 28]
abbrev dktX2_nextDay_0 : List UInt8 := dkwX2_nextDay_0 ++ dktX2_nextDay_1
theorem dksX2_nextDay_0 : cX2_nextDay.data.toList.drop 0 = dktX2_nextDay_0 := by decide +kernel
theorem dksX2_nextDay_1 : cX2_nextDay.data.toList.drop 24 = dktX2_nextDay_1 := dk_seg dksX2_nextDay_0 24 rfl rfl
theorem dksX2_nextDay_2 : cX2_nextDay.data.toList.drop 48 = dktX2_nextDay_2 := dk_seg dksX2_nextDay_1 24 rfl rfl
theorem dX2_nextDay_0 : decode cX2_nextDay 0 = .ok (.aload_n 0, 1) := dk_42 (dk_at dksX2_nextDay_0 0 rfl rfl)
theorem dX2_nextDay_1 : decode cX2_nextDay 1 = .ok (.iload_n 1, 1) := dk_27 (dk_at dksX2_nextDay_0 1 rfl rfl)
theorem dX2_nextDay_2 : decode cX2_nextDay 2 = .ok (.invokevirtual 151, 3) := dk_182 0 151 (dk_at dksX2_nextDay_0 2 rfl rfl)
theorem dX2_nextDay_5 : decode cX2_nextDay 5 = .ok (.ifCond .ne 12, 3) := dk_154 0 12 (dk_at dksX2_nextDay_0 5 rfl rfl)
theorem dX2_nextDay_8 : decode cX2_nextDay 8 = .ok (.aload_n 0, 1) := dk_42 (dk_at dksX2_nextDay_0 8 rfl rfl)
theorem dX2_nextDay_9 : decode cX2_nextDay 9 = .ok (.iload_n 2, 1) := dk_28 (dk_at dksX2_nextDay_0 9 rfl rfl)
theorem dX2_nextDay_10 : decode cX2_nextDay 10 = .ok (.iconst 2, 1) := dk_5 (dk_at dksX2_nextDay_0 10 rfl rfl)
theorem dX2_nextDay_11 : decode cX2_nextDay 11 = .ok (.invokevirtual 154, 3) := dk_182 0 154 (dk_at dksX2_nextDay_0 11 rfl rfl)
theorem dX2_nextDay_14 : decode cX2_nextDay 14 = .ok (.ifCond .eq 5, 3) := dk_153 0 5 (dk_at dksX2_nextDay_0 14 rfl rfl)
theorem dX2_nextDay_17 : decode cX2_nextDay 17 = .ok (.iconst 0, 1) := dk_3 (dk_at dksX2_nextDay_0 17 rfl rfl)
theorem dX2_nextDay_18 : decode cX2_nextDay 18 = .ok (.ireturn, 1) := dk_172 (dk_at dksX2_nextDay_0 18 rfl rfl)
theorem dX2_nextDay_19 : decode cX2_nextDay 19 = .ok (.iload_n 2, 1) := dk_28 (dk_at dksX2_nextDay_0 19 rfl rfl)
theorem dX2_nextDay_20 : decode cX2_nextDay 20 = .ok (.istore_n 3, 1) := dk_62 (dk_at dksX2_nextDay_0 20 rfl rfl)
theorem dX2_nextDay_21 : decode cX2_nextDay 21 = .ok (.iload_n 3, 1) := dk_29 (dk_at dksX2_nextDay_0 21 rfl rfl)
theorem dX2_nextDay_22 : decode cX2_nextDay 22 = .ok (.bipush 28, 2) := dk_16 28 (dk_at dksX2_nextDay_0 22 rfl rfl)
theorem dX2_nextDay_24 : decode cX2_nextDay 24 = .ok (.if_icmp .ge 23, 3) := dk_162 0 23 (dk_at dksX2_nextDay_1 0 rfl rfl)
theorem dX2_nextDay_27 : decode cX2_nextDay 27 = .ok (.aload_n 0, 1) := dk_42 (dk_at dksX2_nextDay_1 3 rfl rfl)
theorem dX2_nextDay_28 : decode cX2_nextDay 28 = .ok (.getfield 23, 3) := dk_180 0 23 (dk_at dksX2_nextDay_1 4 rfl rfl)
theorem dX2_nextDay_31 : decode cX2_nextDay 31 = .ok (.bipush 28, 2) := dk_16 28 (dk_at dksX2_nextDay_1 7 rfl rfl)
theorem dX2_nextDay_33 : decode cX2_nextDay 33 = .ok (.iload_n 1, 1) := dk_27 (dk_at dksX2_nextDay_1 9 rfl rfl)
theorem dX2_nextDay_34 : decode cX2_nextDay 34 = .ok (.imul, 1) := dk_104 (dk_at dksX2_nextDay_1 10 rfl rfl)
theorem dX2_nextDay_35 : decode cX2_nextDay 35 = .ok (.iload_n 3, 1) := dk_29 (dk_at dksX2_nextDay_1 11 rfl rfl)
theorem dX2_nextDay_36 : decode cX2_nextDay 36 = .ok (.iadd, 1) := dk_96 (dk_at dksX2_nextDay_1 12 rfl rfl)
theorem dX2_nextDay_37 : decode cX2_nextDay 37 = .ok (.baload, 1) := dk_51 (dk_at dksX2_nextDay_1 13 rfl rfl)
theorem dX2_nextDay_38 : decode cX2_nextDay 38 = .ok (.ifCond .ne 9, 3) := dk_154 0 9 (dk_at dksX2_nextDay_1 14 rfl rfl)
theorem dX2_nextDay_41 : decode cX2_nextDay 41 = .ok (.iinc 3 1, 3) := dk_132 3 1 (dk_at dksX2_nextDay_1 17 rfl rfl)
theorem dX2_nextDay_44 : decode cX2_nextDay 44 = .ok (.goto (-23), 3) := dk_167 255 233 (dk_at dksX2_nextDay_1 20 rfl rfl)
theorem dX2_nextDay_47 : decode cX2_nextDay 47 = .ok (.aload_n 0, 1) := dk_42 (dk_at dksX2_nextDay_1 23 rfl rfl)
theorem dX2_nextDay_48 : decode cX2_nextDay 48 = .ok (.iload_n 3, 1) := dk_29 (dk_at dksX2_nextDay_2 0 rfl rfl)
theorem dX2_nextDay_49 : decode cX2_nextDay 49 = .ok (.bipush 28, 2) := dk_16 28 (dk_at dksX2_nextDay_2 1 rfl rfl)
theorem dX2_nextDay_51 : decode cX2_nextDay 51 = .ok (.if_icmp .ne 7, 3) := dk_160 0 7 (dk_at dksX2_nextDay_2 3 rfl rfl)
theorem dX2_nextDay_54 : decode cX2_nextDay 54 = .ok (.iconst 1, 1) := dk_4 (dk_at dksX2_nextDay_2 6 rfl rfl)
theorem dX2_nextDay_55 : decode cX2_nextDay 55 = .ok (.goto 4, 3) := dk_167 0 4 (dk_at dksX2_nextDay_2 7 rfl rfl)
theorem dX2_nextDay_58 : decode cX2_nextDay 58 = .ok (.iconst 0, 1) := dk_3 (dk_at dksX2_nextDay_2 10 rfl rfl)
theorem dX2_nextDay_59 : decode cX2_nextDay 59 = .ok (.iconst 3, 1) := dk_6 (dk_at dksX2_nextDay_2 11 rfl rfl)
theorem dX2_nextDay_60 : decode cX2_nextDay 60 = .ok (.invokevirtual 130, 3) := dk_182 0 130 (dk_at dksX2_nextDay_2 12 rfl rfl)
theorem dX2_nextDay_63 : decode cX2_nextDay 63 = .ok (.ifCond .eq 7, 3) := dk_153 0 7 (dk_at dksX2_nextDay_2 15 rfl rfl)
theorem dX2_nextDay_66 : decode cX2_nextDay 66 = .ok (.iconst 0, 1) := dk_3 (dk_at dksX2_nextDay_2 18 rfl rfl)
theorem dX2_nextDay_67 : decode cX2_nextDay 67 = .ok (.goto 4, 3) := dk_167 0 4 (dk_at dksX2_nextDay_2 19 rfl rfl)
theorem dX2_nextDay_70 : decode cX2_nextDay 70 = .ok (.iload_n 3, 1) := dk_29 (dk_at dksX2_nextDay_2 22 rfl rfl)
theorem dX2_nextDay_71 : decode cX2_nextDay 71 = .ok (.ireturn, 1) := dk_172 (dk_at dksX2_nextDay_2 23 rfl rfl)
abbrev cX2_trip : ByteArray := prog_15_method_20_code
def yX2_trip : MethodName := ⟨RX2, "trip", "(III)I"⟩
def dkwX2_trip_3 : List UInt8 := [182, 0, 158, 172]
abbrev dktX2_trip_3 : List UInt8 := dkwX2_trip_3 ++ []
def dkwX2_trip_2 : List UInt8 := [16, 24, 160, 0, 7, 4, 167, 0, 4, 3, 6, 182, 0, 130, 153, 0, 5, 3, 172, 42, 27, 28, 29]
abbrev dktX2_trip_2 : List UInt8 := dkwX2_trip_2 ++ dktX2_trip_3
def dkwX2_trip_1 : List UInt8 := [184, 0, 126, 154, 0, 7, 4, 167, 0, 4, 3, 5, 182, 0, 130, 154, 0, 25, 42, 42, 180, 0, 137]
abbrev dktX2_trip_1 : List UInt8 := dkwX2_trip_1 ++ dktX2_trip_2
def dkwX2_trip_0 : List UInt8 := [42, 27, 182, 0, 151, 154, 0, 57, 42, 28, 182, 0, 147, 154, 0, 49, 42, 29, 3, 17, 11, 63]
abbrev dktX2_trip_0 : List UInt8 := dkwX2_trip_0 ++ dktX2_trip_1
theorem dksX2_trip_0 : cX2_trip.data.toList.drop 0 = dktX2_trip_0 := by decide +kernel
theorem dksX2_trip_1 : cX2_trip.data.toList.drop 22 = dktX2_trip_1 := dk_seg dksX2_trip_0 22 rfl rfl
theorem dksX2_trip_2 : cX2_trip.data.toList.drop 45 = dktX2_trip_2 := dk_seg dksX2_trip_1 23 rfl rfl
theorem dksX2_trip_3 : cX2_trip.data.toList.drop 68 = dktX2_trip_3 := dk_seg dksX2_trip_2 23 rfl rfl
theorem dX2_trip_0 : decode cX2_trip 0 = .ok (.aload_n 0, 1) := dk_42 (dk_at dksX2_trip_0 0 rfl rfl)
theorem dX2_trip_1 : decode cX2_trip 1 = .ok (.iload_n 1, 1) := dk_27 (dk_at dksX2_trip_0 1 rfl rfl)
theorem dX2_trip_2 : decode cX2_trip 2 = .ok (.invokevirtual 151, 3) := dk_182 0 151 (dk_at dksX2_trip_0 2 rfl rfl)
theorem dX2_trip_5 : decode cX2_trip 5 = .ok (.ifCond .ne 57, 3) := dk_154 0 57 (dk_at dksX2_trip_0 5 rfl rfl)
theorem dX2_trip_8 : decode cX2_trip 8 = .ok (.aload_n 0, 1) := dk_42 (dk_at dksX2_trip_0 8 rfl rfl)
theorem dX2_trip_9 : decode cX2_trip 9 = .ok (.iload_n 2, 1) := dk_28 (dk_at dksX2_trip_0 9 rfl rfl)
theorem dX2_trip_10 : decode cX2_trip 10 = .ok (.invokevirtual 147, 3) := dk_182 0 147 (dk_at dksX2_trip_0 10 rfl rfl)
theorem dX2_trip_13 : decode cX2_trip 13 = .ok (.ifCond .ne 49, 3) := dk_154 0 49 (dk_at dksX2_trip_0 13 rfl rfl)
theorem dX2_trip_16 : decode cX2_trip 16 = .ok (.aload_n 0, 1) := dk_42 (dk_at dksX2_trip_0 16 rfl rfl)
theorem dX2_trip_17 : decode cX2_trip 17 = .ok (.iload_n 3, 1) := dk_29 (dk_at dksX2_trip_0 17 rfl rfl)
theorem dX2_trip_18 : decode cX2_trip 18 = .ok (.iconst 0, 1) := dk_3 (dk_at dksX2_trip_0 18 rfl rfl)
theorem dX2_trip_19 : decode cX2_trip 19 = .ok (.sipush 2879, 3) := dk_17 11 63 (dk_at dksX2_trip_0 19 rfl rfl)
theorem dX2_trip_22 : decode cX2_trip 22 = .ok (.invokestatic 126, 3) := dk_184 0 126 (dk_at dksX2_trip_1 0 rfl rfl)
theorem dX2_trip_25 : decode cX2_trip 25 = .ok (.ifCond .ne 7, 3) := dk_154 0 7 (dk_at dksX2_trip_1 3 rfl rfl)
theorem dX2_trip_28 : decode cX2_trip 28 = .ok (.iconst 1, 1) := dk_4 (dk_at dksX2_trip_1 6 rfl rfl)
theorem dX2_trip_29 : decode cX2_trip 29 = .ok (.goto 4, 3) := dk_167 0 4 (dk_at dksX2_trip_1 7 rfl rfl)
theorem dX2_trip_32 : decode cX2_trip 32 = .ok (.iconst 0, 1) := dk_3 (dk_at dksX2_trip_1 10 rfl rfl)
theorem dX2_trip_33 : decode cX2_trip 33 = .ok (.iconst 2, 1) := dk_5 (dk_at dksX2_trip_1 11 rfl rfl)
theorem dX2_trip_34 : decode cX2_trip 34 = .ok (.invokevirtual 130, 3) := dk_182 0 130 (dk_at dksX2_trip_1 12 rfl rfl)
theorem dX2_trip_37 : decode cX2_trip 37 = .ok (.ifCond .ne 25, 3) := dk_154 0 25 (dk_at dksX2_trip_1 15 rfl rfl)
theorem dX2_trip_40 : decode cX2_trip 40 = .ok (.aload_n 0, 1) := dk_42 (dk_at dksX2_trip_1 18 rfl rfl)
theorem dX2_trip_41 : decode cX2_trip 41 = .ok (.aload_n 0, 1) := dk_42 (dk_at dksX2_trip_1 19 rfl rfl)
theorem dX2_trip_42 : decode cX2_trip 42 = .ok (.getfield 137, 3) := dk_180 0 137 (dk_at dksX2_trip_1 20 rfl rfl)
theorem dX2_trip_45 : decode cX2_trip 45 = .ok (.bipush 24, 2) := dk_16 24 (dk_at dksX2_trip_2 0 rfl rfl)
theorem dX2_trip_47 : decode cX2_trip 47 = .ok (.if_icmp .ne 7, 3) := dk_160 0 7 (dk_at dksX2_trip_2 2 rfl rfl)
theorem dX2_trip_50 : decode cX2_trip 50 = .ok (.iconst 1, 1) := dk_4 (dk_at dksX2_trip_2 5 rfl rfl)
theorem dX2_trip_51 : decode cX2_trip 51 = .ok (.goto 4, 3) := dk_167 0 4 (dk_at dksX2_trip_2 6 rfl rfl)
theorem dX2_trip_54 : decode cX2_trip 54 = .ok (.iconst 0, 1) := dk_3 (dk_at dksX2_trip_2 9 rfl rfl)
theorem dX2_trip_55 : decode cX2_trip 55 = .ok (.iconst 3, 1) := dk_6 (dk_at dksX2_trip_2 10 rfl rfl)
theorem dX2_trip_56 : decode cX2_trip 56 = .ok (.invokevirtual 130, 3) := dk_182 0 130 (dk_at dksX2_trip_2 11 rfl rfl)
theorem dX2_trip_59 : decode cX2_trip 59 = .ok (.ifCond .eq 5, 3) := dk_153 0 5 (dk_at dksX2_trip_2 14 rfl rfl)
theorem dX2_trip_62 : decode cX2_trip 62 = .ok (.iconst 0, 1) := dk_3 (dk_at dksX2_trip_2 17 rfl rfl)
theorem dX2_trip_63 : decode cX2_trip 63 = .ok (.ireturn, 1) := dk_172 (dk_at dksX2_trip_2 18 rfl rfl)
theorem dX2_trip_64 : decode cX2_trip 64 = .ok (.aload_n 0, 1) := dk_42 (dk_at dksX2_trip_2 19 rfl rfl)
theorem dX2_trip_65 : decode cX2_trip 65 = .ok (.iload_n 1, 1) := dk_27 (dk_at dksX2_trip_2 20 rfl rfl)
theorem dX2_trip_66 : decode cX2_trip 66 = .ok (.iload_n 2, 1) := dk_28 (dk_at dksX2_trip_2 21 rfl rfl)
theorem dX2_trip_67 : decode cX2_trip 67 = .ok (.iload_n 3, 1) := dk_29 (dk_at dksX2_trip_2 22 rfl rfl)
theorem dX2_trip_68 : decode cX2_trip 68 = .ok (.invokevirtual 158, 3) := dk_182 0 158 (dk_at dksX2_trip_3 0 rfl rfl)
theorem dX2_trip_71 : decode cX2_trip 71 = .ok (.ireturn, 1) := dk_172 (dk_at dksX2_trip_3 3 rfl rfl)
abbrev cX2_added : ByteArray := prog_15_method_21_code
def yX2_added : MethodName := ⟨RX2, "added", "(III)I"⟩
def dkwX2_added_3 : List UInt8 := [180, 0, 137, 4, 100, 172]
abbrev dktX2_added_3 : List UInt8 := dkwX2_added_3 ++ []
def dkwX2_added_2 : List UInt8 := [180, 0, 39, 16, 8, 42, 180, 0, 137, 104, 29, 79, 42, 89, 180, 0, 137, 4, 96, 181, 0, 137, 42]
abbrev dktX2_added_2 : List UInt8 := dkwX2_added_2 ++ dktX2_added_3
def dkwX2_added_1 : List UInt8 := [16, 8, 42, 180, 0, 137, 104, 28, 79, 42, 180, 0, 36, 16, 8, 42, 180, 0, 137, 104, 29, 79, 42]
abbrev dktX2_added_1 : List UInt8 := dkwX2_added_1 ++ dktX2_added_2
def dkwX2_added_0 : List UInt8 := [42, 180, 0, 27, 42, 180, 0, 137, 27, 79, 42, 180, 0, 30, 42, 180, 0, 137, 4, 79, 42, 180, 0, 33]
abbrev dktX2_added_0 : List UInt8 := dkwX2_added_0 ++ dktX2_added_1
theorem dksX2_added_0 : cX2_added.data.toList.drop 0 = dktX2_added_0 := by decide +kernel
theorem dksX2_added_1 : cX2_added.data.toList.drop 24 = dktX2_added_1 := dk_seg dksX2_added_0 24 rfl rfl
theorem dksX2_added_2 : cX2_added.data.toList.drop 47 = dktX2_added_2 := dk_seg dksX2_added_1 23 rfl rfl
theorem dksX2_added_3 : cX2_added.data.toList.drop 70 = dktX2_added_3 := dk_seg dksX2_added_2 23 rfl rfl
theorem dX2_added_0 : decode cX2_added 0 = .ok (.aload_n 0, 1) := dk_42 (dk_at dksX2_added_0 0 rfl rfl)
theorem dX2_added_1 : decode cX2_added 1 = .ok (.getfield 27, 3) := dk_180 0 27 (dk_at dksX2_added_0 1 rfl rfl)
theorem dX2_added_4 : decode cX2_added 4 = .ok (.aload_n 0, 1) := dk_42 (dk_at dksX2_added_0 4 rfl rfl)
theorem dX2_added_5 : decode cX2_added 5 = .ok (.getfield 137, 3) := dk_180 0 137 (dk_at dksX2_added_0 5 rfl rfl)
theorem dX2_added_8 : decode cX2_added 8 = .ok (.iload_n 1, 1) := dk_27 (dk_at dksX2_added_0 8 rfl rfl)
theorem dX2_added_9 : decode cX2_added 9 = .ok (.iastore, 1) := dk_79 (dk_at dksX2_added_0 9 rfl rfl)
theorem dX2_added_10 : decode cX2_added 10 = .ok (.aload_n 0, 1) := dk_42 (dk_at dksX2_added_0 10 rfl rfl)
theorem dX2_added_11 : decode cX2_added 11 = .ok (.getfield 30, 3) := dk_180 0 30 (dk_at dksX2_added_0 11 rfl rfl)
theorem dX2_added_14 : decode cX2_added 14 = .ok (.aload_n 0, 1) := dk_42 (dk_at dksX2_added_0 14 rfl rfl)
theorem dX2_added_15 : decode cX2_added 15 = .ok (.getfield 137, 3) := dk_180 0 137 (dk_at dksX2_added_0 15 rfl rfl)
theorem dX2_added_18 : decode cX2_added 18 = .ok (.iconst 1, 1) := dk_4 (dk_at dksX2_added_0 18 rfl rfl)
theorem dX2_added_19 : decode cX2_added 19 = .ok (.iastore, 1) := dk_79 (dk_at dksX2_added_0 19 rfl rfl)
theorem dX2_added_20 : decode cX2_added 20 = .ok (.aload_n 0, 1) := dk_42 (dk_at dksX2_added_0 20 rfl rfl)
theorem dX2_added_21 : decode cX2_added 21 = .ok (.getfield 33, 3) := dk_180 0 33 (dk_at dksX2_added_0 21 rfl rfl)
theorem dX2_added_24 : decode cX2_added 24 = .ok (.bipush 8, 2) := dk_16 8 (dk_at dksX2_added_1 0 rfl rfl)
theorem dX2_added_26 : decode cX2_added 26 = .ok (.aload_n 0, 1) := dk_42 (dk_at dksX2_added_1 2 rfl rfl)
theorem dX2_added_27 : decode cX2_added 27 = .ok (.getfield 137, 3) := dk_180 0 137 (dk_at dksX2_added_1 3 rfl rfl)
theorem dX2_added_30 : decode cX2_added 30 = .ok (.imul, 1) := dk_104 (dk_at dksX2_added_1 6 rfl rfl)
theorem dX2_added_31 : decode cX2_added 31 = .ok (.iload_n 2, 1) := dk_28 (dk_at dksX2_added_1 7 rfl rfl)
theorem dX2_added_32 : decode cX2_added 32 = .ok (.iastore, 1) := dk_79 (dk_at dksX2_added_1 8 rfl rfl)
theorem dX2_added_33 : decode cX2_added 33 = .ok (.aload_n 0, 1) := dk_42 (dk_at dksX2_added_1 9 rfl rfl)
theorem dX2_added_34 : decode cX2_added 34 = .ok (.getfield 36, 3) := dk_180 0 36 (dk_at dksX2_added_1 10 rfl rfl)
theorem dX2_added_37 : decode cX2_added 37 = .ok (.bipush 8, 2) := dk_16 8 (dk_at dksX2_added_1 13 rfl rfl)
theorem dX2_added_39 : decode cX2_added 39 = .ok (.aload_n 0, 1) := dk_42 (dk_at dksX2_added_1 15 rfl rfl)
theorem dX2_added_40 : decode cX2_added 40 = .ok (.getfield 137, 3) := dk_180 0 137 (dk_at dksX2_added_1 16 rfl rfl)
theorem dX2_added_43 : decode cX2_added 43 = .ok (.imul, 1) := dk_104 (dk_at dksX2_added_1 19 rfl rfl)
theorem dX2_added_44 : decode cX2_added 44 = .ok (.iload_n 3, 1) := dk_29 (dk_at dksX2_added_1 20 rfl rfl)
theorem dX2_added_45 : decode cX2_added 45 = .ok (.iastore, 1) := dk_79 (dk_at dksX2_added_1 21 rfl rfl)
theorem dX2_added_46 : decode cX2_added 46 = .ok (.aload_n 0, 1) := dk_42 (dk_at dksX2_added_1 22 rfl rfl)
theorem dX2_added_47 : decode cX2_added 47 = .ok (.getfield 39, 3) := dk_180 0 39 (dk_at dksX2_added_2 0 rfl rfl)
theorem dX2_added_50 : decode cX2_added 50 = .ok (.bipush 8, 2) := dk_16 8 (dk_at dksX2_added_2 3 rfl rfl)
theorem dX2_added_52 : decode cX2_added 52 = .ok (.aload_n 0, 1) := dk_42 (dk_at dksX2_added_2 5 rfl rfl)
theorem dX2_added_53 : decode cX2_added 53 = .ok (.getfield 137, 3) := dk_180 0 137 (dk_at dksX2_added_2 6 rfl rfl)
theorem dX2_added_56 : decode cX2_added 56 = .ok (.imul, 1) := dk_104 (dk_at dksX2_added_2 9 rfl rfl)
theorem dX2_added_57 : decode cX2_added 57 = .ok (.iload_n 3, 1) := dk_29 (dk_at dksX2_added_2 10 rfl rfl)
theorem dX2_added_58 : decode cX2_added 58 = .ok (.iastore, 1) := dk_79 (dk_at dksX2_added_2 11 rfl rfl)
theorem dX2_added_59 : decode cX2_added 59 = .ok (.aload_n 0, 1) := dk_42 (dk_at dksX2_added_2 12 rfl rfl)
theorem dX2_added_60 : decode cX2_added 60 = .ok (.dup, 1) := dk_89 (dk_at dksX2_added_2 13 rfl rfl)
theorem dX2_added_61 : decode cX2_added 61 = .ok (.getfield 137, 3) := dk_180 0 137 (dk_at dksX2_added_2 14 rfl rfl)
theorem dX2_added_64 : decode cX2_added 64 = .ok (.iconst 1, 1) := dk_4 (dk_at dksX2_added_2 17 rfl rfl)
theorem dX2_added_65 : decode cX2_added 65 = .ok (.iadd, 1) := dk_96 (dk_at dksX2_added_2 18 rfl rfl)
theorem dX2_added_66 : decode cX2_added 66 = .ok (.putfield 137, 3) := dk_181 0 137 (dk_at dksX2_added_2 19 rfl rfl)
theorem dX2_added_69 : decode cX2_added 69 = .ok (.aload_n 0, 1) := dk_42 (dk_at dksX2_added_2 22 rfl rfl)
theorem dX2_added_70 : decode cX2_added 70 = .ok (.getfield 137, 3) := dk_180 0 137 (dk_at dksX2_added_3 0 rfl rfl)
theorem dX2_added_73 : decode cX2_added 73 = .ok (.iconst 1, 1) := dk_4 (dk_at dksX2_added_3 3 rfl rfl)
theorem dX2_added_74 : decode cX2_added 74 = .ok (.isub, 1) := dk_100 (dk_at dksX2_added_3 4 rfl rfl)
theorem dX2_added_75 : decode cX2_added 75 = .ok (.ireturn, 1) := dk_172 (dk_at dksX2_added_3 5 rfl rfl)
abbrev cX2_call : ByteArray := prog_15_method_22_code
def yX2_call : MethodName := ⟨RX2, "call", "(IIII)I"⟩
def dkwX2_call_7 : List UInt8 := [96, 79, 42, 180, 0, 30, 27, 46, 172]
abbrev dktX2_call_7 : List UInt8 := dkwX2_call_7 ++ []
def dkwX2_call_6 : List UInt8 := [180, 0, 36, 21, 5, 29, 79, 42, 180, 0, 39, 21, 5, 21, 4, 79, 42, 180, 0, 30, 27, 92, 46, 4]
abbrev dktX2_call_6 : List UInt8 := dkwX2_call_6 ++ dktX2_call_7
def dkwX2_call_5 : List UInt8 := [167, 0, 4, 3, 6, 182, 0, 130, 153, 0, 5, 3, 172, 42, 180, 0, 33, 21, 5, 28, 79, 42]
abbrev dktX2_call_5 : List UInt8 := dkwX2_call_5 ++ dktX2_call_6
def dkwX2_call_4 : List UInt8 := [42, 21, 6, 5, 182, 0, 130, 154, 0, 27, 42, 42, 180, 0, 30, 27, 46, 16, 8, 160, 0, 7, 4]
abbrev dktX2_call_4 : List UInt8 := dkwX2_call_4 ++ dktX2_call_5
def dkwX2_call_3 : List UInt8 := [29, 161, 0, 16, 28, 42, 180, 0, 33, 21, 5, 4, 100, 46, 160, 0, 7, 4, 167, 0, 4, 3, 54, 6]
abbrev dktX2_call_3 : List UInt8 := dkwX2_call_3 ++ dktX2_call_4
def dkwX2_call_2 : List UInt8 := [17, 11, 63, 184, 0, 126, 153, 0, 35, 29, 42, 180, 0, 39, 21, 5, 4, 100, 46, 164, 0, 22, 21, 4]
abbrev dktX2_call_2 : List UInt8 := dkwX2_call_2 ++ dktX2_call_3
def dkwX2_call_1 : List UInt8 := [180, 0, 30, 27, 46, 96, 54, 5, 29, 3, 17, 11, 63, 184, 0, 126, 153, 0, 47, 21, 4, 3]
abbrev dktX2_call_1 : List UInt8 := dkwX2_call_1 ++ dktX2_call_2
def dkwX2_call_0 : List UInt8 := [42, 27, 182, 0, 140, 154, 0, 11, 42, 28, 182, 0, 147, 153, 0, 5, 3, 172, 16, 8, 27, 104, 42]
abbrev dktX2_call_0 : List UInt8 := dkwX2_call_0 ++ dktX2_call_1
theorem dksX2_call_0 : cX2_call.data.toList.drop 0 = dktX2_call_0 := by decide +kernel
theorem dksX2_call_1 : cX2_call.data.toList.drop 23 = dktX2_call_1 := dk_seg dksX2_call_0 23 rfl rfl
theorem dksX2_call_2 : cX2_call.data.toList.drop 45 = dktX2_call_2 := dk_seg dksX2_call_1 22 rfl rfl
theorem dksX2_call_3 : cX2_call.data.toList.drop 69 = dktX2_call_3 := dk_seg dksX2_call_2 24 rfl rfl
theorem dksX2_call_4 : cX2_call.data.toList.drop 93 = dktX2_call_4 := dk_seg dksX2_call_3 24 rfl rfl
theorem dksX2_call_5 : cX2_call.data.toList.drop 116 = dktX2_call_5 := dk_seg dksX2_call_4 23 rfl rfl
theorem dksX2_call_6 : cX2_call.data.toList.drop 138 = dktX2_call_6 := dk_seg dksX2_call_5 22 rfl rfl
theorem dksX2_call_7 : cX2_call.data.toList.drop 162 = dktX2_call_7 := dk_seg dksX2_call_6 24 rfl rfl
theorem dX2_call_0 : decode cX2_call 0 = .ok (.aload_n 0, 1) := dk_42 (dk_at dksX2_call_0 0 rfl rfl)
theorem dX2_call_1 : decode cX2_call 1 = .ok (.iload_n 1, 1) := dk_27 (dk_at dksX2_call_0 1 rfl rfl)
theorem dX2_call_2 : decode cX2_call 2 = .ok (.invokevirtual 140, 3) := dk_182 0 140 (dk_at dksX2_call_0 2 rfl rfl)
theorem dX2_call_5 : decode cX2_call 5 = .ok (.ifCond .ne 11, 3) := dk_154 0 11 (dk_at dksX2_call_0 5 rfl rfl)
theorem dX2_call_8 : decode cX2_call 8 = .ok (.aload_n 0, 1) := dk_42 (dk_at dksX2_call_0 8 rfl rfl)
theorem dX2_call_9 : decode cX2_call 9 = .ok (.iload_n 2, 1) := dk_28 (dk_at dksX2_call_0 9 rfl rfl)
theorem dX2_call_10 : decode cX2_call 10 = .ok (.invokevirtual 147, 3) := dk_182 0 147 (dk_at dksX2_call_0 10 rfl rfl)
theorem dX2_call_13 : decode cX2_call 13 = .ok (.ifCond .eq 5, 3) := dk_153 0 5 (dk_at dksX2_call_0 13 rfl rfl)
theorem dX2_call_16 : decode cX2_call 16 = .ok (.iconst 0, 1) := dk_3 (dk_at dksX2_call_0 16 rfl rfl)
theorem dX2_call_17 : decode cX2_call 17 = .ok (.ireturn, 1) := dk_172 (dk_at dksX2_call_0 17 rfl rfl)
theorem dX2_call_18 : decode cX2_call 18 = .ok (.bipush 8, 2) := dk_16 8 (dk_at dksX2_call_0 18 rfl rfl)
theorem dX2_call_20 : decode cX2_call 20 = .ok (.iload_n 1, 1) := dk_27 (dk_at dksX2_call_0 20 rfl rfl)
theorem dX2_call_21 : decode cX2_call 21 = .ok (.imul, 1) := dk_104 (dk_at dksX2_call_0 21 rfl rfl)
theorem dX2_call_22 : decode cX2_call 22 = .ok (.aload_n 0, 1) := dk_42 (dk_at dksX2_call_0 22 rfl rfl)
theorem dX2_call_23 : decode cX2_call 23 = .ok (.getfield 30, 3) := dk_180 0 30 (dk_at dksX2_call_1 0 rfl rfl)
theorem dX2_call_26 : decode cX2_call 26 = .ok (.iload_n 1, 1) := dk_27 (dk_at dksX2_call_1 3 rfl rfl)
theorem dX2_call_27 : decode cX2_call 27 = .ok (.iaload, 1) := dk_46 (dk_at dksX2_call_1 4 rfl rfl)
theorem dX2_call_28 : decode cX2_call 28 = .ok (.iadd, 1) := dk_96 (dk_at dksX2_call_1 5 rfl rfl)
theorem dX2_call_29 : decode cX2_call 29 = .ok (.istore 5, 2) := dk_54 5 (dk_at dksX2_call_1 6 rfl rfl)
theorem dX2_call_31 : decode cX2_call 31 = .ok (.iload_n 3, 1) := dk_29 (dk_at dksX2_call_1 8 rfl rfl)
theorem dX2_call_32 : decode cX2_call 32 = .ok (.iconst 0, 1) := dk_3 (dk_at dksX2_call_1 9 rfl rfl)
theorem dX2_call_33 : decode cX2_call 33 = .ok (.sipush 2879, 3) := dk_17 11 63 (dk_at dksX2_call_1 10 rfl rfl)
theorem dX2_call_36 : decode cX2_call 36 = .ok (.invokestatic 126, 3) := dk_184 0 126 (dk_at dksX2_call_1 13 rfl rfl)
theorem dX2_call_39 : decode cX2_call 39 = .ok (.ifCond .eq 47, 3) := dk_153 0 47 (dk_at dksX2_call_1 16 rfl rfl)
theorem dX2_call_42 : decode cX2_call 42 = .ok (.iload 4, 2) := dk_21 4 (dk_at dksX2_call_1 19 rfl rfl)
theorem dX2_call_44 : decode cX2_call 44 = .ok (.iconst 0, 1) := dk_3 (dk_at dksX2_call_1 21 rfl rfl)
theorem dX2_call_45 : decode cX2_call 45 = .ok (.sipush 2879, 3) := dk_17 11 63 (dk_at dksX2_call_2 0 rfl rfl)
theorem dX2_call_48 : decode cX2_call 48 = .ok (.invokestatic 126, 3) := dk_184 0 126 (dk_at dksX2_call_2 3 rfl rfl)
theorem dX2_call_51 : decode cX2_call 51 = .ok (.ifCond .eq 35, 3) := dk_153 0 35 (dk_at dksX2_call_2 6 rfl rfl)
theorem dX2_call_54 : decode cX2_call 54 = .ok (.iload_n 3, 1) := dk_29 (dk_at dksX2_call_2 9 rfl rfl)
theorem dX2_call_55 : decode cX2_call 55 = .ok (.aload_n 0, 1) := dk_42 (dk_at dksX2_call_2 10 rfl rfl)
theorem dX2_call_56 : decode cX2_call 56 = .ok (.getfield 39, 3) := dk_180 0 39 (dk_at dksX2_call_2 11 rfl rfl)
theorem dX2_call_59 : decode cX2_call 59 = .ok (.iload 5, 2) := dk_21 5 (dk_at dksX2_call_2 14 rfl rfl)
theorem dX2_call_61 : decode cX2_call 61 = .ok (.iconst 1, 1) := dk_4 (dk_at dksX2_call_2 16 rfl rfl)
theorem dX2_call_62 : decode cX2_call 62 = .ok (.isub, 1) := dk_100 (dk_at dksX2_call_2 17 rfl rfl)
theorem dX2_call_63 : decode cX2_call 63 = .ok (.iaload, 1) := dk_46 (dk_at dksX2_call_2 18 rfl rfl)
theorem dX2_call_64 : decode cX2_call 64 = .ok (.if_icmp .le 22, 3) := dk_164 0 22 (dk_at dksX2_call_2 19 rfl rfl)
theorem dX2_call_67 : decode cX2_call 67 = .ok (.iload 4, 2) := dk_21 4 (dk_at dksX2_call_2 22 rfl rfl)
theorem dX2_call_69 : decode cX2_call 69 = .ok (.iload_n 3, 1) := dk_29 (dk_at dksX2_call_3 0 rfl rfl)
theorem dX2_call_70 : decode cX2_call 70 = .ok (.if_icmp .lt 16, 3) := dk_161 0 16 (dk_at dksX2_call_3 1 rfl rfl)
theorem dX2_call_73 : decode cX2_call 73 = .ok (.iload_n 2, 1) := dk_28 (dk_at dksX2_call_3 4 rfl rfl)
theorem dX2_call_74 : decode cX2_call 74 = .ok (.aload_n 0, 1) := dk_42 (dk_at dksX2_call_3 5 rfl rfl)
theorem dX2_call_75 : decode cX2_call 75 = .ok (.getfield 33, 3) := dk_180 0 33 (dk_at dksX2_call_3 6 rfl rfl)
theorem dX2_call_78 : decode cX2_call 78 = .ok (.iload 5, 2) := dk_21 5 (dk_at dksX2_call_3 9 rfl rfl)
theorem dX2_call_80 : decode cX2_call 80 = .ok (.iconst 1, 1) := dk_4 (dk_at dksX2_call_3 11 rfl rfl)
theorem dX2_call_81 : decode cX2_call 81 = .ok (.isub, 1) := dk_100 (dk_at dksX2_call_3 12 rfl rfl)
theorem dX2_call_82 : decode cX2_call 82 = .ok (.iaload, 1) := dk_46 (dk_at dksX2_call_3 13 rfl rfl)
theorem dX2_call_83 : decode cX2_call 83 = .ok (.if_icmp .ne 7, 3) := dk_160 0 7 (dk_at dksX2_call_3 14 rfl rfl)
theorem dX2_call_86 : decode cX2_call 86 = .ok (.iconst 1, 1) := dk_4 (dk_at dksX2_call_3 17 rfl rfl)
theorem dX2_call_87 : decode cX2_call 87 = .ok (.goto 4, 3) := dk_167 0 4 (dk_at dksX2_call_3 18 rfl rfl)
theorem dX2_call_90 : decode cX2_call 90 = .ok (.iconst 0, 1) := dk_3 (dk_at dksX2_call_3 21 rfl rfl)
theorem dX2_call_91 : decode cX2_call 91 = .ok (.istore 6, 2) := dk_54 6 (dk_at dksX2_call_3 22 rfl rfl)
theorem dX2_call_93 : decode cX2_call 93 = .ok (.aload_n 0, 1) := dk_42 (dk_at dksX2_call_4 0 rfl rfl)
theorem dX2_call_94 : decode cX2_call 94 = .ok (.iload 6, 2) := dk_21 6 (dk_at dksX2_call_4 1 rfl rfl)
theorem dX2_call_96 : decode cX2_call 96 = .ok (.iconst 2, 1) := dk_5 (dk_at dksX2_call_4 3 rfl rfl)
theorem dX2_call_97 : decode cX2_call 97 = .ok (.invokevirtual 130, 3) := dk_182 0 130 (dk_at dksX2_call_4 4 rfl rfl)
theorem dX2_call_100 : decode cX2_call 100 = .ok (.ifCond .ne 27, 3) := dk_154 0 27 (dk_at dksX2_call_4 7 rfl rfl)
theorem dX2_call_103 : decode cX2_call 103 = .ok (.aload_n 0, 1) := dk_42 (dk_at dksX2_call_4 10 rfl rfl)
theorem dX2_call_104 : decode cX2_call 104 = .ok (.aload_n 0, 1) := dk_42 (dk_at dksX2_call_4 11 rfl rfl)
theorem dX2_call_105 : decode cX2_call 105 = .ok (.getfield 30, 3) := dk_180 0 30 (dk_at dksX2_call_4 12 rfl rfl)
theorem dX2_call_108 : decode cX2_call 108 = .ok (.iload_n 1, 1) := dk_27 (dk_at dksX2_call_4 15 rfl rfl)
theorem dX2_call_109 : decode cX2_call 109 = .ok (.iaload, 1) := dk_46 (dk_at dksX2_call_4 16 rfl rfl)
theorem dX2_call_110 : decode cX2_call 110 = .ok (.bipush 8, 2) := dk_16 8 (dk_at dksX2_call_4 17 rfl rfl)
theorem dX2_call_112 : decode cX2_call 112 = .ok (.if_icmp .ne 7, 3) := dk_160 0 7 (dk_at dksX2_call_4 19 rfl rfl)
theorem dX2_call_115 : decode cX2_call 115 = .ok (.iconst 1, 1) := dk_4 (dk_at dksX2_call_4 22 rfl rfl)
theorem dX2_call_116 : decode cX2_call 116 = .ok (.goto 4, 3) := dk_167 0 4 (dk_at dksX2_call_5 0 rfl rfl)
theorem dX2_call_119 : decode cX2_call 119 = .ok (.iconst 0, 1) := dk_3 (dk_at dksX2_call_5 3 rfl rfl)
theorem dX2_call_120 : decode cX2_call 120 = .ok (.iconst 3, 1) := dk_6 (dk_at dksX2_call_5 4 rfl rfl)
theorem dX2_call_121 : decode cX2_call 121 = .ok (.invokevirtual 130, 3) := dk_182 0 130 (dk_at dksX2_call_5 5 rfl rfl)
theorem dX2_call_124 : decode cX2_call 124 = .ok (.ifCond .eq 5, 3) := dk_153 0 5 (dk_at dksX2_call_5 8 rfl rfl)
theorem dX2_call_127 : decode cX2_call 127 = .ok (.iconst 0, 1) := dk_3 (dk_at dksX2_call_5 11 rfl rfl)
theorem dX2_call_128 : decode cX2_call 128 = .ok (.ireturn, 1) := dk_172 (dk_at dksX2_call_5 12 rfl rfl)
theorem dX2_call_129 : decode cX2_call 129 = .ok (.aload_n 0, 1) := dk_42 (dk_at dksX2_call_5 13 rfl rfl)
theorem dX2_call_130 : decode cX2_call 130 = .ok (.getfield 33, 3) := dk_180 0 33 (dk_at dksX2_call_5 14 rfl rfl)
theorem dX2_call_133 : decode cX2_call 133 = .ok (.iload 5, 2) := dk_21 5 (dk_at dksX2_call_5 17 rfl rfl)
theorem dX2_call_135 : decode cX2_call 135 = .ok (.iload_n 2, 1) := dk_28 (dk_at dksX2_call_5 19 rfl rfl)
theorem dX2_call_136 : decode cX2_call 136 = .ok (.iastore, 1) := dk_79 (dk_at dksX2_call_5 20 rfl rfl)
theorem dX2_call_137 : decode cX2_call 137 = .ok (.aload_n 0, 1) := dk_42 (dk_at dksX2_call_5 21 rfl rfl)
theorem dX2_call_138 : decode cX2_call 138 = .ok (.getfield 36, 3) := dk_180 0 36 (dk_at dksX2_call_6 0 rfl rfl)
theorem dX2_call_141 : decode cX2_call 141 = .ok (.iload 5, 2) := dk_21 5 (dk_at dksX2_call_6 3 rfl rfl)
theorem dX2_call_143 : decode cX2_call 143 = .ok (.iload_n 3, 1) := dk_29 (dk_at dksX2_call_6 5 rfl rfl)
theorem dX2_call_144 : decode cX2_call 144 = .ok (.iastore, 1) := dk_79 (dk_at dksX2_call_6 6 rfl rfl)
theorem dX2_call_145 : decode cX2_call 145 = .ok (.aload_n 0, 1) := dk_42 (dk_at dksX2_call_6 7 rfl rfl)
theorem dX2_call_146 : decode cX2_call 146 = .ok (.getfield 39, 3) := dk_180 0 39 (dk_at dksX2_call_6 8 rfl rfl)
theorem dX2_call_149 : decode cX2_call 149 = .ok (.iload 5, 2) := dk_21 5 (dk_at dksX2_call_6 11 rfl rfl)
theorem dX2_call_151 : decode cX2_call 151 = .ok (.iload 4, 2) := dk_21 4 (dk_at dksX2_call_6 13 rfl rfl)
theorem dX2_call_153 : decode cX2_call 153 = .ok (.iastore, 1) := dk_79 (dk_at dksX2_call_6 15 rfl rfl)
theorem dX2_call_154 : decode cX2_call 154 = .ok (.aload_n 0, 1) := dk_42 (dk_at dksX2_call_6 16 rfl rfl)
theorem dX2_call_155 : decode cX2_call 155 = .ok (.getfield 30, 3) := dk_180 0 30 (dk_at dksX2_call_6 17 rfl rfl)
theorem dX2_call_158 : decode cX2_call 158 = .ok (.iload_n 1, 1) := dk_27 (dk_at dksX2_call_6 20 rfl rfl)
theorem dX2_call_159 : decode cX2_call 159 = .ok (.dup2, 1) := dk_92 (dk_at dksX2_call_6 21 rfl rfl)
theorem dX2_call_160 : decode cX2_call 160 = .ok (.iaload, 1) := dk_46 (dk_at dksX2_call_6 22 rfl rfl)
theorem dX2_call_161 : decode cX2_call 161 = .ok (.iconst 1, 1) := dk_4 (dk_at dksX2_call_6 23 rfl rfl)
theorem dX2_call_162 : decode cX2_call 162 = .ok (.iadd, 1) := dk_96 (dk_at dksX2_call_7 0 rfl rfl)
theorem dX2_call_163 : decode cX2_call 163 = .ok (.iastore, 1) := dk_79 (dk_at dksX2_call_7 1 rfl rfl)
theorem dX2_call_164 : decode cX2_call 164 = .ok (.aload_n 0, 1) := dk_42 (dk_at dksX2_call_7 2 rfl rfl)
theorem dX2_call_165 : decode cX2_call 165 = .ok (.getfield 30, 3) := dk_180 0 30 (dk_at dksX2_call_7 3 rfl rfl)
theorem dX2_call_168 : decode cX2_call 168 = .ok (.iload_n 1, 1) := dk_27 (dk_at dksX2_call_7 6 rfl rfl)
theorem dX2_call_169 : decode cX2_call 169 = .ok (.iaload, 1) := dk_46 (dk_at dksX2_call_7 7 rfl rfl)
theorem dX2_call_170 : decode cX2_call 170 = .ok (.ireturn, 1) := dk_172 (dk_at dksX2_call_7 8 rfl rfl)
abbrev cX2_isNoTrip : ByteArray := prog_15_method_8_code
def yX2_isNoTrip : MethodName := ⟨RX2, "isNoTrip", "(I)Z"⟩
def dkwX2_isNoTrip_1 : List UInt8 := [172]
abbrev dktX2_isNoTrip_1 : List UInt8 := dkwX2_isNoTrip_1 ++ []
def dkwX2_isNoTrip_0 : List UInt8 := [42, 27, 3, 42, 180, 0, 137, 4, 100, 184, 0, 126, 154, 0, 7, 4, 167, 0, 4, 3, 4, 182, 0, 130]
abbrev dktX2_isNoTrip_0 : List UInt8 := dkwX2_isNoTrip_0 ++ dktX2_isNoTrip_1
theorem dksX2_isNoTrip_0 : cX2_isNoTrip.data.toList.drop 0 = dktX2_isNoTrip_0 := by decide +kernel
theorem dksX2_isNoTrip_1 : cX2_isNoTrip.data.toList.drop 24 = dktX2_isNoTrip_1 := dk_seg dksX2_isNoTrip_0 24 rfl rfl
theorem dX2_isNoTrip_0 : decode cX2_isNoTrip 0 = .ok (.aload_n 0, 1) := dk_42 (dk_at dksX2_isNoTrip_0 0 rfl rfl)
theorem dX2_isNoTrip_1 : decode cX2_isNoTrip 1 = .ok (.iload_n 1, 1) := dk_27 (dk_at dksX2_isNoTrip_0 1 rfl rfl)
theorem dX2_isNoTrip_2 : decode cX2_isNoTrip 2 = .ok (.iconst 0, 1) := dk_3 (dk_at dksX2_isNoTrip_0 2 rfl rfl)
theorem dX2_isNoTrip_3 : decode cX2_isNoTrip 3 = .ok (.aload_n 0, 1) := dk_42 (dk_at dksX2_isNoTrip_0 3 rfl rfl)
theorem dX2_isNoTrip_4 : decode cX2_isNoTrip 4 = .ok (.getfield 137, 3) := dk_180 0 137 (dk_at dksX2_isNoTrip_0 4 rfl rfl)
theorem dX2_isNoTrip_7 : decode cX2_isNoTrip 7 = .ok (.iconst 1, 1) := dk_4 (dk_at dksX2_isNoTrip_0 7 rfl rfl)
theorem dX2_isNoTrip_8 : decode cX2_isNoTrip 8 = .ok (.isub, 1) := dk_100 (dk_at dksX2_isNoTrip_0 8 rfl rfl)
theorem dX2_isNoTrip_9 : decode cX2_isNoTrip 9 = .ok (.invokestatic 126, 3) := dk_184 0 126 (dk_at dksX2_isNoTrip_0 9 rfl rfl)
theorem dX2_isNoTrip_12 : decode cX2_isNoTrip 12 = .ok (.ifCond .ne 7, 3) := dk_154 0 7 (dk_at dksX2_isNoTrip_0 12 rfl rfl)
theorem dX2_isNoTrip_15 : decode cX2_isNoTrip 15 = .ok (.iconst 1, 1) := dk_4 (dk_at dksX2_isNoTrip_0 15 rfl rfl)
theorem dX2_isNoTrip_16 : decode cX2_isNoTrip 16 = .ok (.goto 4, 3) := dk_167 0 4 (dk_at dksX2_isNoTrip_0 16 rfl rfl)
theorem dX2_isNoTrip_19 : decode cX2_isNoTrip 19 = .ok (.iconst 0, 1) := dk_3 (dk_at dksX2_isNoTrip_0 19 rfl rfl)
theorem dX2_isNoTrip_20 : decode cX2_isNoTrip 20 = .ok (.iconst 1, 1) := dk_4 (dk_at dksX2_isNoTrip_0 20 rfl rfl)
theorem dX2_isNoTrip_21 : decode cX2_isNoTrip 21 = .ok (.invokevirtual 130, 3) := dk_182 0 130 (dk_at dksX2_isNoTrip_0 21 rfl rfl)
theorem dX2_isNoTrip_24 : decode cX2_isNoTrip 24 = .ok (.ireturn, 1) := dk_172 (dk_at dksX2_isNoTrip_1 0 rfl rfl)
abbrev cX2_trips : ByteArray := prog_15_method_23_code
def yX2_trips : MethodName := ⟨RX2, "trips", "()I"⟩
def dkwX2_trips_0 : List UInt8 := [42, 3, 181, 0, 120, 42, 180, 0, 137, 172]
abbrev dktX2_trips_0 : List UInt8 := dkwX2_trips_0 ++ []
theorem dksX2_trips_0 : cX2_trips.data.toList.drop 0 = dktX2_trips_0 := by decide +kernel
theorem dX2_trips_0 : decode cX2_trips 0 = .ok (.aload_n 0, 1) := dk_42 (dk_at dksX2_trips_0 0 rfl rfl)
theorem dX2_trips_1 : decode cX2_trips 1 = .ok (.iconst 0, 1) := dk_3 (dk_at dksX2_trips_0 1 rfl rfl)
theorem dX2_trips_2 : decode cX2_trips 2 = .ok (.putfield 120, 3) := dk_181 0 120 (dk_at dksX2_trips_0 2 rfl rfl)
theorem dX2_trips_5 : decode cX2_trips 5 = .ok (.aload_n 0, 1) := dk_42 (dk_at dksX2_trips_0 5 rfl rfl)
theorem dX2_trips_6 : decode cX2_trips 6 = .ok (.getfield 137, 3) := dk_180 0 137 (dk_at dksX2_trips_0 6 rfl rfl)
theorem dX2_trips_9 : decode cX2_trips 9 = .ok (.ireturn, 1) := dk_172 (dk_at dksX2_trips_0 9 rfl rfl)
abbrev cX2_calls : ByteArray := prog_15_method_24_code
def yX2_calls : MethodName := ⟨RX2, "calls", "(I)I"⟩
def dkwX2_calls_0 : List UInt8 := [42, 27, 182, 0, 140, 153, 0, 7, 3, 167, 0, 9, 42, 180, 0, 30, 27, 46, 172]
abbrev dktX2_calls_0 : List UInt8 := dkwX2_calls_0 ++ []
theorem dksX2_calls_0 : cX2_calls.data.toList.drop 0 = dktX2_calls_0 := by decide +kernel
theorem dX2_calls_0 : decode cX2_calls 0 = .ok (.aload_n 0, 1) := dk_42 (dk_at dksX2_calls_0 0 rfl rfl)
theorem dX2_calls_1 : decode cX2_calls 1 = .ok (.iload_n 1, 1) := dk_27 (dk_at dksX2_calls_0 1 rfl rfl)
theorem dX2_calls_2 : decode cX2_calls 2 = .ok (.invokevirtual 140, 3) := dk_182 0 140 (dk_at dksX2_calls_0 2 rfl rfl)
theorem dX2_calls_5 : decode cX2_calls 5 = .ok (.ifCond .eq 7, 3) := dk_153 0 7 (dk_at dksX2_calls_0 5 rfl rfl)
theorem dX2_calls_8 : decode cX2_calls 8 = .ok (.iconst 0, 1) := dk_3 (dk_at dksX2_calls_0 8 rfl rfl)
theorem dX2_calls_9 : decode cX2_calls 9 = .ok (.goto 9, 3) := dk_167 0 9 (dk_at dksX2_calls_0 9 rfl rfl)
theorem dX2_calls_12 : decode cX2_calls 12 = .ok (.aload_n 0, 1) := dk_42 (dk_at dksX2_calls_0 12 rfl rfl)
theorem dX2_calls_13 : decode cX2_calls 13 = .ok (.getfield 30, 3) := dk_180 0 30 (dk_at dksX2_calls_0 13 rfl rfl)
theorem dX2_calls_16 : decode cX2_calls 16 = .ok (.iload_n 1, 1) := dk_27 (dk_at dksX2_calls_0 16 rfl rfl)
theorem dX2_calls_17 : decode cX2_calls 17 = .ok (.iaload, 1) := dk_46 (dk_at dksX2_calls_0 17 rfl rfl)
theorem dX2_calls_18 : decode cX2_calls 18 = .ok (.ireturn, 1) := dk_172 (dk_at dksX2_calls_0 18 rfl rfl)
abbrev cX2_stopAt : ByteArray := prog_15_method_25_code
def yX2_stopAt : MethodName := ⟨RX2, "stopAt", "(II)I"⟩
def dkwX2_stopAt_1 : List UInt8 := [172]
abbrev dktX2_stopAt_1 : List UInt8 := dkwX2_stopAt_1 ++ []
def dkwX2_stopAt_0 : List UInt8 := [42, 27, 28, 182, 0, 162, 153, 0, 7, 3, 167, 0, 14, 42, 180, 0, 33, 16, 8, 27, 104, 28, 96, 46]
abbrev dktX2_stopAt_0 : List UInt8 := dkwX2_stopAt_0 ++ dktX2_stopAt_1
theorem dksX2_stopAt_0 : cX2_stopAt.data.toList.drop 0 = dktX2_stopAt_0 := by decide +kernel
theorem dksX2_stopAt_1 : cX2_stopAt.data.toList.drop 24 = dktX2_stopAt_1 := dk_seg dksX2_stopAt_0 24 rfl rfl
theorem dX2_stopAt_0 : decode cX2_stopAt 0 = .ok (.aload_n 0, 1) := dk_42 (dk_at dksX2_stopAt_0 0 rfl rfl)
theorem dX2_stopAt_1 : decode cX2_stopAt 1 = .ok (.iload_n 1, 1) := dk_27 (dk_at dksX2_stopAt_0 1 rfl rfl)
theorem dX2_stopAt_2 : decode cX2_stopAt 2 = .ok (.iload_n 2, 1) := dk_28 (dk_at dksX2_stopAt_0 2 rfl rfl)
theorem dX2_stopAt_3 : decode cX2_stopAt 3 = .ok (.invokevirtual 162, 3) := dk_182 0 162 (dk_at dksX2_stopAt_0 3 rfl rfl)
theorem dX2_stopAt_6 : decode cX2_stopAt 6 = .ok (.ifCond .eq 7, 3) := dk_153 0 7 (dk_at dksX2_stopAt_0 6 rfl rfl)
theorem dX2_stopAt_9 : decode cX2_stopAt 9 = .ok (.iconst 0, 1) := dk_3 (dk_at dksX2_stopAt_0 9 rfl rfl)
theorem dX2_stopAt_10 : decode cX2_stopAt 10 = .ok (.goto 14, 3) := dk_167 0 14 (dk_at dksX2_stopAt_0 10 rfl rfl)
theorem dX2_stopAt_13 : decode cX2_stopAt 13 = .ok (.aload_n 0, 1) := dk_42 (dk_at dksX2_stopAt_0 13 rfl rfl)
theorem dX2_stopAt_14 : decode cX2_stopAt 14 = .ok (.getfield 33, 3) := dk_180 0 33 (dk_at dksX2_stopAt_0 14 rfl rfl)
theorem dX2_stopAt_17 : decode cX2_stopAt 17 = .ok (.bipush 8, 2) := dk_16 8 (dk_at dksX2_stopAt_0 17 rfl rfl)
theorem dX2_stopAt_19 : decode cX2_stopAt 19 = .ok (.iload_n 1, 1) := dk_27 (dk_at dksX2_stopAt_0 19 rfl rfl)
theorem dX2_stopAt_20 : decode cX2_stopAt 20 = .ok (.imul, 1) := dk_104 (dk_at dksX2_stopAt_0 20 rfl rfl)
theorem dX2_stopAt_21 : decode cX2_stopAt 21 = .ok (.iload_n 2, 1) := dk_28 (dk_at dksX2_stopAt_0 21 rfl rfl)
theorem dX2_stopAt_22 : decode cX2_stopAt 22 = .ok (.iadd, 1) := dk_96 (dk_at dksX2_stopAt_0 22 rfl rfl)
theorem dX2_stopAt_23 : decode cX2_stopAt 23 = .ok (.iaload, 1) := dk_46 (dk_at dksX2_stopAt_0 23 rfl rfl)
theorem dX2_stopAt_24 : decode cX2_stopAt 24 = .ok (.ireturn, 1) := dk_172 (dk_at dksX2_stopAt_1 0 rfl rfl)
abbrev cX2_isNoCall : ByteArray := prog_15_method_9_code
def yX2_isNoCall : MethodName := ⟨RX2, "isNoCall", "(II)Z"⟩
def dkwX2_isNoCall_1 : List UInt8 := [154, 0, 7, 4, 167, 0, 4, 3, 4, 182, 0, 130, 153, 0, 7, 4, 167, 0, 4, 3, 172]
abbrev dktX2_isNoCall_1 : List UInt8 := dkwX2_isNoCall_1 ++ []
def dkwX2_isNoCall_0 : List UInt8 := [42, 27, 182, 0, 140, 154, 0, 32, 42, 28, 3, 42, 180, 0, 30, 27, 46, 4, 100, 184, 0, 126]
abbrev dktX2_isNoCall_0 : List UInt8 := dkwX2_isNoCall_0 ++ dktX2_isNoCall_1
theorem dksX2_isNoCall_0 : cX2_isNoCall.data.toList.drop 0 = dktX2_isNoCall_0 := by decide +kernel
theorem dksX2_isNoCall_1 : cX2_isNoCall.data.toList.drop 22 = dktX2_isNoCall_1 := dk_seg dksX2_isNoCall_0 22 rfl rfl
theorem dX2_isNoCall_0 : decode cX2_isNoCall 0 = .ok (.aload_n 0, 1) := dk_42 (dk_at dksX2_isNoCall_0 0 rfl rfl)
theorem dX2_isNoCall_1 : decode cX2_isNoCall 1 = .ok (.iload_n 1, 1) := dk_27 (dk_at dksX2_isNoCall_0 1 rfl rfl)
theorem dX2_isNoCall_2 : decode cX2_isNoCall 2 = .ok (.invokevirtual 140, 3) := dk_182 0 140 (dk_at dksX2_isNoCall_0 2 rfl rfl)
theorem dX2_isNoCall_5 : decode cX2_isNoCall 5 = .ok (.ifCond .ne 32, 3) := dk_154 0 32 (dk_at dksX2_isNoCall_0 5 rfl rfl)
theorem dX2_isNoCall_8 : decode cX2_isNoCall 8 = .ok (.aload_n 0, 1) := dk_42 (dk_at dksX2_isNoCall_0 8 rfl rfl)
theorem dX2_isNoCall_9 : decode cX2_isNoCall 9 = .ok (.iload_n 2, 1) := dk_28 (dk_at dksX2_isNoCall_0 9 rfl rfl)
theorem dX2_isNoCall_10 : decode cX2_isNoCall 10 = .ok (.iconst 0, 1) := dk_3 (dk_at dksX2_isNoCall_0 10 rfl rfl)
theorem dX2_isNoCall_11 : decode cX2_isNoCall 11 = .ok (.aload_n 0, 1) := dk_42 (dk_at dksX2_isNoCall_0 11 rfl rfl)
theorem dX2_isNoCall_12 : decode cX2_isNoCall 12 = .ok (.getfield 30, 3) := dk_180 0 30 (dk_at dksX2_isNoCall_0 12 rfl rfl)
theorem dX2_isNoCall_15 : decode cX2_isNoCall 15 = .ok (.iload_n 1, 1) := dk_27 (dk_at dksX2_isNoCall_0 15 rfl rfl)
theorem dX2_isNoCall_16 : decode cX2_isNoCall 16 = .ok (.iaload, 1) := dk_46 (dk_at dksX2_isNoCall_0 16 rfl rfl)
theorem dX2_isNoCall_17 : decode cX2_isNoCall 17 = .ok (.iconst 1, 1) := dk_4 (dk_at dksX2_isNoCall_0 17 rfl rfl)
theorem dX2_isNoCall_18 : decode cX2_isNoCall 18 = .ok (.isub, 1) := dk_100 (dk_at dksX2_isNoCall_0 18 rfl rfl)
theorem dX2_isNoCall_19 : decode cX2_isNoCall 19 = .ok (.invokestatic 126, 3) := dk_184 0 126 (dk_at dksX2_isNoCall_0 19 rfl rfl)
theorem dX2_isNoCall_22 : decode cX2_isNoCall 22 = .ok (.ifCond .ne 7, 3) := dk_154 0 7 (dk_at dksX2_isNoCall_1 0 rfl rfl)
theorem dX2_isNoCall_25 : decode cX2_isNoCall 25 = .ok (.iconst 1, 1) := dk_4 (dk_at dksX2_isNoCall_1 3 rfl rfl)
theorem dX2_isNoCall_26 : decode cX2_isNoCall 26 = .ok (.goto 4, 3) := dk_167 0 4 (dk_at dksX2_isNoCall_1 4 rfl rfl)
theorem dX2_isNoCall_29 : decode cX2_isNoCall 29 = .ok (.iconst 0, 1) := dk_3 (dk_at dksX2_isNoCall_1 7 rfl rfl)
theorem dX2_isNoCall_30 : decode cX2_isNoCall 30 = .ok (.iconst 1, 1) := dk_4 (dk_at dksX2_isNoCall_1 8 rfl rfl)
theorem dX2_isNoCall_31 : decode cX2_isNoCall 31 = .ok (.invokevirtual 130, 3) := dk_182 0 130 (dk_at dksX2_isNoCall_1 9 rfl rfl)
theorem dX2_isNoCall_34 : decode cX2_isNoCall 34 = .ok (.ifCond .eq 7, 3) := dk_153 0 7 (dk_at dksX2_isNoCall_1 12 rfl rfl)
theorem dX2_isNoCall_37 : decode cX2_isNoCall 37 = .ok (.iconst 1, 1) := dk_4 (dk_at dksX2_isNoCall_1 15 rfl rfl)
theorem dX2_isNoCall_38 : decode cX2_isNoCall 38 = .ok (.goto 4, 3) := dk_167 0 4 (dk_at dksX2_isNoCall_1 16 rfl rfl)
theorem dX2_isNoCall_41 : decode cX2_isNoCall 41 = .ok (.iconst 0, 1) := dk_3 (dk_at dksX2_isNoCall_1 19 rfl rfl)
theorem dX2_isNoCall_42 : decode cX2_isNoCall 42 = .ok (.ireturn, 1) := dk_172 (dk_at dksX2_isNoCall_1 20 rfl rfl)
abbrev cX2_timeAt : ByteArray := prog_15_method_26_code
def yX2_timeAt : MethodName := ⟨RX2, "timeAt", "(IIZ)I"⟩
def dkwX2_timeAt_1 : List UInt8 := [104, 28, 96, 46, 167, 0, 14, 42, 180, 0, 39, 16, 8, 27, 104, 28, 96, 46, 172]
abbrev dktX2_timeAt_1 : List UInt8 := dkwX2_timeAt_1 ++ []
def dkwX2_timeAt_0 : List UInt8 := [42, 27, 28, 182, 0, 162, 153, 0, 7, 3, 167, 0, 32, 29, 153, 0, 17, 42, 180, 0, 36, 16, 8, 27]
abbrev dktX2_timeAt_0 : List UInt8 := dkwX2_timeAt_0 ++ dktX2_timeAt_1
theorem dksX2_timeAt_0 : cX2_timeAt.data.toList.drop 0 = dktX2_timeAt_0 := by decide +kernel
theorem dksX2_timeAt_1 : cX2_timeAt.data.toList.drop 24 = dktX2_timeAt_1 := dk_seg dksX2_timeAt_0 24 rfl rfl
theorem dX2_timeAt_0 : decode cX2_timeAt 0 = .ok (.aload_n 0, 1) := dk_42 (dk_at dksX2_timeAt_0 0 rfl rfl)
theorem dX2_timeAt_1 : decode cX2_timeAt 1 = .ok (.iload_n 1, 1) := dk_27 (dk_at dksX2_timeAt_0 1 rfl rfl)
theorem dX2_timeAt_2 : decode cX2_timeAt 2 = .ok (.iload_n 2, 1) := dk_28 (dk_at dksX2_timeAt_0 2 rfl rfl)
theorem dX2_timeAt_3 : decode cX2_timeAt 3 = .ok (.invokevirtual 162, 3) := dk_182 0 162 (dk_at dksX2_timeAt_0 3 rfl rfl)
theorem dX2_timeAt_6 : decode cX2_timeAt 6 = .ok (.ifCond .eq 7, 3) := dk_153 0 7 (dk_at dksX2_timeAt_0 6 rfl rfl)
theorem dX2_timeAt_9 : decode cX2_timeAt 9 = .ok (.iconst 0, 1) := dk_3 (dk_at dksX2_timeAt_0 9 rfl rfl)
theorem dX2_timeAt_10 : decode cX2_timeAt 10 = .ok (.goto 32, 3) := dk_167 0 32 (dk_at dksX2_timeAt_0 10 rfl rfl)
theorem dX2_timeAt_13 : decode cX2_timeAt 13 = .ok (.iload_n 3, 1) := dk_29 (dk_at dksX2_timeAt_0 13 rfl rfl)
theorem dX2_timeAt_14 : decode cX2_timeAt 14 = .ok (.ifCond .eq 17, 3) := dk_153 0 17 (dk_at dksX2_timeAt_0 14 rfl rfl)
theorem dX2_timeAt_17 : decode cX2_timeAt 17 = .ok (.aload_n 0, 1) := dk_42 (dk_at dksX2_timeAt_0 17 rfl rfl)
theorem dX2_timeAt_18 : decode cX2_timeAt 18 = .ok (.getfield 36, 3) := dk_180 0 36 (dk_at dksX2_timeAt_0 18 rfl rfl)
theorem dX2_timeAt_21 : decode cX2_timeAt 21 = .ok (.bipush 8, 2) := dk_16 8 (dk_at dksX2_timeAt_0 21 rfl rfl)
theorem dX2_timeAt_23 : decode cX2_timeAt 23 = .ok (.iload_n 1, 1) := dk_27 (dk_at dksX2_timeAt_0 23 rfl rfl)
theorem dX2_timeAt_24 : decode cX2_timeAt 24 = .ok (.imul, 1) := dk_104 (dk_at dksX2_timeAt_1 0 rfl rfl)
theorem dX2_timeAt_25 : decode cX2_timeAt 25 = .ok (.iload_n 2, 1) := dk_28 (dk_at dksX2_timeAt_1 1 rfl rfl)
theorem dX2_timeAt_26 : decode cX2_timeAt 26 = .ok (.iadd, 1) := dk_96 (dk_at dksX2_timeAt_1 2 rfl rfl)
theorem dX2_timeAt_27 : decode cX2_timeAt 27 = .ok (.iaload, 1) := dk_46 (dk_at dksX2_timeAt_1 3 rfl rfl)
theorem dX2_timeAt_28 : decode cX2_timeAt 28 = .ok (.goto 14, 3) := dk_167 0 14 (dk_at dksX2_timeAt_1 4 rfl rfl)
theorem dX2_timeAt_31 : decode cX2_timeAt 31 = .ok (.aload_n 0, 1) := dk_42 (dk_at dksX2_timeAt_1 7 rfl rfl)
theorem dX2_timeAt_32 : decode cX2_timeAt 32 = .ok (.getfield 39, 3) := dk_180 0 39 (dk_at dksX2_timeAt_1 8 rfl rfl)
theorem dX2_timeAt_35 : decode cX2_timeAt 35 = .ok (.bipush 8, 2) := dk_16 8 (dk_at dksX2_timeAt_1 11 rfl rfl)
theorem dX2_timeAt_37 : decode cX2_timeAt 37 = .ok (.iload_n 1, 1) := dk_27 (dk_at dksX2_timeAt_1 13 rfl rfl)
theorem dX2_timeAt_38 : decode cX2_timeAt 38 = .ok (.imul, 1) := dk_104 (dk_at dksX2_timeAt_1 14 rfl rfl)
theorem dX2_timeAt_39 : decode cX2_timeAt 39 = .ok (.iload_n 2, 1) := dk_28 (dk_at dksX2_timeAt_1 15 rfl rfl)
theorem dX2_timeAt_40 : decode cX2_timeAt 40 = .ok (.iadd, 1) := dk_96 (dk_at dksX2_timeAt_1 16 rfl rfl)
theorem dX2_timeAt_41 : decode cX2_timeAt 41 = .ok (.iaload, 1) := dk_46 (dk_at dksX2_timeAt_1 17 rfl rfl)
theorem dX2_timeAt_42 : decode cX2_timeAt 42 = .ok (.ireturn, 1) := dk_172 (dk_at dksX2_timeAt_1 18 rfl rfl)
abbrev cX2_shift : ByteArray := prog_15_method_29_code
def yX2_shift : MethodName := ⟨RX2, "shift", "(II)I"⟩
def dkwX2_shift_2 : List UInt8 := [182, 0, 168, 42, 180, 0, 39, 16, 8, 27, 104, 46, 172]
abbrev dktX2_shift_2 : List UInt8 := dkwX2_shift_2 ++ []
def dkwX2_shift_1 : List UInt8 := [182, 0, 165, 153, 0, 7, 4, 167, 0, 4, 3, 5, 182, 0, 130, 153, 0, 5, 3, 172, 42, 27, 28]
abbrev dktX2_shift_1 : List UInt8 := dkwX2_shift_1 ++ dktX2_shift_2
def dkwX2_shift_0 : List UInt8 := [42, 27, 182, 0, 140, 154, 0, 36, 42, 28, 16, 196, 16, 60, 184, 0, 126, 153, 0, 12, 42, 27, 28]
abbrev dktX2_shift_0 : List UInt8 := dkwX2_shift_0 ++ dktX2_shift_1
theorem dksX2_shift_0 : cX2_shift.data.toList.drop 0 = dktX2_shift_0 := by decide +kernel
theorem dksX2_shift_1 : cX2_shift.data.toList.drop 23 = dktX2_shift_1 := dk_seg dksX2_shift_0 23 rfl rfl
theorem dksX2_shift_2 : cX2_shift.data.toList.drop 46 = dktX2_shift_2 := dk_seg dksX2_shift_1 23 rfl rfl
theorem dX2_shift_0 : decode cX2_shift 0 = .ok (.aload_n 0, 1) := dk_42 (dk_at dksX2_shift_0 0 rfl rfl)
theorem dX2_shift_1 : decode cX2_shift 1 = .ok (.iload_n 1, 1) := dk_27 (dk_at dksX2_shift_0 1 rfl rfl)
theorem dX2_shift_2 : decode cX2_shift 2 = .ok (.invokevirtual 140, 3) := dk_182 0 140 (dk_at dksX2_shift_0 2 rfl rfl)
theorem dX2_shift_5 : decode cX2_shift 5 = .ok (.ifCond .ne 36, 3) := dk_154 0 36 (dk_at dksX2_shift_0 5 rfl rfl)
theorem dX2_shift_8 : decode cX2_shift 8 = .ok (.aload_n 0, 1) := dk_42 (dk_at dksX2_shift_0 8 rfl rfl)
theorem dX2_shift_9 : decode cX2_shift 9 = .ok (.iload_n 2, 1) := dk_28 (dk_at dksX2_shift_0 9 rfl rfl)
theorem dX2_shift_10 : decode cX2_shift 10 = .ok (.bipush (-60), 2) := dk_16 196 (dk_at dksX2_shift_0 10 rfl rfl)
theorem dX2_shift_12 : decode cX2_shift 12 = .ok (.bipush 60, 2) := dk_16 60 (dk_at dksX2_shift_0 12 rfl rfl)
theorem dX2_shift_14 : decode cX2_shift 14 = .ok (.invokestatic 126, 3) := dk_184 0 126 (dk_at dksX2_shift_0 14 rfl rfl)
theorem dX2_shift_17 : decode cX2_shift 17 = .ok (.ifCond .eq 12, 3) := dk_153 0 12 (dk_at dksX2_shift_0 17 rfl rfl)
theorem dX2_shift_20 : decode cX2_shift 20 = .ok (.aload_n 0, 1) := dk_42 (dk_at dksX2_shift_0 20 rfl rfl)
theorem dX2_shift_21 : decode cX2_shift 21 = .ok (.iload_n 1, 1) := dk_27 (dk_at dksX2_shift_0 21 rfl rfl)
theorem dX2_shift_22 : decode cX2_shift 22 = .ok (.iload_n 2, 1) := dk_28 (dk_at dksX2_shift_0 22 rfl rfl)
theorem dX2_shift_23 : decode cX2_shift 23 = .ok (.invokevirtual 165, 3) := dk_182 0 165 (dk_at dksX2_shift_1 0 rfl rfl)
theorem dX2_shift_26 : decode cX2_shift 26 = .ok (.ifCond .eq 7, 3) := dk_153 0 7 (dk_at dksX2_shift_1 3 rfl rfl)
theorem dX2_shift_29 : decode cX2_shift 29 = .ok (.iconst 1, 1) := dk_4 (dk_at dksX2_shift_1 6 rfl rfl)
theorem dX2_shift_30 : decode cX2_shift 30 = .ok (.goto 4, 3) := dk_167 0 4 (dk_at dksX2_shift_1 7 rfl rfl)
theorem dX2_shift_33 : decode cX2_shift 33 = .ok (.iconst 0, 1) := dk_3 (dk_at dksX2_shift_1 10 rfl rfl)
theorem dX2_shift_34 : decode cX2_shift 34 = .ok (.iconst 2, 1) := dk_5 (dk_at dksX2_shift_1 11 rfl rfl)
theorem dX2_shift_35 : decode cX2_shift 35 = .ok (.invokevirtual 130, 3) := dk_182 0 130 (dk_at dksX2_shift_1 12 rfl rfl)
theorem dX2_shift_38 : decode cX2_shift 38 = .ok (.ifCond .eq 5, 3) := dk_153 0 5 (dk_at dksX2_shift_1 15 rfl rfl)
theorem dX2_shift_41 : decode cX2_shift 41 = .ok (.iconst 0, 1) := dk_3 (dk_at dksX2_shift_1 18 rfl rfl)
theorem dX2_shift_42 : decode cX2_shift 42 = .ok (.ireturn, 1) := dk_172 (dk_at dksX2_shift_1 19 rfl rfl)
theorem dX2_shift_43 : decode cX2_shift 43 = .ok (.aload_n 0, 1) := dk_42 (dk_at dksX2_shift_1 20 rfl rfl)
theorem dX2_shift_44 : decode cX2_shift 44 = .ok (.iload_n 1, 1) := dk_27 (dk_at dksX2_shift_1 21 rfl rfl)
theorem dX2_shift_45 : decode cX2_shift 45 = .ok (.iload_n 2, 1) := dk_28 (dk_at dksX2_shift_1 22 rfl rfl)
theorem dX2_shift_46 : decode cX2_shift 46 = .ok (.invokevirtual 168, 3) := dk_182 0 168 (dk_at dksX2_shift_2 0 rfl rfl)
theorem dX2_shift_49 : decode cX2_shift 49 = .ok (.aload_n 0, 1) := dk_42 (dk_at dksX2_shift_2 3 rfl rfl)
theorem dX2_shift_50 : decode cX2_shift 50 = .ok (.getfield 39, 3) := dk_180 0 39 (dk_at dksX2_shift_2 4 rfl rfl)
theorem dX2_shift_53 : decode cX2_shift 53 = .ok (.bipush 8, 2) := dk_16 8 (dk_at dksX2_shift_2 7 rfl rfl)
theorem dX2_shift_55 : decode cX2_shift 55 = .ok (.iload_n 1, 1) := dk_27 (dk_at dksX2_shift_2 9 rfl rfl)
theorem dX2_shift_56 : decode cX2_shift 56 = .ok (.imul, 1) := dk_104 (dk_at dksX2_shift_2 10 rfl rfl)
theorem dX2_shift_57 : decode cX2_shift 57 = .ok (.iaload, 1) := dk_46 (dk_at dksX2_shift_2 11 rfl rfl)
theorem dX2_shift_58 : decode cX2_shift 58 = .ok (.ireturn, 1) := dk_172 (dk_at dksX2_shift_2 12 rfl rfl)
abbrev cX2_isShiftWrong : ByteArray := prog_15_method_27_code
def yX2_isShiftWrong : MethodName := ⟨RX2, "isShiftWrong", "(II)Z"⟩
def dkwX2_isShiftWrong_3 : List UInt8 := [17, 11, 63, 184, 0, 126, 154, 0, 7, 4, 167, 0, 4, 3, 128, 62, 132, 4, 1, 167, 255, 186, 29, 172]
abbrev dktX2_isShiftWrong_3 : List UInt8 := dkwX2_isShiftWrong_3 ++ []
def dkwX2_isShiftWrong_2 : List UInt8 := [17, 11, 63, 184, 0, 126, 153, 0, 27, 42, 180, 0, 39, 16, 8, 27, 104, 21, 4, 96, 46, 28, 96, 3]
abbrev dktX2_isShiftWrong_2 : List UInt8 := dkwX2_isShiftWrong_2 ++ dktX2_isShiftWrong_3
def dkwX2_isShiftWrong_1 : List UInt8 := [180, 0, 30, 27, 46, 162, 0, 65, 29, 42, 180, 0, 36, 16, 8, 27, 104, 21, 4, 96, 46, 28, 96, 3]
abbrev dktX2_isShiftWrong_1 : List UInt8 := dkwX2_isShiftWrong_1 ++ dktX2_isShiftWrong_2
def dkwX2_isShiftWrong_0 : List UInt8 := [28, 16, 196, 16, 60, 184, 0, 126, 154, 0, 7, 4, 167, 0, 4, 3, 62, 3, 54, 4, 21, 4, 42]
abbrev dktX2_isShiftWrong_0 : List UInt8 := dkwX2_isShiftWrong_0 ++ dktX2_isShiftWrong_1
theorem dksX2_isShiftWrong_0 : cX2_isShiftWrong.data.toList.drop 0 = dktX2_isShiftWrong_0 := by decide +kernel
theorem dksX2_isShiftWrong_1 : cX2_isShiftWrong.data.toList.drop 23 = dktX2_isShiftWrong_1 := dk_seg dksX2_isShiftWrong_0 23 rfl rfl
theorem dksX2_isShiftWrong_2 : cX2_isShiftWrong.data.toList.drop 47 = dktX2_isShiftWrong_2 := dk_seg dksX2_isShiftWrong_1 24 rfl rfl
theorem dksX2_isShiftWrong_3 : cX2_isShiftWrong.data.toList.drop 71 = dktX2_isShiftWrong_3 := dk_seg dksX2_isShiftWrong_2 24 rfl rfl
theorem dX2_isShiftWrong_0 : decode cX2_isShiftWrong 0 = .ok (.iload_n 2, 1) := dk_28 (dk_at dksX2_isShiftWrong_0 0 rfl rfl)
theorem dX2_isShiftWrong_1 : decode cX2_isShiftWrong 1 = .ok (.bipush (-60), 2) := dk_16 196 (dk_at dksX2_isShiftWrong_0 1 rfl rfl)
theorem dX2_isShiftWrong_3 : decode cX2_isShiftWrong 3 = .ok (.bipush 60, 2) := dk_16 60 (dk_at dksX2_isShiftWrong_0 3 rfl rfl)
theorem dX2_isShiftWrong_5 : decode cX2_isShiftWrong 5 = .ok (.invokestatic 126, 3) := dk_184 0 126 (dk_at dksX2_isShiftWrong_0 5 rfl rfl)
theorem dX2_isShiftWrong_8 : decode cX2_isShiftWrong 8 = .ok (.ifCond .ne 7, 3) := dk_154 0 7 (dk_at dksX2_isShiftWrong_0 8 rfl rfl)
theorem dX2_isShiftWrong_11 : decode cX2_isShiftWrong 11 = .ok (.iconst 1, 1) := dk_4 (dk_at dksX2_isShiftWrong_0 11 rfl rfl)
theorem dX2_isShiftWrong_12 : decode cX2_isShiftWrong 12 = .ok (.goto 4, 3) := dk_167 0 4 (dk_at dksX2_isShiftWrong_0 12 rfl rfl)
theorem dX2_isShiftWrong_15 : decode cX2_isShiftWrong 15 = .ok (.iconst 0, 1) := dk_3 (dk_at dksX2_isShiftWrong_0 15 rfl rfl)
theorem dX2_isShiftWrong_16 : decode cX2_isShiftWrong 16 = .ok (.istore_n 3, 1) := dk_62 (dk_at dksX2_isShiftWrong_0 16 rfl rfl)
theorem dX2_isShiftWrong_17 : decode cX2_isShiftWrong 17 = .ok (.iconst 0, 1) := dk_3 (dk_at dksX2_isShiftWrong_0 17 rfl rfl)
theorem dX2_isShiftWrong_18 : decode cX2_isShiftWrong 18 = .ok (.istore 4, 2) := dk_54 4 (dk_at dksX2_isShiftWrong_0 18 rfl rfl)
theorem dX2_isShiftWrong_20 : decode cX2_isShiftWrong 20 = .ok (.iload 4, 2) := dk_21 4 (dk_at dksX2_isShiftWrong_0 20 rfl rfl)
theorem dX2_isShiftWrong_22 : decode cX2_isShiftWrong 22 = .ok (.aload_n 0, 1) := dk_42 (dk_at dksX2_isShiftWrong_0 22 rfl rfl)
theorem dX2_isShiftWrong_23 : decode cX2_isShiftWrong 23 = .ok (.getfield 30, 3) := dk_180 0 30 (dk_at dksX2_isShiftWrong_1 0 rfl rfl)
theorem dX2_isShiftWrong_26 : decode cX2_isShiftWrong 26 = .ok (.iload_n 1, 1) := dk_27 (dk_at dksX2_isShiftWrong_1 3 rfl rfl)
theorem dX2_isShiftWrong_27 : decode cX2_isShiftWrong 27 = .ok (.iaload, 1) := dk_46 (dk_at dksX2_isShiftWrong_1 4 rfl rfl)
theorem dX2_isShiftWrong_28 : decode cX2_isShiftWrong 28 = .ok (.if_icmp .ge 65, 3) := dk_162 0 65 (dk_at dksX2_isShiftWrong_1 5 rfl rfl)
theorem dX2_isShiftWrong_31 : decode cX2_isShiftWrong 31 = .ok (.iload_n 3, 1) := dk_29 (dk_at dksX2_isShiftWrong_1 8 rfl rfl)
theorem dX2_isShiftWrong_32 : decode cX2_isShiftWrong 32 = .ok (.aload_n 0, 1) := dk_42 (dk_at dksX2_isShiftWrong_1 9 rfl rfl)
theorem dX2_isShiftWrong_33 : decode cX2_isShiftWrong 33 = .ok (.getfield 36, 3) := dk_180 0 36 (dk_at dksX2_isShiftWrong_1 10 rfl rfl)
theorem dX2_isShiftWrong_36 : decode cX2_isShiftWrong 36 = .ok (.bipush 8, 2) := dk_16 8 (dk_at dksX2_isShiftWrong_1 13 rfl rfl)
theorem dX2_isShiftWrong_38 : decode cX2_isShiftWrong 38 = .ok (.iload_n 1, 1) := dk_27 (dk_at dksX2_isShiftWrong_1 15 rfl rfl)
theorem dX2_isShiftWrong_39 : decode cX2_isShiftWrong 39 = .ok (.imul, 1) := dk_104 (dk_at dksX2_isShiftWrong_1 16 rfl rfl)
theorem dX2_isShiftWrong_40 : decode cX2_isShiftWrong 40 = .ok (.iload 4, 2) := dk_21 4 (dk_at dksX2_isShiftWrong_1 17 rfl rfl)
theorem dX2_isShiftWrong_42 : decode cX2_isShiftWrong 42 = .ok (.iadd, 1) := dk_96 (dk_at dksX2_isShiftWrong_1 19 rfl rfl)
theorem dX2_isShiftWrong_43 : decode cX2_isShiftWrong 43 = .ok (.iaload, 1) := dk_46 (dk_at dksX2_isShiftWrong_1 20 rfl rfl)
theorem dX2_isShiftWrong_44 : decode cX2_isShiftWrong 44 = .ok (.iload_n 2, 1) := dk_28 (dk_at dksX2_isShiftWrong_1 21 rfl rfl)
theorem dX2_isShiftWrong_45 : decode cX2_isShiftWrong 45 = .ok (.iadd, 1) := dk_96 (dk_at dksX2_isShiftWrong_1 22 rfl rfl)
theorem dX2_isShiftWrong_46 : decode cX2_isShiftWrong 46 = .ok (.iconst 0, 1) := dk_3 (dk_at dksX2_isShiftWrong_1 23 rfl rfl)
theorem dX2_isShiftWrong_47 : decode cX2_isShiftWrong 47 = .ok (.sipush 2879, 3) := dk_17 11 63 (dk_at dksX2_isShiftWrong_2 0 rfl rfl)
theorem dX2_isShiftWrong_50 : decode cX2_isShiftWrong 50 = .ok (.invokestatic 126, 3) := dk_184 0 126 (dk_at dksX2_isShiftWrong_2 3 rfl rfl)
theorem dX2_isShiftWrong_53 : decode cX2_isShiftWrong 53 = .ok (.ifCond .eq 27, 3) := dk_153 0 27 (dk_at dksX2_isShiftWrong_2 6 rfl rfl)
theorem dX2_isShiftWrong_56 : decode cX2_isShiftWrong 56 = .ok (.aload_n 0, 1) := dk_42 (dk_at dksX2_isShiftWrong_2 9 rfl rfl)
theorem dX2_isShiftWrong_57 : decode cX2_isShiftWrong 57 = .ok (.getfield 39, 3) := dk_180 0 39 (dk_at dksX2_isShiftWrong_2 10 rfl rfl)
theorem dX2_isShiftWrong_60 : decode cX2_isShiftWrong 60 = .ok (.bipush 8, 2) := dk_16 8 (dk_at dksX2_isShiftWrong_2 13 rfl rfl)
theorem dX2_isShiftWrong_62 : decode cX2_isShiftWrong 62 = .ok (.iload_n 1, 1) := dk_27 (dk_at dksX2_isShiftWrong_2 15 rfl rfl)
theorem dX2_isShiftWrong_63 : decode cX2_isShiftWrong 63 = .ok (.imul, 1) := dk_104 (dk_at dksX2_isShiftWrong_2 16 rfl rfl)
theorem dX2_isShiftWrong_64 : decode cX2_isShiftWrong 64 = .ok (.iload 4, 2) := dk_21 4 (dk_at dksX2_isShiftWrong_2 17 rfl rfl)
theorem dX2_isShiftWrong_66 : decode cX2_isShiftWrong 66 = .ok (.iadd, 1) := dk_96 (dk_at dksX2_isShiftWrong_2 19 rfl rfl)
theorem dX2_isShiftWrong_67 : decode cX2_isShiftWrong 67 = .ok (.iaload, 1) := dk_46 (dk_at dksX2_isShiftWrong_2 20 rfl rfl)
theorem dX2_isShiftWrong_68 : decode cX2_isShiftWrong 68 = .ok (.iload_n 2, 1) := dk_28 (dk_at dksX2_isShiftWrong_2 21 rfl rfl)
theorem dX2_isShiftWrong_69 : decode cX2_isShiftWrong 69 = .ok (.iadd, 1) := dk_96 (dk_at dksX2_isShiftWrong_2 22 rfl rfl)
theorem dX2_isShiftWrong_70 : decode cX2_isShiftWrong 70 = .ok (.iconst 0, 1) := dk_3 (dk_at dksX2_isShiftWrong_2 23 rfl rfl)
theorem dX2_isShiftWrong_71 : decode cX2_isShiftWrong 71 = .ok (.sipush 2879, 3) := dk_17 11 63 (dk_at dksX2_isShiftWrong_3 0 rfl rfl)
theorem dX2_isShiftWrong_74 : decode cX2_isShiftWrong 74 = .ok (.invokestatic 126, 3) := dk_184 0 126 (dk_at dksX2_isShiftWrong_3 3 rfl rfl)
theorem dX2_isShiftWrong_77 : decode cX2_isShiftWrong 77 = .ok (.ifCond .ne 7, 3) := dk_154 0 7 (dk_at dksX2_isShiftWrong_3 6 rfl rfl)
theorem dX2_isShiftWrong_80 : decode cX2_isShiftWrong 80 = .ok (.iconst 1, 1) := dk_4 (dk_at dksX2_isShiftWrong_3 9 rfl rfl)
theorem dX2_isShiftWrong_81 : decode cX2_isShiftWrong 81 = .ok (.goto 4, 3) := dk_167 0 4 (dk_at dksX2_isShiftWrong_3 10 rfl rfl)
theorem dX2_isShiftWrong_84 : decode cX2_isShiftWrong 84 = .ok (.iconst 0, 1) := dk_3 (dk_at dksX2_isShiftWrong_3 13 rfl rfl)
theorem dX2_isShiftWrong_85 : decode cX2_isShiftWrong 85 = .ok (.ior, 1) := dk_128 (dk_at dksX2_isShiftWrong_3 14 rfl rfl)
theorem dX2_isShiftWrong_86 : decode cX2_isShiftWrong 86 = .ok (.istore_n 3, 1) := dk_62 (dk_at dksX2_isShiftWrong_3 15 rfl rfl)
theorem dX2_isShiftWrong_87 : decode cX2_isShiftWrong 87 = .ok (.iinc 4 1, 3) := dk_132 4 1 (dk_at dksX2_isShiftWrong_3 16 rfl rfl)
theorem dX2_isShiftWrong_90 : decode cX2_isShiftWrong 90 = .ok (.goto (-70), 3) := dk_167 255 186 (dk_at dksX2_isShiftWrong_3 19 rfl rfl)
theorem dX2_isShiftWrong_93 : decode cX2_isShiftWrong 93 = .ok (.iload_n 3, 1) := dk_29 (dk_at dksX2_isShiftWrong_3 22 rfl rfl)
theorem dX2_isShiftWrong_94 : decode cX2_isShiftWrong 94 = .ok (.ireturn, 1) := dk_172 (dk_at dksX2_isShiftWrong_3 23 rfl rfl)
abbrev cX2_move : ByteArray := prog_15_method_28_code
def yX2_move : MethodName := ⟨RX2, "move", "(II)V"⟩
def dkwX2_move_2 : List UInt8 := [177]
abbrev dktX2_move_2 : List UInt8 := dkwX2_move_2 ++ []
def dkwX2_move_1 : List UInt8 := [28, 96, 79, 42, 180, 0, 39, 16, 8, 27, 104, 29, 96, 92, 46, 28, 96, 79, 132, 3, 1, 167, 255, 213]
abbrev dktX2_move_1 : List UInt8 := dkwX2_move_1 ++ dktX2_move_2
def dkwX2_move_0 : List UInt8 := [3, 62, 29, 42, 180, 0, 30, 27, 46, 162, 0, 39, 42, 180, 0, 36, 16, 8, 27, 104, 29, 96, 92, 46]
abbrev dktX2_move_0 : List UInt8 := dkwX2_move_0 ++ dktX2_move_1
theorem dksX2_move_0 : cX2_move.data.toList.drop 0 = dktX2_move_0 := by decide +kernel
theorem dksX2_move_1 : cX2_move.data.toList.drop 24 = dktX2_move_1 := dk_seg dksX2_move_0 24 rfl rfl
theorem dksX2_move_2 : cX2_move.data.toList.drop 48 = dktX2_move_2 := dk_seg dksX2_move_1 24 rfl rfl
theorem dX2_move_0 : decode cX2_move 0 = .ok (.iconst 0, 1) := dk_3 (dk_at dksX2_move_0 0 rfl rfl)
theorem dX2_move_1 : decode cX2_move 1 = .ok (.istore_n 3, 1) := dk_62 (dk_at dksX2_move_0 1 rfl rfl)
theorem dX2_move_2 : decode cX2_move 2 = .ok (.iload_n 3, 1) := dk_29 (dk_at dksX2_move_0 2 rfl rfl)
theorem dX2_move_3 : decode cX2_move 3 = .ok (.aload_n 0, 1) := dk_42 (dk_at dksX2_move_0 3 rfl rfl)
theorem dX2_move_4 : decode cX2_move 4 = .ok (.getfield 30, 3) := dk_180 0 30 (dk_at dksX2_move_0 4 rfl rfl)
theorem dX2_move_7 : decode cX2_move 7 = .ok (.iload_n 1, 1) := dk_27 (dk_at dksX2_move_0 7 rfl rfl)
theorem dX2_move_8 : decode cX2_move 8 = .ok (.iaload, 1) := dk_46 (dk_at dksX2_move_0 8 rfl rfl)
theorem dX2_move_9 : decode cX2_move 9 = .ok (.if_icmp .ge 39, 3) := dk_162 0 39 (dk_at dksX2_move_0 9 rfl rfl)
theorem dX2_move_12 : decode cX2_move 12 = .ok (.aload_n 0, 1) := dk_42 (dk_at dksX2_move_0 12 rfl rfl)
theorem dX2_move_13 : decode cX2_move 13 = .ok (.getfield 36, 3) := dk_180 0 36 (dk_at dksX2_move_0 13 rfl rfl)
theorem dX2_move_16 : decode cX2_move 16 = .ok (.bipush 8, 2) := dk_16 8 (dk_at dksX2_move_0 16 rfl rfl)
theorem dX2_move_18 : decode cX2_move 18 = .ok (.iload_n 1, 1) := dk_27 (dk_at dksX2_move_0 18 rfl rfl)
theorem dX2_move_19 : decode cX2_move 19 = .ok (.imul, 1) := dk_104 (dk_at dksX2_move_0 19 rfl rfl)
theorem dX2_move_20 : decode cX2_move 20 = .ok (.iload_n 3, 1) := dk_29 (dk_at dksX2_move_0 20 rfl rfl)
theorem dX2_move_21 : decode cX2_move 21 = .ok (.iadd, 1) := dk_96 (dk_at dksX2_move_0 21 rfl rfl)
theorem dX2_move_22 : decode cX2_move 22 = .ok (.dup2, 1) := dk_92 (dk_at dksX2_move_0 22 rfl rfl)
theorem dX2_move_23 : decode cX2_move 23 = .ok (.iaload, 1) := dk_46 (dk_at dksX2_move_0 23 rfl rfl)
theorem dX2_move_24 : decode cX2_move 24 = .ok (.iload_n 2, 1) := dk_28 (dk_at dksX2_move_1 0 rfl rfl)
theorem dX2_move_25 : decode cX2_move 25 = .ok (.iadd, 1) := dk_96 (dk_at dksX2_move_1 1 rfl rfl)
theorem dX2_move_26 : decode cX2_move 26 = .ok (.iastore, 1) := dk_79 (dk_at dksX2_move_1 2 rfl rfl)
theorem dX2_move_27 : decode cX2_move 27 = .ok (.aload_n 0, 1) := dk_42 (dk_at dksX2_move_1 3 rfl rfl)
theorem dX2_move_28 : decode cX2_move 28 = .ok (.getfield 39, 3) := dk_180 0 39 (dk_at dksX2_move_1 4 rfl rfl)
theorem dX2_move_31 : decode cX2_move 31 = .ok (.bipush 8, 2) := dk_16 8 (dk_at dksX2_move_1 7 rfl rfl)
theorem dX2_move_33 : decode cX2_move 33 = .ok (.iload_n 1, 1) := dk_27 (dk_at dksX2_move_1 9 rfl rfl)
theorem dX2_move_34 : decode cX2_move 34 = .ok (.imul, 1) := dk_104 (dk_at dksX2_move_1 10 rfl rfl)
theorem dX2_move_35 : decode cX2_move 35 = .ok (.iload_n 3, 1) := dk_29 (dk_at dksX2_move_1 11 rfl rfl)
theorem dX2_move_36 : decode cX2_move 36 = .ok (.iadd, 1) := dk_96 (dk_at dksX2_move_1 12 rfl rfl)
theorem dX2_move_37 : decode cX2_move 37 = .ok (.dup2, 1) := dk_92 (dk_at dksX2_move_1 13 rfl rfl)
theorem dX2_move_38 : decode cX2_move 38 = .ok (.iaload, 1) := dk_46 (dk_at dksX2_move_1 14 rfl rfl)
theorem dX2_move_39 : decode cX2_move 39 = .ok (.iload_n 2, 1) := dk_28 (dk_at dksX2_move_1 15 rfl rfl)
theorem dX2_move_40 : decode cX2_move 40 = .ok (.iadd, 1) := dk_96 (dk_at dksX2_move_1 16 rfl rfl)
theorem dX2_move_41 : decode cX2_move 41 = .ok (.iastore, 1) := dk_79 (dk_at dksX2_move_1 17 rfl rfl)
theorem dX2_move_42 : decode cX2_move 42 = .ok (.iinc 3 1, 3) := dk_132 3 1 (dk_at dksX2_move_1 18 rfl rfl)
theorem dX2_move_45 : decode cX2_move 45 = .ok (.goto (-43), 3) := dk_167 255 213 (dk_at dksX2_move_1 21 rfl rfl)
theorem dX2_move_48 : decode cX2_move 48 = .ok (.return_, 1) := dk_177 (dk_at dksX2_move_2 0 rfl rfl)
abbrev cX2_type : ByteArray := prog_15_method_30_code
def yX2_type : MethodName := ⟨RX2, "type", "(C)I"⟩
def dkwX2_type_2 : List UInt8 := [172]
abbrev dktX2_type_2 : List UInt8 := dkwX2_type_2 ++ []
def dkwX2_type_1 : List UInt8 := [42, 180, 0, 54, 42, 180, 0, 172, 27, 79, 42, 89, 180, 0, 172, 4, 96, 181, 0, 172, 42, 180, 0, 172]
abbrev dktX2_type_1 : List UInt8 := dkwX2_type_1 ++ dktX2_type_2
def dkwX2_type_0 : List UInt8 := [42, 42, 180, 0, 172, 16, 80, 160, 0, 7, 4, 167, 0, 4, 3, 4, 182, 0, 130, 153, 0, 5, 3, 172]
abbrev dktX2_type_0 : List UInt8 := dkwX2_type_0 ++ dktX2_type_1
theorem dksX2_type_0 : cX2_type.data.toList.drop 0 = dktX2_type_0 := by decide +kernel
theorem dksX2_type_1 : cX2_type.data.toList.drop 24 = dktX2_type_1 := dk_seg dksX2_type_0 24 rfl rfl
theorem dksX2_type_2 : cX2_type.data.toList.drop 48 = dktX2_type_2 := dk_seg dksX2_type_1 24 rfl rfl
theorem dX2_type_0 : decode cX2_type 0 = .ok (.aload_n 0, 1) := dk_42 (dk_at dksX2_type_0 0 rfl rfl)
theorem dX2_type_1 : decode cX2_type 1 = .ok (.aload_n 0, 1) := dk_42 (dk_at dksX2_type_0 1 rfl rfl)
theorem dX2_type_2 : decode cX2_type 2 = .ok (.getfield 172, 3) := dk_180 0 172 (dk_at dksX2_type_0 2 rfl rfl)
theorem dX2_type_5 : decode cX2_type 5 = .ok (.bipush 80, 2) := dk_16 80 (dk_at dksX2_type_0 5 rfl rfl)
theorem dX2_type_7 : decode cX2_type 7 = .ok (.if_icmp .ne 7, 3) := dk_160 0 7 (dk_at dksX2_type_0 7 rfl rfl)
theorem dX2_type_10 : decode cX2_type 10 = .ok (.iconst 1, 1) := dk_4 (dk_at dksX2_type_0 10 rfl rfl)
theorem dX2_type_11 : decode cX2_type 11 = .ok (.goto 4, 3) := dk_167 0 4 (dk_at dksX2_type_0 11 rfl rfl)
theorem dX2_type_14 : decode cX2_type 14 = .ok (.iconst 0, 1) := dk_3 (dk_at dksX2_type_0 14 rfl rfl)
theorem dX2_type_15 : decode cX2_type 15 = .ok (.iconst 1, 1) := dk_4 (dk_at dksX2_type_0 15 rfl rfl)
theorem dX2_type_16 : decode cX2_type 16 = .ok (.invokevirtual 130, 3) := dk_182 0 130 (dk_at dksX2_type_0 16 rfl rfl)
theorem dX2_type_19 : decode cX2_type 19 = .ok (.ifCond .eq 5, 3) := dk_153 0 5 (dk_at dksX2_type_0 19 rfl rfl)
theorem dX2_type_22 : decode cX2_type 22 = .ok (.iconst 0, 1) := dk_3 (dk_at dksX2_type_0 22 rfl rfl)
theorem dX2_type_23 : decode cX2_type 23 = .ok (.ireturn, 1) := dk_172 (dk_at dksX2_type_0 23 rfl rfl)
theorem dX2_type_24 : decode cX2_type 24 = .ok (.aload_n 0, 1) := dk_42 (dk_at dksX2_type_1 0 rfl rfl)
theorem dX2_type_25 : decode cX2_type 25 = .ok (.getfield 54, 3) := dk_180 0 54 (dk_at dksX2_type_1 1 rfl rfl)
theorem dX2_type_28 : decode cX2_type 28 = .ok (.aload_n 0, 1) := dk_42 (dk_at dksX2_type_1 4 rfl rfl)
theorem dX2_type_29 : decode cX2_type 29 = .ok (.getfield 172, 3) := dk_180 0 172 (dk_at dksX2_type_1 5 rfl rfl)
theorem dX2_type_32 : decode cX2_type 32 = .ok (.iload_n 1, 1) := dk_27 (dk_at dksX2_type_1 8 rfl rfl)
theorem dX2_type_33 : decode cX2_type 33 = .ok (.iastore, 1) := dk_79 (dk_at dksX2_type_1 9 rfl rfl)
theorem dX2_type_34 : decode cX2_type 34 = .ok (.aload_n 0, 1) := dk_42 (dk_at dksX2_type_1 10 rfl rfl)
theorem dX2_type_35 : decode cX2_type 35 = .ok (.dup, 1) := dk_89 (dk_at dksX2_type_1 11 rfl rfl)
theorem dX2_type_36 : decode cX2_type 36 = .ok (.getfield 172, 3) := dk_180 0 172 (dk_at dksX2_type_1 12 rfl rfl)
theorem dX2_type_39 : decode cX2_type 39 = .ok (.iconst 1, 1) := dk_4 (dk_at dksX2_type_1 15 rfl rfl)
theorem dX2_type_40 : decode cX2_type 40 = .ok (.iadd, 1) := dk_96 (dk_at dksX2_type_1 16 rfl rfl)
theorem dX2_type_41 : decode cX2_type 41 = .ok (.putfield 172, 3) := dk_181 0 172 (dk_at dksX2_type_1 17 rfl rfl)
theorem dX2_type_44 : decode cX2_type 44 = .ok (.aload_n 0, 1) := dk_42 (dk_at dksX2_type_1 20 rfl rfl)
theorem dX2_type_45 : decode cX2_type 45 = .ok (.getfield 172, 3) := dk_180 0 172 (dk_at dksX2_type_1 21 rfl rfl)
theorem dX2_type_48 : decode cX2_type 48 = .ok (.ireturn, 1) := dk_172 (dk_at dksX2_type_2 0 rfl rfl)
abbrev cX2_typeNumber : ByteArray := prog_15_method_31_code
def yX2_typeNumber : MethodName := ⟨RX2, "typeNumber", "(I)I"⟩
def dkwX2_typeNumber_6 : List UInt8 := [172]
abbrev dktX2_typeNumber_6 : List UInt8 := dkwX2_typeNumber_6 ++ []
def dkwX2_typeNumber_5 : List UInt8 := [16, 10, 108, 62, 132, 4, 255, 167, 255, 224, 42, 89, 180, 0, 172, 28, 96, 181, 0, 172, 42, 180, 0, 172]
abbrev dktX2_typeNumber_5 : List UInt8 := dkwX2_typeNumber_5 ++ dktX2_typeNumber_6
def dkwX2_typeNumber_4 : List UInt8 := [155, 0, 33, 42, 180, 0, 54, 42, 180, 0, 172, 21, 4, 96, 16, 48, 29, 16, 10, 112, 96, 79, 29]
abbrev dktX2_typeNumber_4 : List UInt8 := dkwX2_typeNumber_4 ++ dktX2_typeNumber_5
def dkwX2_typeNumber_3 : List UInt8 := [167, 0, 4, 3, 5, 182, 0, 130, 153, 0, 5, 3, 172, 27, 62, 28, 4, 100, 54, 4, 21, 4]
abbrev dktX2_typeNumber_3 : List UInt8 := dkwX2_typeNumber_3 ++ dktX2_typeNumber_4
def dkwX2_typeNumber_2 : List UInt8 := [167, 0, 4, 3, 4, 182, 0, 130, 154, 0, 27, 42, 42, 180, 0, 172, 28, 96, 16, 80, 164, 0, 7, 4]
abbrev dktX2_typeNumber_2 : List UInt8 := dkwX2_typeNumber_2 ++ dktX2_typeNumber_3
def dkwX2_typeNumber_1 : List UInt8 := [164, 0, 7, 5, 167, 0, 4, 4, 61, 42, 27, 3, 17, 39, 15, 184, 0, 126, 154, 0, 7, 4]
abbrev dktX2_typeNumber_1 : List UInt8 := dkwX2_typeNumber_1 ++ dktX2_typeNumber_2
def dkwX2_typeNumber_0 : List UInt8 := [27, 17, 3, 231, 164, 0, 7, 7, 167, 0, 24, 27, 16, 99, 164, 0, 7, 6, 167, 0, 14, 27, 16, 9]
abbrev dktX2_typeNumber_0 : List UInt8 := dkwX2_typeNumber_0 ++ dktX2_typeNumber_1
theorem dksX2_typeNumber_0 : cX2_typeNumber.data.toList.drop 0 = dktX2_typeNumber_0 := by decide +kernel
theorem dksX2_typeNumber_1 : cX2_typeNumber.data.toList.drop 24 = dktX2_typeNumber_1 := dk_seg dksX2_typeNumber_0 24 rfl rfl
theorem dksX2_typeNumber_2 : cX2_typeNumber.data.toList.drop 46 = dktX2_typeNumber_2 := dk_seg dksX2_typeNumber_1 22 rfl rfl
theorem dksX2_typeNumber_3 : cX2_typeNumber.data.toList.drop 70 = dktX2_typeNumber_3 := dk_seg dksX2_typeNumber_2 24 rfl rfl
theorem dksX2_typeNumber_4 : cX2_typeNumber.data.toList.drop 92 = dktX2_typeNumber_4 := dk_seg dksX2_typeNumber_3 22 rfl rfl
theorem dksX2_typeNumber_5 : cX2_typeNumber.data.toList.drop 115 = dktX2_typeNumber_5 := dk_seg dksX2_typeNumber_4 23 rfl rfl
theorem dksX2_typeNumber_6 : cX2_typeNumber.data.toList.drop 139 = dktX2_typeNumber_6 := dk_seg dksX2_typeNumber_5 24 rfl rfl
theorem dX2_typeNumber_0 : decode cX2_typeNumber 0 = .ok (.iload_n 1, 1) := dk_27 (dk_at dksX2_typeNumber_0 0 rfl rfl)
theorem dX2_typeNumber_1 : decode cX2_typeNumber 1 = .ok (.sipush 999, 3) := dk_17 3 231 (dk_at dksX2_typeNumber_0 1 rfl rfl)
theorem dX2_typeNumber_4 : decode cX2_typeNumber 4 = .ok (.if_icmp .le 7, 3) := dk_164 0 7 (dk_at dksX2_typeNumber_0 4 rfl rfl)
theorem dX2_typeNumber_7 : decode cX2_typeNumber 7 = .ok (.iconst 4, 1) := dk_7 (dk_at dksX2_typeNumber_0 7 rfl rfl)
theorem dX2_typeNumber_8 : decode cX2_typeNumber 8 = .ok (.goto 24, 3) := dk_167 0 24 (dk_at dksX2_typeNumber_0 8 rfl rfl)
theorem dX2_typeNumber_11 : decode cX2_typeNumber 11 = .ok (.iload_n 1, 1) := dk_27 (dk_at dksX2_typeNumber_0 11 rfl rfl)
theorem dX2_typeNumber_12 : decode cX2_typeNumber 12 = .ok (.bipush 99, 2) := dk_16 99 (dk_at dksX2_typeNumber_0 12 rfl rfl)
theorem dX2_typeNumber_14 : decode cX2_typeNumber 14 = .ok (.if_icmp .le 7, 3) := dk_164 0 7 (dk_at dksX2_typeNumber_0 14 rfl rfl)
theorem dX2_typeNumber_17 : decode cX2_typeNumber 17 = .ok (.iconst 3, 1) := dk_6 (dk_at dksX2_typeNumber_0 17 rfl rfl)
theorem dX2_typeNumber_18 : decode cX2_typeNumber 18 = .ok (.goto 14, 3) := dk_167 0 14 (dk_at dksX2_typeNumber_0 18 rfl rfl)
theorem dX2_typeNumber_21 : decode cX2_typeNumber 21 = .ok (.iload_n 1, 1) := dk_27 (dk_at dksX2_typeNumber_0 21 rfl rfl)
theorem dX2_typeNumber_22 : decode cX2_typeNumber 22 = .ok (.bipush 9, 2) := dk_16 9 (dk_at dksX2_typeNumber_0 22 rfl rfl)
theorem dX2_typeNumber_24 : decode cX2_typeNumber 24 = .ok (.if_icmp .le 7, 3) := dk_164 0 7 (dk_at dksX2_typeNumber_1 0 rfl rfl)
theorem dX2_typeNumber_27 : decode cX2_typeNumber 27 = .ok (.iconst 2, 1) := dk_5 (dk_at dksX2_typeNumber_1 3 rfl rfl)
theorem dX2_typeNumber_28 : decode cX2_typeNumber 28 = .ok (.goto 4, 3) := dk_167 0 4 (dk_at dksX2_typeNumber_1 4 rfl rfl)
theorem dX2_typeNumber_31 : decode cX2_typeNumber 31 = .ok (.iconst 1, 1) := dk_4 (dk_at dksX2_typeNumber_1 7 rfl rfl)
theorem dX2_typeNumber_32 : decode cX2_typeNumber 32 = .ok (.istore_n 2, 1) := dk_61 (dk_at dksX2_typeNumber_1 8 rfl rfl)
theorem dX2_typeNumber_33 : decode cX2_typeNumber 33 = .ok (.aload_n 0, 1) := dk_42 (dk_at dksX2_typeNumber_1 9 rfl rfl)
theorem dX2_typeNumber_34 : decode cX2_typeNumber 34 = .ok (.iload_n 1, 1) := dk_27 (dk_at dksX2_typeNumber_1 10 rfl rfl)
theorem dX2_typeNumber_35 : decode cX2_typeNumber 35 = .ok (.iconst 0, 1) := dk_3 (dk_at dksX2_typeNumber_1 11 rfl rfl)
theorem dX2_typeNumber_36 : decode cX2_typeNumber 36 = .ok (.sipush 9999, 3) := dk_17 39 15 (dk_at dksX2_typeNumber_1 12 rfl rfl)
theorem dX2_typeNumber_39 : decode cX2_typeNumber 39 = .ok (.invokestatic 126, 3) := dk_184 0 126 (dk_at dksX2_typeNumber_1 15 rfl rfl)
theorem dX2_typeNumber_42 : decode cX2_typeNumber 42 = .ok (.ifCond .ne 7, 3) := dk_154 0 7 (dk_at dksX2_typeNumber_1 18 rfl rfl)
theorem dX2_typeNumber_45 : decode cX2_typeNumber 45 = .ok (.iconst 1, 1) := dk_4 (dk_at dksX2_typeNumber_1 21 rfl rfl)
theorem dX2_typeNumber_46 : decode cX2_typeNumber 46 = .ok (.goto 4, 3) := dk_167 0 4 (dk_at dksX2_typeNumber_2 0 rfl rfl)
theorem dX2_typeNumber_49 : decode cX2_typeNumber 49 = .ok (.iconst 0, 1) := dk_3 (dk_at dksX2_typeNumber_2 3 rfl rfl)
theorem dX2_typeNumber_50 : decode cX2_typeNumber 50 = .ok (.iconst 1, 1) := dk_4 (dk_at dksX2_typeNumber_2 4 rfl rfl)
theorem dX2_typeNumber_51 : decode cX2_typeNumber 51 = .ok (.invokevirtual 130, 3) := dk_182 0 130 (dk_at dksX2_typeNumber_2 5 rfl rfl)
theorem dX2_typeNumber_54 : decode cX2_typeNumber 54 = .ok (.ifCond .ne 27, 3) := dk_154 0 27 (dk_at dksX2_typeNumber_2 8 rfl rfl)
theorem dX2_typeNumber_57 : decode cX2_typeNumber 57 = .ok (.aload_n 0, 1) := dk_42 (dk_at dksX2_typeNumber_2 11 rfl rfl)
theorem dX2_typeNumber_58 : decode cX2_typeNumber 58 = .ok (.aload_n 0, 1) := dk_42 (dk_at dksX2_typeNumber_2 12 rfl rfl)
theorem dX2_typeNumber_59 : decode cX2_typeNumber 59 = .ok (.getfield 172, 3) := dk_180 0 172 (dk_at dksX2_typeNumber_2 13 rfl rfl)
theorem dX2_typeNumber_62 : decode cX2_typeNumber 62 = .ok (.iload_n 2, 1) := dk_28 (dk_at dksX2_typeNumber_2 16 rfl rfl)
theorem dX2_typeNumber_63 : decode cX2_typeNumber 63 = .ok (.iadd, 1) := dk_96 (dk_at dksX2_typeNumber_2 17 rfl rfl)
theorem dX2_typeNumber_64 : decode cX2_typeNumber 64 = .ok (.bipush 80, 2) := dk_16 80 (dk_at dksX2_typeNumber_2 18 rfl rfl)
theorem dX2_typeNumber_66 : decode cX2_typeNumber 66 = .ok (.if_icmp .le 7, 3) := dk_164 0 7 (dk_at dksX2_typeNumber_2 20 rfl rfl)
theorem dX2_typeNumber_69 : decode cX2_typeNumber 69 = .ok (.iconst 1, 1) := dk_4 (dk_at dksX2_typeNumber_2 23 rfl rfl)
theorem dX2_typeNumber_70 : decode cX2_typeNumber 70 = .ok (.goto 4, 3) := dk_167 0 4 (dk_at dksX2_typeNumber_3 0 rfl rfl)
theorem dX2_typeNumber_73 : decode cX2_typeNumber 73 = .ok (.iconst 0, 1) := dk_3 (dk_at dksX2_typeNumber_3 3 rfl rfl)
theorem dX2_typeNumber_74 : decode cX2_typeNumber 74 = .ok (.iconst 2, 1) := dk_5 (dk_at dksX2_typeNumber_3 4 rfl rfl)
theorem dX2_typeNumber_75 : decode cX2_typeNumber 75 = .ok (.invokevirtual 130, 3) := dk_182 0 130 (dk_at dksX2_typeNumber_3 5 rfl rfl)
theorem dX2_typeNumber_78 : decode cX2_typeNumber 78 = .ok (.ifCond .eq 5, 3) := dk_153 0 5 (dk_at dksX2_typeNumber_3 8 rfl rfl)
theorem dX2_typeNumber_81 : decode cX2_typeNumber 81 = .ok (.iconst 0, 1) := dk_3 (dk_at dksX2_typeNumber_3 11 rfl rfl)
theorem dX2_typeNumber_82 : decode cX2_typeNumber 82 = .ok (.ireturn, 1) := dk_172 (dk_at dksX2_typeNumber_3 12 rfl rfl)
theorem dX2_typeNumber_83 : decode cX2_typeNumber 83 = .ok (.iload_n 1, 1) := dk_27 (dk_at dksX2_typeNumber_3 13 rfl rfl)
theorem dX2_typeNumber_84 : decode cX2_typeNumber 84 = .ok (.istore_n 3, 1) := dk_62 (dk_at dksX2_typeNumber_3 14 rfl rfl)
theorem dX2_typeNumber_85 : decode cX2_typeNumber 85 = .ok (.iload_n 2, 1) := dk_28 (dk_at dksX2_typeNumber_3 15 rfl rfl)
theorem dX2_typeNumber_86 : decode cX2_typeNumber 86 = .ok (.iconst 1, 1) := dk_4 (dk_at dksX2_typeNumber_3 16 rfl rfl)
theorem dX2_typeNumber_87 : decode cX2_typeNumber 87 = .ok (.isub, 1) := dk_100 (dk_at dksX2_typeNumber_3 17 rfl rfl)
theorem dX2_typeNumber_88 : decode cX2_typeNumber 88 = .ok (.istore 4, 2) := dk_54 4 (dk_at dksX2_typeNumber_3 18 rfl rfl)
theorem dX2_typeNumber_90 : decode cX2_typeNumber 90 = .ok (.iload 4, 2) := dk_21 4 (dk_at dksX2_typeNumber_3 20 rfl rfl)
theorem dX2_typeNumber_92 : decode cX2_typeNumber 92 = .ok (.ifCond .lt 33, 3) := dk_155 0 33 (dk_at dksX2_typeNumber_4 0 rfl rfl)
theorem dX2_typeNumber_95 : decode cX2_typeNumber 95 = .ok (.aload_n 0, 1) := dk_42 (dk_at dksX2_typeNumber_4 3 rfl rfl)
theorem dX2_typeNumber_96 : decode cX2_typeNumber 96 = .ok (.getfield 54, 3) := dk_180 0 54 (dk_at dksX2_typeNumber_4 4 rfl rfl)
theorem dX2_typeNumber_99 : decode cX2_typeNumber 99 = .ok (.aload_n 0, 1) := dk_42 (dk_at dksX2_typeNumber_4 7 rfl rfl)
theorem dX2_typeNumber_100 : decode cX2_typeNumber 100 = .ok (.getfield 172, 3) := dk_180 0 172 (dk_at dksX2_typeNumber_4 8 rfl rfl)
theorem dX2_typeNumber_103 : decode cX2_typeNumber 103 = .ok (.iload 4, 2) := dk_21 4 (dk_at dksX2_typeNumber_4 11 rfl rfl)
theorem dX2_typeNumber_105 : decode cX2_typeNumber 105 = .ok (.iadd, 1) := dk_96 (dk_at dksX2_typeNumber_4 13 rfl rfl)
theorem dX2_typeNumber_106 : decode cX2_typeNumber 106 = .ok (.bipush 48, 2) := dk_16 48 (dk_at dksX2_typeNumber_4 14 rfl rfl)
theorem dX2_typeNumber_108 : decode cX2_typeNumber 108 = .ok (.iload_n 3, 1) := dk_29 (dk_at dksX2_typeNumber_4 16 rfl rfl)
theorem dX2_typeNumber_109 : decode cX2_typeNumber 109 = .ok (.bipush 10, 2) := dk_16 10 (dk_at dksX2_typeNumber_4 17 rfl rfl)
theorem dX2_typeNumber_111 : decode cX2_typeNumber 111 = .ok (.irem, 1) := dk_112 (dk_at dksX2_typeNumber_4 19 rfl rfl)
theorem dX2_typeNumber_112 : decode cX2_typeNumber 112 = .ok (.iadd, 1) := dk_96 (dk_at dksX2_typeNumber_4 20 rfl rfl)
theorem dX2_typeNumber_113 : decode cX2_typeNumber 113 = .ok (.iastore, 1) := dk_79 (dk_at dksX2_typeNumber_4 21 rfl rfl)
theorem dX2_typeNumber_114 : decode cX2_typeNumber 114 = .ok (.iload_n 3, 1) := dk_29 (dk_at dksX2_typeNumber_4 22 rfl rfl)
theorem dX2_typeNumber_115 : decode cX2_typeNumber 115 = .ok (.bipush 10, 2) := dk_16 10 (dk_at dksX2_typeNumber_5 0 rfl rfl)
theorem dX2_typeNumber_117 : decode cX2_typeNumber 117 = .ok (.idiv, 1) := dk_108 (dk_at dksX2_typeNumber_5 2 rfl rfl)
theorem dX2_typeNumber_118 : decode cX2_typeNumber 118 = .ok (.istore_n 3, 1) := dk_62 (dk_at dksX2_typeNumber_5 3 rfl rfl)
theorem dX2_typeNumber_119 : decode cX2_typeNumber 119 = .ok (.iinc 4 (-1), 3) := dk_132 4 255 (dk_at dksX2_typeNumber_5 4 rfl rfl)
theorem dX2_typeNumber_122 : decode cX2_typeNumber 122 = .ok (.goto (-32), 3) := dk_167 255 224 (dk_at dksX2_typeNumber_5 7 rfl rfl)
theorem dX2_typeNumber_125 : decode cX2_typeNumber 125 = .ok (.aload_n 0, 1) := dk_42 (dk_at dksX2_typeNumber_5 10 rfl rfl)
theorem dX2_typeNumber_126 : decode cX2_typeNumber 126 = .ok (.dup, 1) := dk_89 (dk_at dksX2_typeNumber_5 11 rfl rfl)
theorem dX2_typeNumber_127 : decode cX2_typeNumber 127 = .ok (.getfield 172, 3) := dk_180 0 172 (dk_at dksX2_typeNumber_5 12 rfl rfl)
theorem dX2_typeNumber_130 : decode cX2_typeNumber 130 = .ok (.iload_n 2, 1) := dk_28 (dk_at dksX2_typeNumber_5 15 rfl rfl)
theorem dX2_typeNumber_131 : decode cX2_typeNumber 131 = .ok (.iadd, 1) := dk_96 (dk_at dksX2_typeNumber_5 16 rfl rfl)
theorem dX2_typeNumber_132 : decode cX2_typeNumber 132 = .ok (.putfield 172, 3) := dk_181 0 172 (dk_at dksX2_typeNumber_5 17 rfl rfl)
theorem dX2_typeNumber_135 : decode cX2_typeNumber 135 = .ok (.aload_n 0, 1) := dk_42 (dk_at dksX2_typeNumber_5 20 rfl rfl)
theorem dX2_typeNumber_136 : decode cX2_typeNumber 136 = .ok (.getfield 172, 3) := dk_180 0 172 (dk_at dksX2_typeNumber_5 21 rfl rfl)
theorem dX2_typeNumber_139 : decode cX2_typeNumber 139 = .ok (.ireturn, 1) := dk_172 (dk_at dksX2_typeNumber_6 0 rfl rfl)
abbrev cX2_erase : ByteArray := prog_15_method_32_code
def yX2_erase : MethodName := ⟨RX2, "erase", "()I"⟩
def dkwX2_erase_0 : List UInt8 := [42, 3, 181, 0, 120, 42, 180, 0, 172, 60, 42, 3, 181, 0, 172, 27, 172]
abbrev dktX2_erase_0 : List UInt8 := dkwX2_erase_0 ++ []
theorem dksX2_erase_0 : cX2_erase.data.toList.drop 0 = dktX2_erase_0 := by decide +kernel
theorem dX2_erase_0 : decode cX2_erase 0 = .ok (.aload_n 0, 1) := dk_42 (dk_at dksX2_erase_0 0 rfl rfl)
theorem dX2_erase_1 : decode cX2_erase 1 = .ok (.iconst 0, 1) := dk_3 (dk_at dksX2_erase_0 1 rfl rfl)
theorem dX2_erase_2 : decode cX2_erase 2 = .ok (.putfield 120, 3) := dk_181 0 120 (dk_at dksX2_erase_0 2 rfl rfl)
theorem dX2_erase_5 : decode cX2_erase 5 = .ok (.aload_n 0, 1) := dk_42 (dk_at dksX2_erase_0 5 rfl rfl)
theorem dX2_erase_6 : decode cX2_erase 6 = .ok (.getfield 172, 3) := dk_180 0 172 (dk_at dksX2_erase_0 6 rfl rfl)
theorem dX2_erase_9 : decode cX2_erase 9 = .ok (.istore_n 1, 1) := dk_60 (dk_at dksX2_erase_0 9 rfl rfl)
theorem dX2_erase_10 : decode cX2_erase 10 = .ok (.aload_n 0, 1) := dk_42 (dk_at dksX2_erase_0 10 rfl rfl)
theorem dX2_erase_11 : decode cX2_erase 11 = .ok (.iconst 0, 1) := dk_3 (dk_at dksX2_erase_0 11 rfl rfl)
theorem dX2_erase_12 : decode cX2_erase 12 = .ok (.putfield 172, 3) := dk_181 0 172 (dk_at dksX2_erase_0 12 rfl rfl)
theorem dX2_erase_15 : decode cX2_erase 15 = .ok (.iload_n 1, 1) := dk_27 (dk_at dksX2_erase_0 15 rfl rfl)
theorem dX2_erase_16 : decode cX2_erase 16 = .ok (.ireturn, 1) := dk_172 (dk_at dksX2_erase_0 16 rfl rfl)
abbrev cX2_readRow : ByteArray := prog_15_method_36_code
def yX2_readRow : MethodName := ⟨RX2, "readRow", "()I"⟩
def dkwX2_readRow_7 : List UInt8 := [46, 4, 96, 79, 132, 3, 3, 167, 255, 179, 42, 3, 181, 0, 172, 28, 172]
abbrev dktX2_readRow_7 : List UInt8 := dkwX2_readRow_7 ++ []
def dkwX2_readRow_6 : List UInt8 := [96, 46, 79, 42, 180, 0, 39, 21, 4, 42, 180, 0, 111, 29, 5, 96, 46, 79, 42, 180, 0, 30, 28, 92]
abbrev dktX2_readRow_6 : List UInt8 := dkwX2_readRow_6 ++ dktX2_readRow_7
def dkwX2_readRow_5 : List UInt8 := [180, 0, 33, 21, 4, 42, 180, 0, 111, 29, 46, 79, 42, 180, 0, 36, 21, 4, 42, 180, 0, 111, 29, 4]
abbrev dktX2_readRow_5 : List UInt8 := dkwX2_readRow_5 ++ dktX2_readRow_6
def dkwX2_readRow_4 : List UInt8 := [29, 42, 180, 0, 175, 162, 0, 75, 16, 8, 28, 104, 42, 180, 0, 30, 28, 46, 96, 54, 4, 42]
abbrev dktX2_readRow_4 : List UInt8 := dkwX2_readRow_4 ++ dktX2_readRow_5
def dkwX2_readRow_3 : List UInt8 := [42, 180, 0, 111, 3, 46, 42, 180, 0, 111, 4, 46, 42, 180, 0, 111, 5, 46, 182, 0, 158, 61, 7, 62]
abbrev dktX2_readRow_3 : List UInt8 := dkwX2_readRow_3 ++ dktX2_readRow_4
def dkwX2_readRow_2 : List UInt8 := [42, 180, 0, 137, 16, 24, 160, 0, 7, 4, 167, 0, 4, 3, 6, 182, 0, 130, 153, 0, 5, 3, 172, 42]
abbrev dktX2_readRow_2 : List UInt8 := dkwX2_readRow_2 ++ dktX2_readRow_3
def dkwX2_readRow_1 : List UInt8 := [167, 0, 4, 3, 4, 182, 0, 130, 154, 0, 37, 42, 42, 182, 0, 184, 5, 182, 0, 130, 154, 0, 25, 42]
abbrev dktX2_readRow_1 : List UInt8 := dkwX2_readRow_1 ++ dktX2_readRow_2
def dkwX2_readRow_0 : List UInt8 := [42, 182, 0, 180, 60, 27, 2, 159, 0, 8, 42, 27, 181, 0, 57, 42, 27, 2, 159, 0, 7, 4]
abbrev dktX2_readRow_0 : List UInt8 := dkwX2_readRow_0 ++ dktX2_readRow_1
theorem dksX2_readRow_0 : cX2_readRow.data.toList.drop 0 = dktX2_readRow_0 := by decide +kernel
theorem dksX2_readRow_1 : cX2_readRow.data.toList.drop 22 = dktX2_readRow_1 := dk_seg dksX2_readRow_0 22 rfl rfl
theorem dksX2_readRow_2 : cX2_readRow.data.toList.drop 46 = dktX2_readRow_2 := dk_seg dksX2_readRow_1 24 rfl rfl
theorem dksX2_readRow_3 : cX2_readRow.data.toList.drop 70 = dktX2_readRow_3 := dk_seg dksX2_readRow_2 24 rfl rfl
theorem dksX2_readRow_4 : cX2_readRow.data.toList.drop 94 = dktX2_readRow_4 := dk_seg dksX2_readRow_3 24 rfl rfl
theorem dksX2_readRow_5 : cX2_readRow.data.toList.drop 116 = dktX2_readRow_5 := dk_seg dksX2_readRow_4 22 rfl rfl
theorem dksX2_readRow_6 : cX2_readRow.data.toList.drop 140 = dktX2_readRow_6 := dk_seg dksX2_readRow_5 24 rfl rfl
theorem dksX2_readRow_7 : cX2_readRow.data.toList.drop 164 = dktX2_readRow_7 := dk_seg dksX2_readRow_6 24 rfl rfl
theorem dX2_readRow_0 : decode cX2_readRow 0 = .ok (.aload_n 0, 1) := dk_42 (dk_at dksX2_readRow_0 0 rfl rfl)
theorem dX2_readRow_1 : decode cX2_readRow 1 = .ok (.invokevirtual 180, 3) := dk_182 0 180 (dk_at dksX2_readRow_0 1 rfl rfl)
theorem dX2_readRow_4 : decode cX2_readRow 4 = .ok (.istore_n 1, 1) := dk_60 (dk_at dksX2_readRow_0 4 rfl rfl)
theorem dX2_readRow_5 : decode cX2_readRow 5 = .ok (.iload_n 1, 1) := dk_27 (dk_at dksX2_readRow_0 5 rfl rfl)
theorem dX2_readRow_6 : decode cX2_readRow 6 = .ok (.iconst (-1), 1) := dk_2 (dk_at dksX2_readRow_0 6 rfl rfl)
theorem dX2_readRow_7 : decode cX2_readRow 7 = .ok (.if_icmp .eq 8, 3) := dk_159 0 8 (dk_at dksX2_readRow_0 7 rfl rfl)
theorem dX2_readRow_10 : decode cX2_readRow 10 = .ok (.aload_n 0, 1) := dk_42 (dk_at dksX2_readRow_0 10 rfl rfl)
theorem dX2_readRow_11 : decode cX2_readRow 11 = .ok (.iload_n 1, 1) := dk_27 (dk_at dksX2_readRow_0 11 rfl rfl)
theorem dX2_readRow_12 : decode cX2_readRow 12 = .ok (.putfield 57, 3) := dk_181 0 57 (dk_at dksX2_readRow_0 12 rfl rfl)
theorem dX2_readRow_15 : decode cX2_readRow 15 = .ok (.aload_n 0, 1) := dk_42 (dk_at dksX2_readRow_0 15 rfl rfl)
theorem dX2_readRow_16 : decode cX2_readRow 16 = .ok (.iload_n 1, 1) := dk_27 (dk_at dksX2_readRow_0 16 rfl rfl)
theorem dX2_readRow_17 : decode cX2_readRow 17 = .ok (.iconst (-1), 1) := dk_2 (dk_at dksX2_readRow_0 17 rfl rfl)
theorem dX2_readRow_18 : decode cX2_readRow 18 = .ok (.if_icmp .eq 7, 3) := dk_159 0 7 (dk_at dksX2_readRow_0 18 rfl rfl)
theorem dX2_readRow_21 : decode cX2_readRow 21 = .ok (.iconst 1, 1) := dk_4 (dk_at dksX2_readRow_0 21 rfl rfl)
theorem dX2_readRow_22 : decode cX2_readRow 22 = .ok (.goto 4, 3) := dk_167 0 4 (dk_at dksX2_readRow_1 0 rfl rfl)
theorem dX2_readRow_25 : decode cX2_readRow 25 = .ok (.iconst 0, 1) := dk_3 (dk_at dksX2_readRow_1 3 rfl rfl)
theorem dX2_readRow_26 : decode cX2_readRow 26 = .ok (.iconst 1, 1) := dk_4 (dk_at dksX2_readRow_1 4 rfl rfl)
theorem dX2_readRow_27 : decode cX2_readRow 27 = .ok (.invokevirtual 130, 3) := dk_182 0 130 (dk_at dksX2_readRow_1 5 rfl rfl)
theorem dX2_readRow_30 : decode cX2_readRow 30 = .ok (.ifCond .ne 37, 3) := dk_154 0 37 (dk_at dksX2_readRow_1 8 rfl rfl)
theorem dX2_readRow_33 : decode cX2_readRow 33 = .ok (.aload_n 0, 1) := dk_42 (dk_at dksX2_readRow_1 11 rfl rfl)
theorem dX2_readRow_34 : decode cX2_readRow 34 = .ok (.aload_n 0, 1) := dk_42 (dk_at dksX2_readRow_1 12 rfl rfl)
theorem dX2_readRow_35 : decode cX2_readRow 35 = .ok (.invokevirtual 184, 3) := dk_182 0 184 (dk_at dksX2_readRow_1 13 rfl rfl)
theorem dX2_readRow_38 : decode cX2_readRow 38 = .ok (.iconst 2, 1) := dk_5 (dk_at dksX2_readRow_1 16 rfl rfl)
theorem dX2_readRow_39 : decode cX2_readRow 39 = .ok (.invokevirtual 130, 3) := dk_182 0 130 (dk_at dksX2_readRow_1 17 rfl rfl)
theorem dX2_readRow_42 : decode cX2_readRow 42 = .ok (.ifCond .ne 25, 3) := dk_154 0 25 (dk_at dksX2_readRow_1 20 rfl rfl)
theorem dX2_readRow_45 : decode cX2_readRow 45 = .ok (.aload_n 0, 1) := dk_42 (dk_at dksX2_readRow_1 23 rfl rfl)
theorem dX2_readRow_46 : decode cX2_readRow 46 = .ok (.aload_n 0, 1) := dk_42 (dk_at dksX2_readRow_2 0 rfl rfl)
theorem dX2_readRow_47 : decode cX2_readRow 47 = .ok (.getfield 137, 3) := dk_180 0 137 (dk_at dksX2_readRow_2 1 rfl rfl)
theorem dX2_readRow_50 : decode cX2_readRow 50 = .ok (.bipush 24, 2) := dk_16 24 (dk_at dksX2_readRow_2 4 rfl rfl)
theorem dX2_readRow_52 : decode cX2_readRow 52 = .ok (.if_icmp .ne 7, 3) := dk_160 0 7 (dk_at dksX2_readRow_2 6 rfl rfl)
theorem dX2_readRow_55 : decode cX2_readRow 55 = .ok (.iconst 1, 1) := dk_4 (dk_at dksX2_readRow_2 9 rfl rfl)
theorem dX2_readRow_56 : decode cX2_readRow 56 = .ok (.goto 4, 3) := dk_167 0 4 (dk_at dksX2_readRow_2 10 rfl rfl)
theorem dX2_readRow_59 : decode cX2_readRow 59 = .ok (.iconst 0, 1) := dk_3 (dk_at dksX2_readRow_2 13 rfl rfl)
theorem dX2_readRow_60 : decode cX2_readRow 60 = .ok (.iconst 3, 1) := dk_6 (dk_at dksX2_readRow_2 14 rfl rfl)
theorem dX2_readRow_61 : decode cX2_readRow 61 = .ok (.invokevirtual 130, 3) := dk_182 0 130 (dk_at dksX2_readRow_2 15 rfl rfl)
theorem dX2_readRow_64 : decode cX2_readRow 64 = .ok (.ifCond .eq 5, 3) := dk_153 0 5 (dk_at dksX2_readRow_2 18 rfl rfl)
theorem dX2_readRow_67 : decode cX2_readRow 67 = .ok (.iconst 0, 1) := dk_3 (dk_at dksX2_readRow_2 21 rfl rfl)
theorem dX2_readRow_68 : decode cX2_readRow 68 = .ok (.ireturn, 1) := dk_172 (dk_at dksX2_readRow_2 22 rfl rfl)
theorem dX2_readRow_69 : decode cX2_readRow 69 = .ok (.aload_n 0, 1) := dk_42 (dk_at dksX2_readRow_2 23 rfl rfl)
theorem dX2_readRow_70 : decode cX2_readRow 70 = .ok (.aload_n 0, 1) := dk_42 (dk_at dksX2_readRow_3 0 rfl rfl)
theorem dX2_readRow_71 : decode cX2_readRow 71 = .ok (.getfield 111, 3) := dk_180 0 111 (dk_at dksX2_readRow_3 1 rfl rfl)
theorem dX2_readRow_74 : decode cX2_readRow 74 = .ok (.iconst 0, 1) := dk_3 (dk_at dksX2_readRow_3 4 rfl rfl)
theorem dX2_readRow_75 : decode cX2_readRow 75 = .ok (.iaload, 1) := dk_46 (dk_at dksX2_readRow_3 5 rfl rfl)
theorem dX2_readRow_76 : decode cX2_readRow 76 = .ok (.aload_n 0, 1) := dk_42 (dk_at dksX2_readRow_3 6 rfl rfl)
theorem dX2_readRow_77 : decode cX2_readRow 77 = .ok (.getfield 111, 3) := dk_180 0 111 (dk_at dksX2_readRow_3 7 rfl rfl)
theorem dX2_readRow_80 : decode cX2_readRow 80 = .ok (.iconst 1, 1) := dk_4 (dk_at dksX2_readRow_3 10 rfl rfl)
theorem dX2_readRow_81 : decode cX2_readRow 81 = .ok (.iaload, 1) := dk_46 (dk_at dksX2_readRow_3 11 rfl rfl)
theorem dX2_readRow_82 : decode cX2_readRow 82 = .ok (.aload_n 0, 1) := dk_42 (dk_at dksX2_readRow_3 12 rfl rfl)
theorem dX2_readRow_83 : decode cX2_readRow 83 = .ok (.getfield 111, 3) := dk_180 0 111 (dk_at dksX2_readRow_3 13 rfl rfl)
theorem dX2_readRow_86 : decode cX2_readRow 86 = .ok (.iconst 2, 1) := dk_5 (dk_at dksX2_readRow_3 16 rfl rfl)
theorem dX2_readRow_87 : decode cX2_readRow 87 = .ok (.iaload, 1) := dk_46 (dk_at dksX2_readRow_3 17 rfl rfl)
theorem dX2_readRow_88 : decode cX2_readRow 88 = .ok (.invokevirtual 158, 3) := dk_182 0 158 (dk_at dksX2_readRow_3 18 rfl rfl)
theorem dX2_readRow_91 : decode cX2_readRow 91 = .ok (.istore_n 2, 1) := dk_61 (dk_at dksX2_readRow_3 21 rfl rfl)
theorem dX2_readRow_92 : decode cX2_readRow 92 = .ok (.iconst 4, 1) := dk_7 (dk_at dksX2_readRow_3 22 rfl rfl)
theorem dX2_readRow_93 : decode cX2_readRow 93 = .ok (.istore_n 3, 1) := dk_62 (dk_at dksX2_readRow_3 23 rfl rfl)
theorem dX2_readRow_94 : decode cX2_readRow 94 = .ok (.iload_n 3, 1) := dk_29 (dk_at dksX2_readRow_4 0 rfl rfl)
theorem dX2_readRow_95 : decode cX2_readRow 95 = .ok (.aload_n 0, 1) := dk_42 (dk_at dksX2_readRow_4 1 rfl rfl)
theorem dX2_readRow_96 : decode cX2_readRow 96 = .ok (.getfield 175, 3) := dk_180 0 175 (dk_at dksX2_readRow_4 2 rfl rfl)
theorem dX2_readRow_99 : decode cX2_readRow 99 = .ok (.if_icmp .ge 75, 3) := dk_162 0 75 (dk_at dksX2_readRow_4 5 rfl rfl)
theorem dX2_readRow_102 : decode cX2_readRow 102 = .ok (.bipush 8, 2) := dk_16 8 (dk_at dksX2_readRow_4 8 rfl rfl)
theorem dX2_readRow_104 : decode cX2_readRow 104 = .ok (.iload_n 2, 1) := dk_28 (dk_at dksX2_readRow_4 10 rfl rfl)
theorem dX2_readRow_105 : decode cX2_readRow 105 = .ok (.imul, 1) := dk_104 (dk_at dksX2_readRow_4 11 rfl rfl)
theorem dX2_readRow_106 : decode cX2_readRow 106 = .ok (.aload_n 0, 1) := dk_42 (dk_at dksX2_readRow_4 12 rfl rfl)
theorem dX2_readRow_107 : decode cX2_readRow 107 = .ok (.getfield 30, 3) := dk_180 0 30 (dk_at dksX2_readRow_4 13 rfl rfl)
theorem dX2_readRow_110 : decode cX2_readRow 110 = .ok (.iload_n 2, 1) := dk_28 (dk_at dksX2_readRow_4 16 rfl rfl)
theorem dX2_readRow_111 : decode cX2_readRow 111 = .ok (.iaload, 1) := dk_46 (dk_at dksX2_readRow_4 17 rfl rfl)
theorem dX2_readRow_112 : decode cX2_readRow 112 = .ok (.iadd, 1) := dk_96 (dk_at dksX2_readRow_4 18 rfl rfl)
theorem dX2_readRow_113 : decode cX2_readRow 113 = .ok (.istore 4, 2) := dk_54 4 (dk_at dksX2_readRow_4 19 rfl rfl)
theorem dX2_readRow_115 : decode cX2_readRow 115 = .ok (.aload_n 0, 1) := dk_42 (dk_at dksX2_readRow_4 21 rfl rfl)
theorem dX2_readRow_116 : decode cX2_readRow 116 = .ok (.getfield 33, 3) := dk_180 0 33 (dk_at dksX2_readRow_5 0 rfl rfl)
theorem dX2_readRow_119 : decode cX2_readRow 119 = .ok (.iload 4, 2) := dk_21 4 (dk_at dksX2_readRow_5 3 rfl rfl)
theorem dX2_readRow_121 : decode cX2_readRow 121 = .ok (.aload_n 0, 1) := dk_42 (dk_at dksX2_readRow_5 5 rfl rfl)
theorem dX2_readRow_122 : decode cX2_readRow 122 = .ok (.getfield 111, 3) := dk_180 0 111 (dk_at dksX2_readRow_5 6 rfl rfl)
theorem dX2_readRow_125 : decode cX2_readRow 125 = .ok (.iload_n 3, 1) := dk_29 (dk_at dksX2_readRow_5 9 rfl rfl)
theorem dX2_readRow_126 : decode cX2_readRow 126 = .ok (.iaload, 1) := dk_46 (dk_at dksX2_readRow_5 10 rfl rfl)
theorem dX2_readRow_127 : decode cX2_readRow 127 = .ok (.iastore, 1) := dk_79 (dk_at dksX2_readRow_5 11 rfl rfl)
theorem dX2_readRow_128 : decode cX2_readRow 128 = .ok (.aload_n 0, 1) := dk_42 (dk_at dksX2_readRow_5 12 rfl rfl)
theorem dX2_readRow_129 : decode cX2_readRow 129 = .ok (.getfield 36, 3) := dk_180 0 36 (dk_at dksX2_readRow_5 13 rfl rfl)
theorem dX2_readRow_132 : decode cX2_readRow 132 = .ok (.iload 4, 2) := dk_21 4 (dk_at dksX2_readRow_5 16 rfl rfl)
theorem dX2_readRow_134 : decode cX2_readRow 134 = .ok (.aload_n 0, 1) := dk_42 (dk_at dksX2_readRow_5 18 rfl rfl)
theorem dX2_readRow_135 : decode cX2_readRow 135 = .ok (.getfield 111, 3) := dk_180 0 111 (dk_at dksX2_readRow_5 19 rfl rfl)
theorem dX2_readRow_138 : decode cX2_readRow 138 = .ok (.iload_n 3, 1) := dk_29 (dk_at dksX2_readRow_5 22 rfl rfl)
theorem dX2_readRow_139 : decode cX2_readRow 139 = .ok (.iconst 1, 1) := dk_4 (dk_at dksX2_readRow_5 23 rfl rfl)
theorem dX2_readRow_140 : decode cX2_readRow 140 = .ok (.iadd, 1) := dk_96 (dk_at dksX2_readRow_6 0 rfl rfl)
theorem dX2_readRow_141 : decode cX2_readRow 141 = .ok (.iaload, 1) := dk_46 (dk_at dksX2_readRow_6 1 rfl rfl)
theorem dX2_readRow_142 : decode cX2_readRow 142 = .ok (.iastore, 1) := dk_79 (dk_at dksX2_readRow_6 2 rfl rfl)
theorem dX2_readRow_143 : decode cX2_readRow 143 = .ok (.aload_n 0, 1) := dk_42 (dk_at dksX2_readRow_6 3 rfl rfl)
theorem dX2_readRow_144 : decode cX2_readRow 144 = .ok (.getfield 39, 3) := dk_180 0 39 (dk_at dksX2_readRow_6 4 rfl rfl)
theorem dX2_readRow_147 : decode cX2_readRow 147 = .ok (.iload 4, 2) := dk_21 4 (dk_at dksX2_readRow_6 7 rfl rfl)
theorem dX2_readRow_149 : decode cX2_readRow 149 = .ok (.aload_n 0, 1) := dk_42 (dk_at dksX2_readRow_6 9 rfl rfl)
theorem dX2_readRow_150 : decode cX2_readRow 150 = .ok (.getfield 111, 3) := dk_180 0 111 (dk_at dksX2_readRow_6 10 rfl rfl)
theorem dX2_readRow_153 : decode cX2_readRow 153 = .ok (.iload_n 3, 1) := dk_29 (dk_at dksX2_readRow_6 13 rfl rfl)
theorem dX2_readRow_154 : decode cX2_readRow 154 = .ok (.iconst 2, 1) := dk_5 (dk_at dksX2_readRow_6 14 rfl rfl)
theorem dX2_readRow_155 : decode cX2_readRow 155 = .ok (.iadd, 1) := dk_96 (dk_at dksX2_readRow_6 15 rfl rfl)
theorem dX2_readRow_156 : decode cX2_readRow 156 = .ok (.iaload, 1) := dk_46 (dk_at dksX2_readRow_6 16 rfl rfl)
theorem dX2_readRow_157 : decode cX2_readRow 157 = .ok (.iastore, 1) := dk_79 (dk_at dksX2_readRow_6 17 rfl rfl)
theorem dX2_readRow_158 : decode cX2_readRow 158 = .ok (.aload_n 0, 1) := dk_42 (dk_at dksX2_readRow_6 18 rfl rfl)
theorem dX2_readRow_159 : decode cX2_readRow 159 = .ok (.getfield 30, 3) := dk_180 0 30 (dk_at dksX2_readRow_6 19 rfl rfl)
theorem dX2_readRow_162 : decode cX2_readRow 162 = .ok (.iload_n 2, 1) := dk_28 (dk_at dksX2_readRow_6 22 rfl rfl)
theorem dX2_readRow_163 : decode cX2_readRow 163 = .ok (.dup2, 1) := dk_92 (dk_at dksX2_readRow_6 23 rfl rfl)
theorem dX2_readRow_164 : decode cX2_readRow 164 = .ok (.iaload, 1) := dk_46 (dk_at dksX2_readRow_7 0 rfl rfl)
theorem dX2_readRow_165 : decode cX2_readRow 165 = .ok (.iconst 1, 1) := dk_4 (dk_at dksX2_readRow_7 1 rfl rfl)
theorem dX2_readRow_166 : decode cX2_readRow 166 = .ok (.iadd, 1) := dk_96 (dk_at dksX2_readRow_7 2 rfl rfl)
theorem dX2_readRow_167 : decode cX2_readRow 167 = .ok (.iastore, 1) := dk_79 (dk_at dksX2_readRow_7 3 rfl rfl)
theorem dX2_readRow_168 : decode cX2_readRow 168 = .ok (.iinc 3 3, 3) := dk_132 3 3 (dk_at dksX2_readRow_7 4 rfl rfl)
theorem dX2_readRow_171 : decode cX2_readRow 171 = .ok (.goto (-77), 3) := dk_167 255 179 (dk_at dksX2_readRow_7 7 rfl rfl)
theorem dX2_readRow_174 : decode cX2_readRow 174 = .ok (.aload_n 0, 1) := dk_42 (dk_at dksX2_readRow_7 10 rfl rfl)
theorem dX2_readRow_175 : decode cX2_readRow 175 = .ok (.iconst 0, 1) := dk_3 (dk_at dksX2_readRow_7 11 rfl rfl)
theorem dX2_readRow_176 : decode cX2_readRow 176 = .ok (.putfield 172, 3) := dk_181 0 172 (dk_at dksX2_readRow_7 12 rfl rfl)
theorem dX2_readRow_179 : decode cX2_readRow 179 = .ok (.iload_n 2, 1) := dk_28 (dk_at dksX2_readRow_7 15 rfl rfl)
theorem dX2_readRow_180 : decode cX2_readRow 180 = .ok (.ireturn, 1) := dk_172 (dk_at dksX2_readRow_7 16 rfl rfl)
abbrev cX2_read : ByteArray := prog_15_method_33_code
def yX2_read : MethodName := ⟨RX2, "read", "()I"⟩
def dkwX2_read_9 : List UInt8 := [182, 0, 178, 2, 172]
abbrev dktX2_read_9 : List UInt8 := dkwX2_read_9 ++ []
def dkwX2_read_8 : List UInt8 := [61, 132, 4, 1, 167, 255, 78, 28, 153, 0, 8, 27, 5, 162, 0, 8, 42, 180, 0, 172, 172, 42, 27, 29]
abbrev dktX2_read_8 : List UInt8 := dkwX2_read_8 ++ dktX2_read_9
def dkwX2_read_7 : List UInt8 := [5, 167, 0, 19, 6, 167, 0, 15, 21, 5, 16, 44, 160, 0, 7, 4, 167, 0, 4, 7, 60, 3, 62, 3]
abbrev dktX2_read_7 : List UInt8 := dkwX2_read_7 ++ dktX2_read_8
def dkwX2_read_6 : List UInt8 := [16, 58, 160, 0, 7, 4, 167, 0, 38, 21, 5, 16, 64, 160, 0, 19, 42, 180, 0, 175, 5, 160, 0, 7]
abbrev dktX2_read_6 : List UInt8 := dkwX2_read_6 ++ dktX2_read_7
def dkwX2_read_5 : List UInt8 := [4, 167, 0, 4, 3, 54, 6, 21, 6, 154, 0, 6, 21, 4, 172, 42, 27, 29, 182, 0, 178, 21, 5]
abbrev dktX2_read_5 : List UInt8 := dkwX2_read_5 ++ dktX2_read_6
def dkwX2_read_4 : List UInt8 := [21, 5, 16, 44, 160, 0, 8, 27, 5, 162, 0, 15, 21, 5, 16, 45, 160, 0, 12, 27, 6, 160, 0, 7]
abbrev dktX2_read_4 : List UInt8 := dkwX2_read_4 ++ dktX2_read_5
def dkwX2_read_3 : List UInt8 := [21, 5, 16, 58, 160, 0, 7, 27, 153, 0, 39, 21, 5, 16, 64, 160, 0, 8, 27, 4, 159, 0, 27]
abbrev dktX2_read_3 : List UInt8 := dkwX2_read_3 ++ dktX2_read_4
def dkwX2_read_2 : List UInt8 := [162, 0, 20, 16, 10, 29, 104, 21, 5, 96, 16, 48, 100, 62, 132, 2, 1, 167, 0, 126, 28, 158, 0, 54]
abbrev dktX2_read_2 : List UInt8 := dkwX2_read_2 ++ dktX2_read_3
def dkwX2_read_1 : List UInt8 := [180, 0, 54, 21, 4, 46, 54, 5, 21, 5, 16, 48, 16, 57, 184, 0, 126, 153, 0, 25, 28, 7]
abbrev dktX2_read_1 : List UInt8 := dkwX2_read_1 ++ dktX2_read_2
def dkwX2_read_0 : List UInt8 := [3, 60, 3, 61, 3, 62, 42, 3, 181, 0, 175, 3, 54, 4, 21, 4, 42, 180, 0, 172, 162, 0, 175, 42]
abbrev dktX2_read_0 : List UInt8 := dkwX2_read_0 ++ dktX2_read_1
theorem dksX2_read_0 : cX2_read.data.toList.drop 0 = dktX2_read_0 := by decide +kernel
theorem dksX2_read_1 : cX2_read.data.toList.drop 24 = dktX2_read_1 := dk_seg dksX2_read_0 24 rfl rfl
theorem dksX2_read_2 : cX2_read.data.toList.drop 46 = dktX2_read_2 := dk_seg dksX2_read_1 22 rfl rfl
theorem dksX2_read_3 : cX2_read.data.toList.drop 70 = dktX2_read_3 := dk_seg dksX2_read_2 24 rfl rfl
theorem dksX2_read_4 : cX2_read.data.toList.drop 93 = dktX2_read_4 := dk_seg dksX2_read_3 23 rfl rfl
theorem dksX2_read_5 : cX2_read.data.toList.drop 117 = dktX2_read_5 := dk_seg dksX2_read_4 24 rfl rfl
theorem dksX2_read_6 : cX2_read.data.toList.drop 140 = dktX2_read_6 := dk_seg dksX2_read_5 23 rfl rfl
theorem dksX2_read_7 : cX2_read.data.toList.drop 164 = dktX2_read_7 := dk_seg dksX2_read_6 24 rfl rfl
theorem dksX2_read_8 : cX2_read.data.toList.drop 188 = dktX2_read_8 := dk_seg dksX2_read_7 24 rfl rfl
theorem dksX2_read_9 : cX2_read.data.toList.drop 212 = dktX2_read_9 := dk_seg dksX2_read_8 24 rfl rfl
theorem dX2_read_0 : decode cX2_read 0 = .ok (.iconst 0, 1) := dk_3 (dk_at dksX2_read_0 0 rfl rfl)
theorem dX2_read_1 : decode cX2_read 1 = .ok (.istore_n 1, 1) := dk_60 (dk_at dksX2_read_0 1 rfl rfl)
theorem dX2_read_2 : decode cX2_read 2 = .ok (.iconst 0, 1) := dk_3 (dk_at dksX2_read_0 2 rfl rfl)
theorem dX2_read_3 : decode cX2_read 3 = .ok (.istore_n 2, 1) := dk_61 (dk_at dksX2_read_0 3 rfl rfl)
theorem dX2_read_4 : decode cX2_read 4 = .ok (.iconst 0, 1) := dk_3 (dk_at dksX2_read_0 4 rfl rfl)
theorem dX2_read_5 : decode cX2_read 5 = .ok (.istore_n 3, 1) := dk_62 (dk_at dksX2_read_0 5 rfl rfl)
theorem dX2_read_6 : decode cX2_read 6 = .ok (.aload_n 0, 1) := dk_42 (dk_at dksX2_read_0 6 rfl rfl)
theorem dX2_read_7 : decode cX2_read 7 = .ok (.iconst 0, 1) := dk_3 (dk_at dksX2_read_0 7 rfl rfl)
theorem dX2_read_8 : decode cX2_read 8 = .ok (.putfield 175, 3) := dk_181 0 175 (dk_at dksX2_read_0 8 rfl rfl)
theorem dX2_read_11 : decode cX2_read 11 = .ok (.iconst 0, 1) := dk_3 (dk_at dksX2_read_0 11 rfl rfl)
theorem dX2_read_12 : decode cX2_read 12 = .ok (.istore 4, 2) := dk_54 4 (dk_at dksX2_read_0 12 rfl rfl)
theorem dX2_read_14 : decode cX2_read 14 = .ok (.iload 4, 2) := dk_21 4 (dk_at dksX2_read_0 14 rfl rfl)
theorem dX2_read_16 : decode cX2_read 16 = .ok (.aload_n 0, 1) := dk_42 (dk_at dksX2_read_0 16 rfl rfl)
theorem dX2_read_17 : decode cX2_read 17 = .ok (.getfield 172, 3) := dk_180 0 172 (dk_at dksX2_read_0 17 rfl rfl)
theorem dX2_read_20 : decode cX2_read 20 = .ok (.if_icmp .ge 175, 3) := dk_162 0 175 (dk_at dksX2_read_0 20 rfl rfl)
theorem dX2_read_23 : decode cX2_read 23 = .ok (.aload_n 0, 1) := dk_42 (dk_at dksX2_read_0 23 rfl rfl)
theorem dX2_read_24 : decode cX2_read 24 = .ok (.getfield 54, 3) := dk_180 0 54 (dk_at dksX2_read_1 0 rfl rfl)
theorem dX2_read_27 : decode cX2_read 27 = .ok (.iload 4, 2) := dk_21 4 (dk_at dksX2_read_1 3 rfl rfl)
theorem dX2_read_29 : decode cX2_read 29 = .ok (.iaload, 1) := dk_46 (dk_at dksX2_read_1 5 rfl rfl)
theorem dX2_read_30 : decode cX2_read 30 = .ok (.istore 5, 2) := dk_54 5 (dk_at dksX2_read_1 6 rfl rfl)
theorem dX2_read_32 : decode cX2_read 32 = .ok (.iload 5, 2) := dk_21 5 (dk_at dksX2_read_1 8 rfl rfl)
theorem dX2_read_34 : decode cX2_read 34 = .ok (.bipush 48, 2) := dk_16 48 (dk_at dksX2_read_1 10 rfl rfl)
theorem dX2_read_36 : decode cX2_read 36 = .ok (.bipush 57, 2) := dk_16 57 (dk_at dksX2_read_1 12 rfl rfl)
theorem dX2_read_38 : decode cX2_read 38 = .ok (.invokestatic 126, 3) := dk_184 0 126 (dk_at dksX2_read_1 14 rfl rfl)
theorem dX2_read_41 : decode cX2_read 41 = .ok (.ifCond .eq 25, 3) := dk_153 0 25 (dk_at dksX2_read_1 17 rfl rfl)
theorem dX2_read_44 : decode cX2_read 44 = .ok (.iload_n 2, 1) := dk_28 (dk_at dksX2_read_1 20 rfl rfl)
theorem dX2_read_45 : decode cX2_read 45 = .ok (.iconst 4, 1) := dk_7 (dk_at dksX2_read_1 21 rfl rfl)
theorem dX2_read_46 : decode cX2_read 46 = .ok (.if_icmp .ge 20, 3) := dk_162 0 20 (dk_at dksX2_read_2 0 rfl rfl)
theorem dX2_read_49 : decode cX2_read 49 = .ok (.bipush 10, 2) := dk_16 10 (dk_at dksX2_read_2 3 rfl rfl)
theorem dX2_read_51 : decode cX2_read 51 = .ok (.iload_n 3, 1) := dk_29 (dk_at dksX2_read_2 5 rfl rfl)
theorem dX2_read_52 : decode cX2_read 52 = .ok (.imul, 1) := dk_104 (dk_at dksX2_read_2 6 rfl rfl)
theorem dX2_read_53 : decode cX2_read 53 = .ok (.iload 5, 2) := dk_21 5 (dk_at dksX2_read_2 7 rfl rfl)
theorem dX2_read_55 : decode cX2_read 55 = .ok (.iadd, 1) := dk_96 (dk_at dksX2_read_2 9 rfl rfl)
theorem dX2_read_56 : decode cX2_read 56 = .ok (.bipush 48, 2) := dk_16 48 (dk_at dksX2_read_2 10 rfl rfl)
theorem dX2_read_58 : decode cX2_read 58 = .ok (.isub, 1) := dk_100 (dk_at dksX2_read_2 12 rfl rfl)
theorem dX2_read_59 : decode cX2_read 59 = .ok (.istore_n 3, 1) := dk_62 (dk_at dksX2_read_2 13 rfl rfl)
theorem dX2_read_60 : decode cX2_read 60 = .ok (.iinc 2 1, 3) := dk_132 2 1 (dk_at dksX2_read_2 14 rfl rfl)
theorem dX2_read_63 : decode cX2_read 63 = .ok (.goto 126, 3) := dk_167 0 126 (dk_at dksX2_read_2 17 rfl rfl)
theorem dX2_read_66 : decode cX2_read 66 = .ok (.iload_n 2, 1) := dk_28 (dk_at dksX2_read_2 20 rfl rfl)
theorem dX2_read_67 : decode cX2_read 67 = .ok (.ifCond .le 54, 3) := dk_158 0 54 (dk_at dksX2_read_2 21 rfl rfl)
theorem dX2_read_70 : decode cX2_read 70 = .ok (.iload 5, 2) := dk_21 5 (dk_at dksX2_read_3 0 rfl rfl)
theorem dX2_read_72 : decode cX2_read 72 = .ok (.bipush 58, 2) := dk_16 58 (dk_at dksX2_read_3 2 rfl rfl)
theorem dX2_read_74 : decode cX2_read 74 = .ok (.if_icmp .ne 7, 3) := dk_160 0 7 (dk_at dksX2_read_3 4 rfl rfl)
theorem dX2_read_77 : decode cX2_read 77 = .ok (.iload_n 1, 1) := dk_27 (dk_at dksX2_read_3 7 rfl rfl)
theorem dX2_read_78 : decode cX2_read 78 = .ok (.ifCond .eq 39, 3) := dk_153 0 39 (dk_at dksX2_read_3 8 rfl rfl)
theorem dX2_read_81 : decode cX2_read 81 = .ok (.iload 5, 2) := dk_21 5 (dk_at dksX2_read_3 11 rfl rfl)
theorem dX2_read_83 : decode cX2_read 83 = .ok (.bipush 64, 2) := dk_16 64 (dk_at dksX2_read_3 13 rfl rfl)
theorem dX2_read_85 : decode cX2_read 85 = .ok (.if_icmp .ne 8, 3) := dk_160 0 8 (dk_at dksX2_read_3 15 rfl rfl)
theorem dX2_read_88 : decode cX2_read 88 = .ok (.iload_n 1, 1) := dk_27 (dk_at dksX2_read_3 18 rfl rfl)
theorem dX2_read_89 : decode cX2_read 89 = .ok (.iconst 1, 1) := dk_4 (dk_at dksX2_read_3 19 rfl rfl)
theorem dX2_read_90 : decode cX2_read 90 = .ok (.if_icmp .eq 27, 3) := dk_159 0 27 (dk_at dksX2_read_3 20 rfl rfl)
theorem dX2_read_93 : decode cX2_read 93 = .ok (.iload 5, 2) := dk_21 5 (dk_at dksX2_read_4 0 rfl rfl)
theorem dX2_read_95 : decode cX2_read 95 = .ok (.bipush 44, 2) := dk_16 44 (dk_at dksX2_read_4 2 rfl rfl)
theorem dX2_read_97 : decode cX2_read 97 = .ok (.if_icmp .ne 8, 3) := dk_160 0 8 (dk_at dksX2_read_4 4 rfl rfl)
theorem dX2_read_100 : decode cX2_read 100 = .ok (.iload_n 1, 1) := dk_27 (dk_at dksX2_read_4 7 rfl rfl)
theorem dX2_read_101 : decode cX2_read 101 = .ok (.iconst 2, 1) := dk_5 (dk_at dksX2_read_4 8 rfl rfl)
theorem dX2_read_102 : decode cX2_read 102 = .ok (.if_icmp .ge 15, 3) := dk_162 0 15 (dk_at dksX2_read_4 9 rfl rfl)
theorem dX2_read_105 : decode cX2_read 105 = .ok (.iload 5, 2) := dk_21 5 (dk_at dksX2_read_4 12 rfl rfl)
theorem dX2_read_107 : decode cX2_read 107 = .ok (.bipush 45, 2) := dk_16 45 (dk_at dksX2_read_4 14 rfl rfl)
theorem dX2_read_109 : decode cX2_read 109 = .ok (.if_icmp .ne 12, 3) := dk_160 0 12 (dk_at dksX2_read_4 16 rfl rfl)
theorem dX2_read_112 : decode cX2_read 112 = .ok (.iload_n 1, 1) := dk_27 (dk_at dksX2_read_4 19 rfl rfl)
theorem dX2_read_113 : decode cX2_read 113 = .ok (.iconst 3, 1) := dk_6 (dk_at dksX2_read_4 20 rfl rfl)
theorem dX2_read_114 : decode cX2_read 114 = .ok (.if_icmp .ne 7, 3) := dk_160 0 7 (dk_at dksX2_read_4 21 rfl rfl)
theorem dX2_read_117 : decode cX2_read 117 = .ok (.iconst 1, 1) := dk_4 (dk_at dksX2_read_5 0 rfl rfl)
theorem dX2_read_118 : decode cX2_read 118 = .ok (.goto 4, 3) := dk_167 0 4 (dk_at dksX2_read_5 1 rfl rfl)
theorem dX2_read_121 : decode cX2_read 121 = .ok (.iconst 0, 1) := dk_3 (dk_at dksX2_read_5 4 rfl rfl)
theorem dX2_read_122 : decode cX2_read 122 = .ok (.istore 6, 2) := dk_54 6 (dk_at dksX2_read_5 5 rfl rfl)
theorem dX2_read_124 : decode cX2_read 124 = .ok (.iload 6, 2) := dk_21 6 (dk_at dksX2_read_5 7 rfl rfl)
theorem dX2_read_126 : decode cX2_read 126 = .ok (.ifCond .ne 6, 3) := dk_154 0 6 (dk_at dksX2_read_5 9 rfl rfl)
theorem dX2_read_129 : decode cX2_read 129 = .ok (.iload 4, 2) := dk_21 4 (dk_at dksX2_read_5 12 rfl rfl)
theorem dX2_read_131 : decode cX2_read 131 = .ok (.ireturn, 1) := dk_172 (dk_at dksX2_read_5 14 rfl rfl)
theorem dX2_read_132 : decode cX2_read 132 = .ok (.aload_n 0, 1) := dk_42 (dk_at dksX2_read_5 15 rfl rfl)
theorem dX2_read_133 : decode cX2_read 133 = .ok (.iload_n 1, 1) := dk_27 (dk_at dksX2_read_5 16 rfl rfl)
theorem dX2_read_134 : decode cX2_read 134 = .ok (.iload_n 3, 1) := dk_29 (dk_at dksX2_read_5 17 rfl rfl)
theorem dX2_read_135 : decode cX2_read 135 = .ok (.invokevirtual 178, 3) := dk_182 0 178 (dk_at dksX2_read_5 18 rfl rfl)
theorem dX2_read_138 : decode cX2_read 138 = .ok (.iload 5, 2) := dk_21 5 (dk_at dksX2_read_5 21 rfl rfl)
theorem dX2_read_140 : decode cX2_read 140 = .ok (.bipush 58, 2) := dk_16 58 (dk_at dksX2_read_6 0 rfl rfl)
theorem dX2_read_142 : decode cX2_read 142 = .ok (.if_icmp .ne 7, 3) := dk_160 0 7 (dk_at dksX2_read_6 2 rfl rfl)
theorem dX2_read_145 : decode cX2_read 145 = .ok (.iconst 1, 1) := dk_4 (dk_at dksX2_read_6 5 rfl rfl)
theorem dX2_read_146 : decode cX2_read 146 = .ok (.goto 38, 3) := dk_167 0 38 (dk_at dksX2_read_6 6 rfl rfl)
theorem dX2_read_149 : decode cX2_read 149 = .ok (.iload 5, 2) := dk_21 5 (dk_at dksX2_read_6 9 rfl rfl)
theorem dX2_read_151 : decode cX2_read 151 = .ok (.bipush 64, 2) := dk_16 64 (dk_at dksX2_read_6 11 rfl rfl)
theorem dX2_read_153 : decode cX2_read 153 = .ok (.if_icmp .ne 19, 3) := dk_160 0 19 (dk_at dksX2_read_6 13 rfl rfl)
theorem dX2_read_156 : decode cX2_read 156 = .ok (.aload_n 0, 1) := dk_42 (dk_at dksX2_read_6 16 rfl rfl)
theorem dX2_read_157 : decode cX2_read 157 = .ok (.getfield 175, 3) := dk_180 0 175 (dk_at dksX2_read_6 17 rfl rfl)
theorem dX2_read_160 : decode cX2_read 160 = .ok (.iconst 2, 1) := dk_5 (dk_at dksX2_read_6 20 rfl rfl)
theorem dX2_read_161 : decode cX2_read 161 = .ok (.if_icmp .ne 7, 3) := dk_160 0 7 (dk_at dksX2_read_6 21 rfl rfl)
theorem dX2_read_164 : decode cX2_read 164 = .ok (.iconst 2, 1) := dk_5 (dk_at dksX2_read_7 0 rfl rfl)
theorem dX2_read_165 : decode cX2_read 165 = .ok (.goto 19, 3) := dk_167 0 19 (dk_at dksX2_read_7 1 rfl rfl)
theorem dX2_read_168 : decode cX2_read 168 = .ok (.iconst 3, 1) := dk_6 (dk_at dksX2_read_7 4 rfl rfl)
theorem dX2_read_169 : decode cX2_read 169 = .ok (.goto 15, 3) := dk_167 0 15 (dk_at dksX2_read_7 5 rfl rfl)
theorem dX2_read_172 : decode cX2_read 172 = .ok (.iload 5, 2) := dk_21 5 (dk_at dksX2_read_7 8 rfl rfl)
theorem dX2_read_174 : decode cX2_read 174 = .ok (.bipush 44, 2) := dk_16 44 (dk_at dksX2_read_7 10 rfl rfl)
theorem dX2_read_176 : decode cX2_read 176 = .ok (.if_icmp .ne 7, 3) := dk_160 0 7 (dk_at dksX2_read_7 12 rfl rfl)
theorem dX2_read_179 : decode cX2_read 179 = .ok (.iconst 1, 1) := dk_4 (dk_at dksX2_read_7 15 rfl rfl)
theorem dX2_read_180 : decode cX2_read 180 = .ok (.goto 4, 3) := dk_167 0 4 (dk_at dksX2_read_7 16 rfl rfl)
theorem dX2_read_183 : decode cX2_read 183 = .ok (.iconst 4, 1) := dk_7 (dk_at dksX2_read_7 19 rfl rfl)
theorem dX2_read_184 : decode cX2_read 184 = .ok (.istore_n 1, 1) := dk_60 (dk_at dksX2_read_7 20 rfl rfl)
theorem dX2_read_185 : decode cX2_read 185 = .ok (.iconst 0, 1) := dk_3 (dk_at dksX2_read_7 21 rfl rfl)
theorem dX2_read_186 : decode cX2_read 186 = .ok (.istore_n 3, 1) := dk_62 (dk_at dksX2_read_7 22 rfl rfl)
theorem dX2_read_187 : decode cX2_read 187 = .ok (.iconst 0, 1) := dk_3 (dk_at dksX2_read_7 23 rfl rfl)
theorem dX2_read_188 : decode cX2_read 188 = .ok (.istore_n 2, 1) := dk_61 (dk_at dksX2_read_8 0 rfl rfl)
theorem dX2_read_189 : decode cX2_read 189 = .ok (.iinc 4 1, 3) := dk_132 4 1 (dk_at dksX2_read_8 1 rfl rfl)
theorem dX2_read_192 : decode cX2_read 192 = .ok (.goto (-178), 3) := dk_167 255 78 (dk_at dksX2_read_8 4 rfl rfl)
theorem dX2_read_195 : decode cX2_read 195 = .ok (.iload_n 2, 1) := dk_28 (dk_at dksX2_read_8 7 rfl rfl)
theorem dX2_read_196 : decode cX2_read 196 = .ok (.ifCond .eq 8, 3) := dk_153 0 8 (dk_at dksX2_read_8 8 rfl rfl)
theorem dX2_read_199 : decode cX2_read 199 = .ok (.iload_n 1, 1) := dk_27 (dk_at dksX2_read_8 11 rfl rfl)
theorem dX2_read_200 : decode cX2_read 200 = .ok (.iconst 2, 1) := dk_5 (dk_at dksX2_read_8 12 rfl rfl)
theorem dX2_read_201 : decode cX2_read 201 = .ok (.if_icmp .ge 8, 3) := dk_162 0 8 (dk_at dksX2_read_8 13 rfl rfl)
theorem dX2_read_204 : decode cX2_read 204 = .ok (.aload_n 0, 1) := dk_42 (dk_at dksX2_read_8 16 rfl rfl)
theorem dX2_read_205 : decode cX2_read 205 = .ok (.getfield 172, 3) := dk_180 0 172 (dk_at dksX2_read_8 17 rfl rfl)
theorem dX2_read_208 : decode cX2_read 208 = .ok (.ireturn, 1) := dk_172 (dk_at dksX2_read_8 20 rfl rfl)
theorem dX2_read_209 : decode cX2_read 209 = .ok (.aload_n 0, 1) := dk_42 (dk_at dksX2_read_8 21 rfl rfl)
theorem dX2_read_210 : decode cX2_read 210 = .ok (.iload_n 1, 1) := dk_27 (dk_at dksX2_read_8 22 rfl rfl)
theorem dX2_read_211 : decode cX2_read 211 = .ok (.iload_n 3, 1) := dk_29 (dk_at dksX2_read_8 23 rfl rfl)
theorem dX2_read_212 : decode cX2_read 212 = .ok (.invokevirtual 178, 3) := dk_182 0 178 (dk_at dksX2_read_9 0 rfl rfl)
theorem dX2_read_215 : decode cX2_read 215 = .ok (.iconst (-1), 1) := dk_2 (dk_at dksX2_read_9 3 rfl rfl)
theorem dX2_read_216 : decode cX2_read 216 = .ok (.ireturn, 1) := dk_172 (dk_at dksX2_read_9 4 rfl rfl)
abbrev cX2_told : ByteArray := prog_15_method_34_code
def yX2_told : MethodName := ⟨RX2, "told", "(II)V"⟩
def dkwX2_told_3 : List UInt8 := [180, 0, 175, 4, 96, 181, 0, 175, 177]
abbrev dktX2_told_3 : List UInt8 := dkwX2_told_3 ++ []
def dkwX2_told_2 : List UInt8 := [27, 5, 159, 0, 8, 27, 6, 160, 0, 23, 42, 180, 0, 111, 42, 180, 0, 175, 28, 79, 42, 89]
abbrev dktX2_told_2 : List UInt8 := dkwX2_told_2 ++ dktX2_told_3
def dkwX2_told_1 : List UInt8 := [100, 28, 79, 177, 42, 180, 0, 111, 42, 180, 0, 175, 28, 79, 42, 89, 180, 0, 175, 4, 96, 181, 0, 175]
abbrev dktX2_told_1 : List UInt8 := dkwX2_told_1 ++ dktX2_told_2
def dkwX2_told_0 : List UInt8 := [42, 180, 0, 175, 16, 26, 164, 0, 4, 177, 27, 7, 160, 0, 16, 42, 180, 0, 111, 42, 180, 0, 175, 4]
abbrev dktX2_told_0 : List UInt8 := dkwX2_told_0 ++ dktX2_told_1
theorem dksX2_told_0 : cX2_told.data.toList.drop 0 = dktX2_told_0 := by decide +kernel
theorem dksX2_told_1 : cX2_told.data.toList.drop 24 = dktX2_told_1 := dk_seg dksX2_told_0 24 rfl rfl
theorem dksX2_told_2 : cX2_told.data.toList.drop 48 = dktX2_told_2 := dk_seg dksX2_told_1 24 rfl rfl
theorem dksX2_told_3 : cX2_told.data.toList.drop 70 = dktX2_told_3 := dk_seg dksX2_told_2 22 rfl rfl
theorem dX2_told_0 : decode cX2_told 0 = .ok (.aload_n 0, 1) := dk_42 (dk_at dksX2_told_0 0 rfl rfl)
theorem dX2_told_1 : decode cX2_told 1 = .ok (.getfield 175, 3) := dk_180 0 175 (dk_at dksX2_told_0 1 rfl rfl)
theorem dX2_told_4 : decode cX2_told 4 = .ok (.bipush 26, 2) := dk_16 26 (dk_at dksX2_told_0 4 rfl rfl)
theorem dX2_told_6 : decode cX2_told 6 = .ok (.if_icmp .le 4, 3) := dk_164 0 4 (dk_at dksX2_told_0 6 rfl rfl)
theorem dX2_told_9 : decode cX2_told 9 = .ok (.return_, 1) := dk_177 (dk_at dksX2_told_0 9 rfl rfl)
theorem dX2_told_10 : decode cX2_told 10 = .ok (.iload_n 1, 1) := dk_27 (dk_at dksX2_told_0 10 rfl rfl)
theorem dX2_told_11 : decode cX2_told 11 = .ok (.iconst 4, 1) := dk_7 (dk_at dksX2_told_0 11 rfl rfl)
theorem dX2_told_12 : decode cX2_told 12 = .ok (.if_icmp .ne 16, 3) := dk_160 0 16 (dk_at dksX2_told_0 12 rfl rfl)
theorem dX2_told_15 : decode cX2_told 15 = .ok (.aload_n 0, 1) := dk_42 (dk_at dksX2_told_0 15 rfl rfl)
theorem dX2_told_16 : decode cX2_told 16 = .ok (.getfield 111, 3) := dk_180 0 111 (dk_at dksX2_told_0 16 rfl rfl)
theorem dX2_told_19 : decode cX2_told 19 = .ok (.aload_n 0, 1) := dk_42 (dk_at dksX2_told_0 19 rfl rfl)
theorem dX2_told_20 : decode cX2_told 20 = .ok (.getfield 175, 3) := dk_180 0 175 (dk_at dksX2_told_0 20 rfl rfl)
theorem dX2_told_23 : decode cX2_told 23 = .ok (.iconst 1, 1) := dk_4 (dk_at dksX2_told_0 23 rfl rfl)
theorem dX2_told_24 : decode cX2_told 24 = .ok (.isub, 1) := dk_100 (dk_at dksX2_told_1 0 rfl rfl)
theorem dX2_told_25 : decode cX2_told 25 = .ok (.iload_n 2, 1) := dk_28 (dk_at dksX2_told_1 1 rfl rfl)
theorem dX2_told_26 : decode cX2_told 26 = .ok (.iastore, 1) := dk_79 (dk_at dksX2_told_1 2 rfl rfl)
theorem dX2_told_27 : decode cX2_told 27 = .ok (.return_, 1) := dk_177 (dk_at dksX2_told_1 3 rfl rfl)
theorem dX2_told_28 : decode cX2_told 28 = .ok (.aload_n 0, 1) := dk_42 (dk_at dksX2_told_1 4 rfl rfl)
theorem dX2_told_29 : decode cX2_told 29 = .ok (.getfield 111, 3) := dk_180 0 111 (dk_at dksX2_told_1 5 rfl rfl)
theorem dX2_told_32 : decode cX2_told 32 = .ok (.aload_n 0, 1) := dk_42 (dk_at dksX2_told_1 8 rfl rfl)
theorem dX2_told_33 : decode cX2_told 33 = .ok (.getfield 175, 3) := dk_180 0 175 (dk_at dksX2_told_1 9 rfl rfl)
theorem dX2_told_36 : decode cX2_told 36 = .ok (.iload_n 2, 1) := dk_28 (dk_at dksX2_told_1 12 rfl rfl)
theorem dX2_told_37 : decode cX2_told 37 = .ok (.iastore, 1) := dk_79 (dk_at dksX2_told_1 13 rfl rfl)
theorem dX2_told_38 : decode cX2_told 38 = .ok (.aload_n 0, 1) := dk_42 (dk_at dksX2_told_1 14 rfl rfl)
theorem dX2_told_39 : decode cX2_told 39 = .ok (.dup, 1) := dk_89 (dk_at dksX2_told_1 15 rfl rfl)
theorem dX2_told_40 : decode cX2_told 40 = .ok (.getfield 175, 3) := dk_180 0 175 (dk_at dksX2_told_1 16 rfl rfl)
theorem dX2_told_43 : decode cX2_told 43 = .ok (.iconst 1, 1) := dk_4 (dk_at dksX2_told_1 19 rfl rfl)
theorem dX2_told_44 : decode cX2_told 44 = .ok (.iadd, 1) := dk_96 (dk_at dksX2_told_1 20 rfl rfl)
theorem dX2_told_45 : decode cX2_told 45 = .ok (.putfield 175, 3) := dk_181 0 175 (dk_at dksX2_told_1 21 rfl rfl)
theorem dX2_told_48 : decode cX2_told 48 = .ok (.iload_n 1, 1) := dk_27 (dk_at dksX2_told_2 0 rfl rfl)
theorem dX2_told_49 : decode cX2_told 49 = .ok (.iconst 2, 1) := dk_5 (dk_at dksX2_told_2 1 rfl rfl)
theorem dX2_told_50 : decode cX2_told 50 = .ok (.if_icmp .eq 8, 3) := dk_159 0 8 (dk_at dksX2_told_2 2 rfl rfl)
theorem dX2_told_53 : decode cX2_told 53 = .ok (.iload_n 1, 1) := dk_27 (dk_at dksX2_told_2 5 rfl rfl)
theorem dX2_told_54 : decode cX2_told 54 = .ok (.iconst 3, 1) := dk_6 (dk_at dksX2_told_2 6 rfl rfl)
theorem dX2_told_55 : decode cX2_told 55 = .ok (.if_icmp .ne 23, 3) := dk_160 0 23 (dk_at dksX2_told_2 7 rfl rfl)
theorem dX2_told_58 : decode cX2_told 58 = .ok (.aload_n 0, 1) := dk_42 (dk_at dksX2_told_2 10 rfl rfl)
theorem dX2_told_59 : decode cX2_told 59 = .ok (.getfield 111, 3) := dk_180 0 111 (dk_at dksX2_told_2 11 rfl rfl)
theorem dX2_told_62 : decode cX2_told 62 = .ok (.aload_n 0, 1) := dk_42 (dk_at dksX2_told_2 14 rfl rfl)
theorem dX2_told_63 : decode cX2_told 63 = .ok (.getfield 175, 3) := dk_180 0 175 (dk_at dksX2_told_2 15 rfl rfl)
theorem dX2_told_66 : decode cX2_told 66 = .ok (.iload_n 2, 1) := dk_28 (dk_at dksX2_told_2 18 rfl rfl)
theorem dX2_told_67 : decode cX2_told 67 = .ok (.iastore, 1) := dk_79 (dk_at dksX2_told_2 19 rfl rfl)
theorem dX2_told_68 : decode cX2_told 68 = .ok (.aload_n 0, 1) := dk_42 (dk_at dksX2_told_2 20 rfl rfl)
theorem dX2_told_69 : decode cX2_told 69 = .ok (.dup, 1) := dk_89 (dk_at dksX2_told_2 21 rfl rfl)
theorem dX2_told_70 : decode cX2_told 70 = .ok (.getfield 175, 3) := dk_180 0 175 (dk_at dksX2_told_3 0 rfl rfl)
theorem dX2_told_73 : decode cX2_told 73 = .ok (.iconst 1, 1) := dk_4 (dk_at dksX2_told_3 3 rfl rfl)
theorem dX2_told_74 : decode cX2_told 74 = .ok (.iadd, 1) := dk_96 (dk_at dksX2_told_3 4 rfl rfl)
theorem dX2_told_75 : decode cX2_told 75 = .ok (.putfield 175, 3) := dk_181 0 175 (dk_at dksX2_told_3 5 rfl rfl)
theorem dX2_told_78 : decode cX2_told 78 = .ok (.return_, 1) := dk_177 (dk_at dksX2_told_3 8 rfl rfl)
abbrev cX2_isRowWrong : ByteArray := prog_15_method_35_code
def yX2_isRowWrong : MethodName := ⟨RX2, "isRowWrong", "()Z"⟩
def dkwX2_isRowWrong_7 : List UInt8 := [21, 4, 6, 100, 46, 160, 0, 7, 4, 167, 0, 4, 3, 128, 61, 132, 3, 1, 167, 255, 110, 28, 172]
abbrev dktX2_isRowWrong_7 : List UInt8 := dkwX2_isRowWrong_7 ++ []
def dkwX2_isRowWrong_6 : List UInt8 := [42, 180, 0, 111, 21, 4, 4, 100, 46, 164, 0, 22, 42, 180, 0, 111, 21, 4, 46, 42, 180, 0, 111]
abbrev dktX2_isRowWrong_6 : List UInt8 := dkwX2_isRowWrong_6 ++ dktX2_isRowWrong_7
def dkwX2_isRowWrong_5 : List UInt8 := [162, 0, 7, 4, 167, 0, 4, 3, 128, 61, 28, 29, 158, 0, 47, 42, 180, 0, 111, 21, 4, 4, 96, 46]
abbrev dktX2_isRowWrong_5 : List UInt8 := dkwX2_isRowWrong_5 ++ dktX2_isRowWrong_6
def dkwX2_isRowWrong_4 : List UInt8 := [17, 11, 63, 163, 0, 24, 42, 180, 0, 111, 21, 4, 5, 96, 46, 42, 180, 0, 111, 21, 4, 4, 96, 46]
abbrev dktX2_isRowWrong_4 : List UInt8 := dkwX2_isRowWrong_4 ++ dktX2_isRowWrong_5
def dkwX2_isRowWrong_3 : List UInt8 := [180, 0, 111, 21, 4, 4, 96, 46, 17, 11, 63, 163, 0, 39, 42, 180, 0, 111, 21, 4, 5, 96, 46]
abbrev dktX2_isRowWrong_3 : List UInt8 := dkwX2_isRowWrong_3 ++ dktX2_isRowWrong_4
def dkwX2_isRowWrong_2 : List UInt8 := [4, 6, 29, 104, 96, 54, 4, 28, 42, 180, 0, 111, 21, 4, 46, 42, 180, 0, 123, 162, 0, 54, 42]
abbrev dktX2_isRowWrong_2 : List UInt8 := dkwX2_isRowWrong_2 ++ dktX2_isRowWrong_3
def dkwX2_isRowWrong_1 : List UInt8 := [16, 8, 164, 0, 7, 4, 167, 0, 4, 3, 61, 3, 62, 29, 27, 162, 0, 147, 29, 16, 8, 162, 0, 141]
abbrev dktX2_isRowWrong_1 : List UInt8 := dkwX2_isRowWrong_1 ++ dktX2_isRowWrong_2
def dkwX2_isRowWrong_0 : List UInt8 := [42, 180, 0, 175, 4, 100, 6, 108, 60, 42, 180, 0, 111, 3, 46, 42, 180, 0, 134, 162, 0, 9, 27]
abbrev dktX2_isRowWrong_0 : List UInt8 := dkwX2_isRowWrong_0 ++ dktX2_isRowWrong_1
theorem dksX2_isRowWrong_0 : cX2_isRowWrong.data.toList.drop 0 = dktX2_isRowWrong_0 := by decide +kernel
theorem dksX2_isRowWrong_1 : cX2_isRowWrong.data.toList.drop 23 = dktX2_isRowWrong_1 := dk_seg dksX2_isRowWrong_0 23 rfl rfl
theorem dksX2_isRowWrong_2 : cX2_isRowWrong.data.toList.drop 47 = dktX2_isRowWrong_2 := dk_seg dksX2_isRowWrong_1 24 rfl rfl
theorem dksX2_isRowWrong_3 : cX2_isRowWrong.data.toList.drop 70 = dktX2_isRowWrong_3 := dk_seg dksX2_isRowWrong_2 23 rfl rfl
theorem dksX2_isRowWrong_4 : cX2_isRowWrong.data.toList.drop 93 = dktX2_isRowWrong_4 := dk_seg dksX2_isRowWrong_3 23 rfl rfl
theorem dksX2_isRowWrong_5 : cX2_isRowWrong.data.toList.drop 117 = dktX2_isRowWrong_5 := dk_seg dksX2_isRowWrong_4 24 rfl rfl
theorem dksX2_isRowWrong_6 : cX2_isRowWrong.data.toList.drop 141 = dktX2_isRowWrong_6 := dk_seg dksX2_isRowWrong_5 24 rfl rfl
theorem dksX2_isRowWrong_7 : cX2_isRowWrong.data.toList.drop 164 = dktX2_isRowWrong_7 := dk_seg dksX2_isRowWrong_6 23 rfl rfl
theorem dX2_isRowWrong_0 : decode cX2_isRowWrong 0 = .ok (.aload_n 0, 1) := dk_42 (dk_at dksX2_isRowWrong_0 0 rfl rfl)
theorem dX2_isRowWrong_1 : decode cX2_isRowWrong 1 = .ok (.getfield 175, 3) := dk_180 0 175 (dk_at dksX2_isRowWrong_0 1 rfl rfl)
theorem dX2_isRowWrong_4 : decode cX2_isRowWrong 4 = .ok (.iconst 1, 1) := dk_4 (dk_at dksX2_isRowWrong_0 4 rfl rfl)
theorem dX2_isRowWrong_5 : decode cX2_isRowWrong 5 = .ok (.isub, 1) := dk_100 (dk_at dksX2_isRowWrong_0 5 rfl rfl)
theorem dX2_isRowWrong_6 : decode cX2_isRowWrong 6 = .ok (.iconst 3, 1) := dk_6 (dk_at dksX2_isRowWrong_0 6 rfl rfl)
theorem dX2_isRowWrong_7 : decode cX2_isRowWrong 7 = .ok (.idiv, 1) := dk_108 (dk_at dksX2_isRowWrong_0 7 rfl rfl)
theorem dX2_isRowWrong_8 : decode cX2_isRowWrong 8 = .ok (.istore_n 1, 1) := dk_60 (dk_at dksX2_isRowWrong_0 8 rfl rfl)
theorem dX2_isRowWrong_9 : decode cX2_isRowWrong 9 = .ok (.aload_n 0, 1) := dk_42 (dk_at dksX2_isRowWrong_0 9 rfl rfl)
theorem dX2_isRowWrong_10 : decode cX2_isRowWrong 10 = .ok (.getfield 111, 3) := dk_180 0 111 (dk_at dksX2_isRowWrong_0 10 rfl rfl)
theorem dX2_isRowWrong_13 : decode cX2_isRowWrong 13 = .ok (.iconst 0, 1) := dk_3 (dk_at dksX2_isRowWrong_0 13 rfl rfl)
theorem dX2_isRowWrong_14 : decode cX2_isRowWrong 14 = .ok (.iaload, 1) := dk_46 (dk_at dksX2_isRowWrong_0 14 rfl rfl)
theorem dX2_isRowWrong_15 : decode cX2_isRowWrong 15 = .ok (.aload_n 0, 1) := dk_42 (dk_at dksX2_isRowWrong_0 15 rfl rfl)
theorem dX2_isRowWrong_16 : decode cX2_isRowWrong 16 = .ok (.getfield 134, 3) := dk_180 0 134 (dk_at dksX2_isRowWrong_0 16 rfl rfl)
theorem dX2_isRowWrong_19 : decode cX2_isRowWrong 19 = .ok (.if_icmp .ge 9, 3) := dk_162 0 9 (dk_at dksX2_isRowWrong_0 19 rfl rfl)
theorem dX2_isRowWrong_22 : decode cX2_isRowWrong 22 = .ok (.iload_n 1, 1) := dk_27 (dk_at dksX2_isRowWrong_0 22 rfl rfl)
theorem dX2_isRowWrong_23 : decode cX2_isRowWrong 23 = .ok (.bipush 8, 2) := dk_16 8 (dk_at dksX2_isRowWrong_1 0 rfl rfl)
theorem dX2_isRowWrong_25 : decode cX2_isRowWrong 25 = .ok (.if_icmp .le 7, 3) := dk_164 0 7 (dk_at dksX2_isRowWrong_1 2 rfl rfl)
theorem dX2_isRowWrong_28 : decode cX2_isRowWrong 28 = .ok (.iconst 1, 1) := dk_4 (dk_at dksX2_isRowWrong_1 5 rfl rfl)
theorem dX2_isRowWrong_29 : decode cX2_isRowWrong 29 = .ok (.goto 4, 3) := dk_167 0 4 (dk_at dksX2_isRowWrong_1 6 rfl rfl)
theorem dX2_isRowWrong_32 : decode cX2_isRowWrong 32 = .ok (.iconst 0, 1) := dk_3 (dk_at dksX2_isRowWrong_1 9 rfl rfl)
theorem dX2_isRowWrong_33 : decode cX2_isRowWrong 33 = .ok (.istore_n 2, 1) := dk_61 (dk_at dksX2_isRowWrong_1 10 rfl rfl)
theorem dX2_isRowWrong_34 : decode cX2_isRowWrong 34 = .ok (.iconst 0, 1) := dk_3 (dk_at dksX2_isRowWrong_1 11 rfl rfl)
theorem dX2_isRowWrong_35 : decode cX2_isRowWrong 35 = .ok (.istore_n 3, 1) := dk_62 (dk_at dksX2_isRowWrong_1 12 rfl rfl)
theorem dX2_isRowWrong_36 : decode cX2_isRowWrong 36 = .ok (.iload_n 3, 1) := dk_29 (dk_at dksX2_isRowWrong_1 13 rfl rfl)
theorem dX2_isRowWrong_37 : decode cX2_isRowWrong 37 = .ok (.iload_n 1, 1) := dk_27 (dk_at dksX2_isRowWrong_1 14 rfl rfl)
theorem dX2_isRowWrong_38 : decode cX2_isRowWrong 38 = .ok (.if_icmp .ge 147, 3) := dk_162 0 147 (dk_at dksX2_isRowWrong_1 15 rfl rfl)
theorem dX2_isRowWrong_41 : decode cX2_isRowWrong 41 = .ok (.iload_n 3, 1) := dk_29 (dk_at dksX2_isRowWrong_1 18 rfl rfl)
theorem dX2_isRowWrong_42 : decode cX2_isRowWrong 42 = .ok (.bipush 8, 2) := dk_16 8 (dk_at dksX2_isRowWrong_1 19 rfl rfl)
theorem dX2_isRowWrong_44 : decode cX2_isRowWrong 44 = .ok (.if_icmp .ge 141, 3) := dk_162 0 141 (dk_at dksX2_isRowWrong_1 21 rfl rfl)
theorem dX2_isRowWrong_47 : decode cX2_isRowWrong 47 = .ok (.iconst 1, 1) := dk_4 (dk_at dksX2_isRowWrong_2 0 rfl rfl)
theorem dX2_isRowWrong_48 : decode cX2_isRowWrong 48 = .ok (.iconst 3, 1) := dk_6 (dk_at dksX2_isRowWrong_2 1 rfl rfl)
theorem dX2_isRowWrong_49 : decode cX2_isRowWrong 49 = .ok (.iload_n 3, 1) := dk_29 (dk_at dksX2_isRowWrong_2 2 rfl rfl)
theorem dX2_isRowWrong_50 : decode cX2_isRowWrong 50 = .ok (.imul, 1) := dk_104 (dk_at dksX2_isRowWrong_2 3 rfl rfl)
theorem dX2_isRowWrong_51 : decode cX2_isRowWrong 51 = .ok (.iadd, 1) := dk_96 (dk_at dksX2_isRowWrong_2 4 rfl rfl)
theorem dX2_isRowWrong_52 : decode cX2_isRowWrong 52 = .ok (.istore 4, 2) := dk_54 4 (dk_at dksX2_isRowWrong_2 5 rfl rfl)
theorem dX2_isRowWrong_54 : decode cX2_isRowWrong 54 = .ok (.iload_n 2, 1) := dk_28 (dk_at dksX2_isRowWrong_2 7 rfl rfl)
theorem dX2_isRowWrong_55 : decode cX2_isRowWrong 55 = .ok (.aload_n 0, 1) := dk_42 (dk_at dksX2_isRowWrong_2 8 rfl rfl)
theorem dX2_isRowWrong_56 : decode cX2_isRowWrong 56 = .ok (.getfield 111, 3) := dk_180 0 111 (dk_at dksX2_isRowWrong_2 9 rfl rfl)
theorem dX2_isRowWrong_59 : decode cX2_isRowWrong 59 = .ok (.iload 4, 2) := dk_21 4 (dk_at dksX2_isRowWrong_2 12 rfl rfl)
theorem dX2_isRowWrong_61 : decode cX2_isRowWrong 61 = .ok (.iaload, 1) := dk_46 (dk_at dksX2_isRowWrong_2 14 rfl rfl)
theorem dX2_isRowWrong_62 : decode cX2_isRowWrong 62 = .ok (.aload_n 0, 1) := dk_42 (dk_at dksX2_isRowWrong_2 15 rfl rfl)
theorem dX2_isRowWrong_63 : decode cX2_isRowWrong 63 = .ok (.getfield 123, 3) := dk_180 0 123 (dk_at dksX2_isRowWrong_2 16 rfl rfl)
theorem dX2_isRowWrong_66 : decode cX2_isRowWrong 66 = .ok (.if_icmp .ge 54, 3) := dk_162 0 54 (dk_at dksX2_isRowWrong_2 19 rfl rfl)
theorem dX2_isRowWrong_69 : decode cX2_isRowWrong 69 = .ok (.aload_n 0, 1) := dk_42 (dk_at dksX2_isRowWrong_2 22 rfl rfl)
theorem dX2_isRowWrong_70 : decode cX2_isRowWrong 70 = .ok (.getfield 111, 3) := dk_180 0 111 (dk_at dksX2_isRowWrong_3 0 rfl rfl)
theorem dX2_isRowWrong_73 : decode cX2_isRowWrong 73 = .ok (.iload 4, 2) := dk_21 4 (dk_at dksX2_isRowWrong_3 3 rfl rfl)
theorem dX2_isRowWrong_75 : decode cX2_isRowWrong 75 = .ok (.iconst 1, 1) := dk_4 (dk_at dksX2_isRowWrong_3 5 rfl rfl)
theorem dX2_isRowWrong_76 : decode cX2_isRowWrong 76 = .ok (.iadd, 1) := dk_96 (dk_at dksX2_isRowWrong_3 6 rfl rfl)
theorem dX2_isRowWrong_77 : decode cX2_isRowWrong 77 = .ok (.iaload, 1) := dk_46 (dk_at dksX2_isRowWrong_3 7 rfl rfl)
theorem dX2_isRowWrong_78 : decode cX2_isRowWrong 78 = .ok (.sipush 2879, 3) := dk_17 11 63 (dk_at dksX2_isRowWrong_3 8 rfl rfl)
theorem dX2_isRowWrong_81 : decode cX2_isRowWrong 81 = .ok (.if_icmp .gt 39, 3) := dk_163 0 39 (dk_at dksX2_isRowWrong_3 11 rfl rfl)
theorem dX2_isRowWrong_84 : decode cX2_isRowWrong 84 = .ok (.aload_n 0, 1) := dk_42 (dk_at dksX2_isRowWrong_3 14 rfl rfl)
theorem dX2_isRowWrong_85 : decode cX2_isRowWrong 85 = .ok (.getfield 111, 3) := dk_180 0 111 (dk_at dksX2_isRowWrong_3 15 rfl rfl)
theorem dX2_isRowWrong_88 : decode cX2_isRowWrong 88 = .ok (.iload 4, 2) := dk_21 4 (dk_at dksX2_isRowWrong_3 18 rfl rfl)
theorem dX2_isRowWrong_90 : decode cX2_isRowWrong 90 = .ok (.iconst 2, 1) := dk_5 (dk_at dksX2_isRowWrong_3 20 rfl rfl)
theorem dX2_isRowWrong_91 : decode cX2_isRowWrong 91 = .ok (.iadd, 1) := dk_96 (dk_at dksX2_isRowWrong_3 21 rfl rfl)
theorem dX2_isRowWrong_92 : decode cX2_isRowWrong 92 = .ok (.iaload, 1) := dk_46 (dk_at dksX2_isRowWrong_3 22 rfl rfl)
theorem dX2_isRowWrong_93 : decode cX2_isRowWrong 93 = .ok (.sipush 2879, 3) := dk_17 11 63 (dk_at dksX2_isRowWrong_4 0 rfl rfl)
theorem dX2_isRowWrong_96 : decode cX2_isRowWrong 96 = .ok (.if_icmp .gt 24, 3) := dk_163 0 24 (dk_at dksX2_isRowWrong_4 3 rfl rfl)
theorem dX2_isRowWrong_99 : decode cX2_isRowWrong 99 = .ok (.aload_n 0, 1) := dk_42 (dk_at dksX2_isRowWrong_4 6 rfl rfl)
theorem dX2_isRowWrong_100 : decode cX2_isRowWrong 100 = .ok (.getfield 111, 3) := dk_180 0 111 (dk_at dksX2_isRowWrong_4 7 rfl rfl)
theorem dX2_isRowWrong_103 : decode cX2_isRowWrong 103 = .ok (.iload 4, 2) := dk_21 4 (dk_at dksX2_isRowWrong_4 10 rfl rfl)
theorem dX2_isRowWrong_105 : decode cX2_isRowWrong 105 = .ok (.iconst 2, 1) := dk_5 (dk_at dksX2_isRowWrong_4 12 rfl rfl)
theorem dX2_isRowWrong_106 : decode cX2_isRowWrong 106 = .ok (.iadd, 1) := dk_96 (dk_at dksX2_isRowWrong_4 13 rfl rfl)
theorem dX2_isRowWrong_107 : decode cX2_isRowWrong 107 = .ok (.iaload, 1) := dk_46 (dk_at dksX2_isRowWrong_4 14 rfl rfl)
theorem dX2_isRowWrong_108 : decode cX2_isRowWrong 108 = .ok (.aload_n 0, 1) := dk_42 (dk_at dksX2_isRowWrong_4 15 rfl rfl)
theorem dX2_isRowWrong_109 : decode cX2_isRowWrong 109 = .ok (.getfield 111, 3) := dk_180 0 111 (dk_at dksX2_isRowWrong_4 16 rfl rfl)
theorem dX2_isRowWrong_112 : decode cX2_isRowWrong 112 = .ok (.iload 4, 2) := dk_21 4 (dk_at dksX2_isRowWrong_4 19 rfl rfl)
theorem dX2_isRowWrong_114 : decode cX2_isRowWrong 114 = .ok (.iconst 1, 1) := dk_4 (dk_at dksX2_isRowWrong_4 21 rfl rfl)
theorem dX2_isRowWrong_115 : decode cX2_isRowWrong 115 = .ok (.iadd, 1) := dk_96 (dk_at dksX2_isRowWrong_4 22 rfl rfl)
theorem dX2_isRowWrong_116 : decode cX2_isRowWrong 116 = .ok (.iaload, 1) := dk_46 (dk_at dksX2_isRowWrong_4 23 rfl rfl)
theorem dX2_isRowWrong_117 : decode cX2_isRowWrong 117 = .ok (.if_icmp .ge 7, 3) := dk_162 0 7 (dk_at dksX2_isRowWrong_5 0 rfl rfl)
theorem dX2_isRowWrong_120 : decode cX2_isRowWrong 120 = .ok (.iconst 1, 1) := dk_4 (dk_at dksX2_isRowWrong_5 3 rfl rfl)
theorem dX2_isRowWrong_121 : decode cX2_isRowWrong 121 = .ok (.goto 4, 3) := dk_167 0 4 (dk_at dksX2_isRowWrong_5 4 rfl rfl)
theorem dX2_isRowWrong_124 : decode cX2_isRowWrong 124 = .ok (.iconst 0, 1) := dk_3 (dk_at dksX2_isRowWrong_5 7 rfl rfl)
theorem dX2_isRowWrong_125 : decode cX2_isRowWrong 125 = .ok (.ior, 1) := dk_128 (dk_at dksX2_isRowWrong_5 8 rfl rfl)
theorem dX2_isRowWrong_126 : decode cX2_isRowWrong 126 = .ok (.istore_n 2, 1) := dk_61 (dk_at dksX2_isRowWrong_5 9 rfl rfl)
theorem dX2_isRowWrong_127 : decode cX2_isRowWrong 127 = .ok (.iload_n 2, 1) := dk_28 (dk_at dksX2_isRowWrong_5 10 rfl rfl)
theorem dX2_isRowWrong_128 : decode cX2_isRowWrong 128 = .ok (.iload_n 3, 1) := dk_29 (dk_at dksX2_isRowWrong_5 11 rfl rfl)
theorem dX2_isRowWrong_129 : decode cX2_isRowWrong 129 = .ok (.ifCond .le 47, 3) := dk_158 0 47 (dk_at dksX2_isRowWrong_5 12 rfl rfl)
theorem dX2_isRowWrong_132 : decode cX2_isRowWrong 132 = .ok (.aload_n 0, 1) := dk_42 (dk_at dksX2_isRowWrong_5 15 rfl rfl)
theorem dX2_isRowWrong_133 : decode cX2_isRowWrong 133 = .ok (.getfield 111, 3) := dk_180 0 111 (dk_at dksX2_isRowWrong_5 16 rfl rfl)
theorem dX2_isRowWrong_136 : decode cX2_isRowWrong 136 = .ok (.iload 4, 2) := dk_21 4 (dk_at dksX2_isRowWrong_5 19 rfl rfl)
theorem dX2_isRowWrong_138 : decode cX2_isRowWrong 138 = .ok (.iconst 1, 1) := dk_4 (dk_at dksX2_isRowWrong_5 21 rfl rfl)
theorem dX2_isRowWrong_139 : decode cX2_isRowWrong 139 = .ok (.iadd, 1) := dk_96 (dk_at dksX2_isRowWrong_5 22 rfl rfl)
theorem dX2_isRowWrong_140 : decode cX2_isRowWrong 140 = .ok (.iaload, 1) := dk_46 (dk_at dksX2_isRowWrong_5 23 rfl rfl)
theorem dX2_isRowWrong_141 : decode cX2_isRowWrong 141 = .ok (.aload_n 0, 1) := dk_42 (dk_at dksX2_isRowWrong_6 0 rfl rfl)
theorem dX2_isRowWrong_142 : decode cX2_isRowWrong 142 = .ok (.getfield 111, 3) := dk_180 0 111 (dk_at dksX2_isRowWrong_6 1 rfl rfl)
theorem dX2_isRowWrong_145 : decode cX2_isRowWrong 145 = .ok (.iload 4, 2) := dk_21 4 (dk_at dksX2_isRowWrong_6 4 rfl rfl)
theorem dX2_isRowWrong_147 : decode cX2_isRowWrong 147 = .ok (.iconst 1, 1) := dk_4 (dk_at dksX2_isRowWrong_6 6 rfl rfl)
theorem dX2_isRowWrong_148 : decode cX2_isRowWrong 148 = .ok (.isub, 1) := dk_100 (dk_at dksX2_isRowWrong_6 7 rfl rfl)
theorem dX2_isRowWrong_149 : decode cX2_isRowWrong 149 = .ok (.iaload, 1) := dk_46 (dk_at dksX2_isRowWrong_6 8 rfl rfl)
theorem dX2_isRowWrong_150 : decode cX2_isRowWrong 150 = .ok (.if_icmp .le 22, 3) := dk_164 0 22 (dk_at dksX2_isRowWrong_6 9 rfl rfl)
theorem dX2_isRowWrong_153 : decode cX2_isRowWrong 153 = .ok (.aload_n 0, 1) := dk_42 (dk_at dksX2_isRowWrong_6 12 rfl rfl)
theorem dX2_isRowWrong_154 : decode cX2_isRowWrong 154 = .ok (.getfield 111, 3) := dk_180 0 111 (dk_at dksX2_isRowWrong_6 13 rfl rfl)
theorem dX2_isRowWrong_157 : decode cX2_isRowWrong 157 = .ok (.iload 4, 2) := dk_21 4 (dk_at dksX2_isRowWrong_6 16 rfl rfl)
theorem dX2_isRowWrong_159 : decode cX2_isRowWrong 159 = .ok (.iaload, 1) := dk_46 (dk_at dksX2_isRowWrong_6 18 rfl rfl)
theorem dX2_isRowWrong_160 : decode cX2_isRowWrong 160 = .ok (.aload_n 0, 1) := dk_42 (dk_at dksX2_isRowWrong_6 19 rfl rfl)
theorem dX2_isRowWrong_161 : decode cX2_isRowWrong 161 = .ok (.getfield 111, 3) := dk_180 0 111 (dk_at dksX2_isRowWrong_6 20 rfl rfl)
theorem dX2_isRowWrong_164 : decode cX2_isRowWrong 164 = .ok (.iload 4, 2) := dk_21 4 (dk_at dksX2_isRowWrong_7 0 rfl rfl)
theorem dX2_isRowWrong_166 : decode cX2_isRowWrong 166 = .ok (.iconst 3, 1) := dk_6 (dk_at dksX2_isRowWrong_7 2 rfl rfl)
theorem dX2_isRowWrong_167 : decode cX2_isRowWrong 167 = .ok (.isub, 1) := dk_100 (dk_at dksX2_isRowWrong_7 3 rfl rfl)
theorem dX2_isRowWrong_168 : decode cX2_isRowWrong 168 = .ok (.iaload, 1) := dk_46 (dk_at dksX2_isRowWrong_7 4 rfl rfl)
theorem dX2_isRowWrong_169 : decode cX2_isRowWrong 169 = .ok (.if_icmp .ne 7, 3) := dk_160 0 7 (dk_at dksX2_isRowWrong_7 5 rfl rfl)
theorem dX2_isRowWrong_172 : decode cX2_isRowWrong 172 = .ok (.iconst 1, 1) := dk_4 (dk_at dksX2_isRowWrong_7 8 rfl rfl)
theorem dX2_isRowWrong_173 : decode cX2_isRowWrong 173 = .ok (.goto 4, 3) := dk_167 0 4 (dk_at dksX2_isRowWrong_7 9 rfl rfl)
theorem dX2_isRowWrong_176 : decode cX2_isRowWrong 176 = .ok (.iconst 0, 1) := dk_3 (dk_at dksX2_isRowWrong_7 12 rfl rfl)
theorem dX2_isRowWrong_177 : decode cX2_isRowWrong 177 = .ok (.ior, 1) := dk_128 (dk_at dksX2_isRowWrong_7 13 rfl rfl)
theorem dX2_isRowWrong_178 : decode cX2_isRowWrong 178 = .ok (.istore_n 2, 1) := dk_61 (dk_at dksX2_isRowWrong_7 14 rfl rfl)
theorem dX2_isRowWrong_179 : decode cX2_isRowWrong 179 = .ok (.iinc 3 1, 3) := dk_132 3 1 (dk_at dksX2_isRowWrong_7 15 rfl rfl)
theorem dX2_isRowWrong_182 : decode cX2_isRowWrong 182 = .ok (.goto (-146), 3) := dk_167 255 110 (dk_at dksX2_isRowWrong_7 18 rfl rfl)
theorem dX2_isRowWrong_185 : decode cX2_isRowWrong 185 = .ok (.iload_n 2, 1) := dk_28 (dk_at dksX2_isRowWrong_7 21 rfl rfl)
theorem dX2_isRowWrong_186 : decode cX2_isRowWrong 186 = .ok (.ireturn, 1) := dk_172 (dk_at dksX2_isRowWrong_7 22 rfl rfl)
abbrev cX2_faultAt : ByteArray := prog_15_method_37_code
def yX2_faultAt : MethodName := ⟨RX2, "faultAt", "()I"⟩
def dkwX2_faultAt_1 : List UInt8 := [167, 0, 7, 42, 180, 0, 57, 172]
abbrev dktX2_faultAt_1 : List UInt8 := dkwX2_faultAt_1 ++ []
def dkwX2_faultAt_0 : List UInt8 := [42, 42, 180, 0, 57, 2, 160, 0, 7, 4, 167, 0, 4, 3, 4, 182, 0, 130, 153, 0, 7, 3]
abbrev dktX2_faultAt_0 : List UInt8 := dkwX2_faultAt_0 ++ dktX2_faultAt_1
theorem dksX2_faultAt_0 : cX2_faultAt.data.toList.drop 0 = dktX2_faultAt_0 := by decide +kernel
theorem dksX2_faultAt_1 : cX2_faultAt.data.toList.drop 22 = dktX2_faultAt_1 := dk_seg dksX2_faultAt_0 22 rfl rfl
theorem dX2_faultAt_0 : decode cX2_faultAt 0 = .ok (.aload_n 0, 1) := dk_42 (dk_at dksX2_faultAt_0 0 rfl rfl)
theorem dX2_faultAt_1 : decode cX2_faultAt 1 = .ok (.aload_n 0, 1) := dk_42 (dk_at dksX2_faultAt_0 1 rfl rfl)
theorem dX2_faultAt_2 : decode cX2_faultAt 2 = .ok (.getfield 57, 3) := dk_180 0 57 (dk_at dksX2_faultAt_0 2 rfl rfl)
theorem dX2_faultAt_5 : decode cX2_faultAt 5 = .ok (.iconst (-1), 1) := dk_2 (dk_at dksX2_faultAt_0 5 rfl rfl)
theorem dX2_faultAt_6 : decode cX2_faultAt 6 = .ok (.if_icmp .ne 7, 3) := dk_160 0 7 (dk_at dksX2_faultAt_0 6 rfl rfl)
theorem dX2_faultAt_9 : decode cX2_faultAt 9 = .ok (.iconst 1, 1) := dk_4 (dk_at dksX2_faultAt_0 9 rfl rfl)
theorem dX2_faultAt_10 : decode cX2_faultAt 10 = .ok (.goto 4, 3) := dk_167 0 4 (dk_at dksX2_faultAt_0 10 rfl rfl)
theorem dX2_faultAt_13 : decode cX2_faultAt 13 = .ok (.iconst 0, 1) := dk_3 (dk_at dksX2_faultAt_0 13 rfl rfl)
theorem dX2_faultAt_14 : decode cX2_faultAt 14 = .ok (.iconst 1, 1) := dk_4 (dk_at dksX2_faultAt_0 14 rfl rfl)
theorem dX2_faultAt_15 : decode cX2_faultAt 15 = .ok (.invokevirtual 130, 3) := dk_182 0 130 (dk_at dksX2_faultAt_0 15 rfl rfl)
theorem dX2_faultAt_18 : decode cX2_faultAt 18 = .ok (.ifCond .eq 7, 3) := dk_153 0 7 (dk_at dksX2_faultAt_0 18 rfl rfl)
theorem dX2_faultAt_21 : decode cX2_faultAt 21 = .ok (.iconst 0, 1) := dk_3 (dk_at dksX2_faultAt_0 21 rfl rfl)
theorem dX2_faultAt_22 : decode cX2_faultAt 22 = .ok (.goto 7, 3) := dk_167 0 7 (dk_at dksX2_faultAt_1 0 rfl rfl)
theorem dX2_faultAt_25 : decode cX2_faultAt 25 = .ok (.aload_n 0, 1) := dk_42 (dk_at dksX2_faultAt_1 3 rfl rfl)
theorem dX2_faultAt_26 : decode cX2_faultAt 26 = .ok (.getfield 57, 3) := dk_180 0 57 (dk_at dksX2_faultAt_1 4 rfl rfl)
theorem dX2_faultAt_29 : decode cX2_faultAt 29 = .ok (.ireturn, 1) := dk_172 (dk_at dksX2_faultAt_1 7 rfl rfl)
abbrev cX2_late : ByteArray := prog_15_method_39_code
def yX2_late : MethodName := ⟨RX2, "late", "(IIII)I"⟩
def dkwX2_late_10 : List UInt8 := [21, 5, 29, 79, 42, 180, 0, 51, 21, 5, 21, 4, 79, 21, 6, 172]
abbrev dktX2_late_10 : List UInt8 := dkwX2_late_10 ++ []
def dkwX2_late_9 : List UInt8 := [181, 0, 188, 42, 180, 0, 42, 21, 5, 27, 79, 42, 180, 0, 45, 21, 5, 28, 79, 42, 180, 0, 48]
abbrev dktX2_late_9 : List UInt8 := dkwX2_late_9 ++ dktX2_late_10
def dkwX2_late_8 : List UInt8 := [79, 21, 6, 172, 21, 5, 2, 160, 0, 19, 42, 180, 0, 188, 54, 5, 42, 89, 180, 0, 188, 4, 96]
abbrev dktX2_late_8 : List UInt8 := dkwX2_late_8 ++ dktX2_late_9
def dkwX2_late_7 : List UInt8 := [180, 0, 48, 42, 180, 0, 188, 46, 79, 42, 180, 0, 51, 21, 5, 42, 180, 0, 51, 42, 180, 0, 188, 46]
abbrev dktX2_late_7 : List UInt8 := dkwX2_late_7 ++ dktX2_late_8
def dkwX2_late_6 : List UInt8 := [79, 42, 180, 0, 45, 21, 5, 42, 180, 0, 45, 42, 180, 0, 188, 46, 79, 42, 180, 0, 48, 21, 5, 42]
abbrev dktX2_late_6 : List UInt8 := dkwX2_late_6 ++ dktX2_late_7
def dkwX2_late_5 : List UInt8 := [89, 180, 0, 188, 4, 100, 181, 0, 188, 42, 180, 0, 42, 21, 5, 42, 180, 0, 42, 42, 180, 0, 188, 46]
abbrev dktX2_late_5 : List UInt8 := dkwX2_late_5 ++ dktX2_late_6
def dkwX2_late_4 : List UInt8 := [167, 0, 10, 42, 180, 0, 51, 21, 5, 46, 54, 6, 21, 4, 154, 0, 86, 21, 5, 2, 159, 0, 77, 42]
abbrev dktX2_late_4 : List UInt8 := dkwX2_late_4 ++ dktX2_late_5
def dkwX2_late_3 : List UInt8 := [153, 0, 7, 4, 167, 0, 4, 3, 6, 182, 0, 130, 153, 0, 5, 3, 172, 21, 5, 2, 160, 0, 7, 3]
abbrev dktX2_late_3 : List UInt8 := dkwX2_late_3 ++ dktX2_late_4
def dkwX2_late_2 : List UInt8 := [28, 182, 0, 191, 54, 5, 42, 21, 5, 2, 160, 0, 21, 42, 180, 0, 188, 16, 12, 160, 0, 12, 21, 4]
abbrev dktX2_late_2 : List UInt8 := dkwX2_late_2 ++ dktX2_late_3
def dkwX2_late_1 : List UInt8 := [16, 120, 184, 0, 126, 154, 0, 7, 4, 167, 0, 4, 3, 5, 182, 0, 130, 153, 0, 5, 3, 172, 42, 27]
abbrev dktX2_late_1 : List UInt8 := dkwX2_late_1 ++ dktX2_late_2
def dkwX2_late_0 : List UInt8 := [42, 28, 29, 182, 0, 162, 154, 0, 37, 42, 27, 3, 16, 27, 184, 0, 126, 153, 0, 14, 21, 4, 3]
abbrev dktX2_late_0 : List UInt8 := dkwX2_late_0 ++ dktX2_late_1
theorem dksX2_late_0 : cX2_late.data.toList.drop 0 = dktX2_late_0 := by decide +kernel
theorem dksX2_late_1 : cX2_late.data.toList.drop 23 = dktX2_late_1 := dk_seg dksX2_late_0 23 rfl rfl
theorem dksX2_late_2 : cX2_late.data.toList.drop 47 = dktX2_late_2 := dk_seg dksX2_late_1 24 rfl rfl
theorem dksX2_late_3 : cX2_late.data.toList.drop 71 = dktX2_late_3 := dk_seg dksX2_late_2 24 rfl rfl
theorem dksX2_late_4 : cX2_late.data.toList.drop 95 = dktX2_late_4 := dk_seg dksX2_late_3 24 rfl rfl
theorem dksX2_late_5 : cX2_late.data.toList.drop 119 = dktX2_late_5 := dk_seg dksX2_late_4 24 rfl rfl
theorem dksX2_late_6 : cX2_late.data.toList.drop 143 = dktX2_late_6 := dk_seg dksX2_late_5 24 rfl rfl
theorem dksX2_late_7 : cX2_late.data.toList.drop 167 = dktX2_late_7 := dk_seg dksX2_late_6 24 rfl rfl
theorem dksX2_late_8 : cX2_late.data.toList.drop 191 = dktX2_late_8 := dk_seg dksX2_late_7 24 rfl rfl
theorem dksX2_late_9 : cX2_late.data.toList.drop 214 = dktX2_late_9 := dk_seg dksX2_late_8 23 rfl rfl
theorem dksX2_late_10 : cX2_late.data.toList.drop 237 = dktX2_late_10 := dk_seg dksX2_late_9 23 rfl rfl
theorem dX2_late_0 : decode cX2_late 0 = .ok (.aload_n 0, 1) := dk_42 (dk_at dksX2_late_0 0 rfl rfl)
theorem dX2_late_1 : decode cX2_late 1 = .ok (.iload_n 2, 1) := dk_28 (dk_at dksX2_late_0 1 rfl rfl)
theorem dX2_late_2 : decode cX2_late 2 = .ok (.iload_n 3, 1) := dk_29 (dk_at dksX2_late_0 2 rfl rfl)
theorem dX2_late_3 : decode cX2_late 3 = .ok (.invokevirtual 162, 3) := dk_182 0 162 (dk_at dksX2_late_0 3 rfl rfl)
theorem dX2_late_6 : decode cX2_late 6 = .ok (.ifCond .ne 37, 3) := dk_154 0 37 (dk_at dksX2_late_0 6 rfl rfl)
theorem dX2_late_9 : decode cX2_late 9 = .ok (.aload_n 0, 1) := dk_42 (dk_at dksX2_late_0 9 rfl rfl)
theorem dX2_late_10 : decode cX2_late 10 = .ok (.iload_n 1, 1) := dk_27 (dk_at dksX2_late_0 10 rfl rfl)
theorem dX2_late_11 : decode cX2_late 11 = .ok (.iconst 0, 1) := dk_3 (dk_at dksX2_late_0 11 rfl rfl)
theorem dX2_late_12 : decode cX2_late 12 = .ok (.bipush 27, 2) := dk_16 27 (dk_at dksX2_late_0 12 rfl rfl)
theorem dX2_late_14 : decode cX2_late 14 = .ok (.invokestatic 126, 3) := dk_184 0 126 (dk_at dksX2_late_0 14 rfl rfl)
theorem dX2_late_17 : decode cX2_late 17 = .ok (.ifCond .eq 14, 3) := dk_153 0 14 (dk_at dksX2_late_0 17 rfl rfl)
theorem dX2_late_20 : decode cX2_late 20 = .ok (.iload 4, 2) := dk_21 4 (dk_at dksX2_late_0 20 rfl rfl)
theorem dX2_late_22 : decode cX2_late 22 = .ok (.iconst 0, 1) := dk_3 (dk_at dksX2_late_0 22 rfl rfl)
theorem dX2_late_23 : decode cX2_late 23 = .ok (.bipush 120, 2) := dk_16 120 (dk_at dksX2_late_1 0 rfl rfl)
theorem dX2_late_25 : decode cX2_late 25 = .ok (.invokestatic 126, 3) := dk_184 0 126 (dk_at dksX2_late_1 2 rfl rfl)
theorem dX2_late_28 : decode cX2_late 28 = .ok (.ifCond .ne 7, 3) := dk_154 0 7 (dk_at dksX2_late_1 5 rfl rfl)
theorem dX2_late_31 : decode cX2_late 31 = .ok (.iconst 1, 1) := dk_4 (dk_at dksX2_late_1 8 rfl rfl)
theorem dX2_late_32 : decode cX2_late 32 = .ok (.goto 4, 3) := dk_167 0 4 (dk_at dksX2_late_1 9 rfl rfl)
theorem dX2_late_35 : decode cX2_late 35 = .ok (.iconst 0, 1) := dk_3 (dk_at dksX2_late_1 12 rfl rfl)
theorem dX2_late_36 : decode cX2_late 36 = .ok (.iconst 2, 1) := dk_5 (dk_at dksX2_late_1 13 rfl rfl)
theorem dX2_late_37 : decode cX2_late 37 = .ok (.invokevirtual 130, 3) := dk_182 0 130 (dk_at dksX2_late_1 14 rfl rfl)
theorem dX2_late_40 : decode cX2_late 40 = .ok (.ifCond .eq 5, 3) := dk_153 0 5 (dk_at dksX2_late_1 17 rfl rfl)
theorem dX2_late_43 : decode cX2_late 43 = .ok (.iconst 0, 1) := dk_3 (dk_at dksX2_late_1 20 rfl rfl)
theorem dX2_late_44 : decode cX2_late 44 = .ok (.ireturn, 1) := dk_172 (dk_at dksX2_late_1 21 rfl rfl)
theorem dX2_late_45 : decode cX2_late 45 = .ok (.aload_n 0, 1) := dk_42 (dk_at dksX2_late_1 22 rfl rfl)
theorem dX2_late_46 : decode cX2_late 46 = .ok (.iload_n 1, 1) := dk_27 (dk_at dksX2_late_1 23 rfl rfl)
theorem dX2_late_47 : decode cX2_late 47 = .ok (.iload_n 2, 1) := dk_28 (dk_at dksX2_late_2 0 rfl rfl)
theorem dX2_late_48 : decode cX2_late 48 = .ok (.invokevirtual 191, 3) := dk_182 0 191 (dk_at dksX2_late_2 1 rfl rfl)
theorem dX2_late_51 : decode cX2_late 51 = .ok (.istore 5, 2) := dk_54 5 (dk_at dksX2_late_2 4 rfl rfl)
theorem dX2_late_53 : decode cX2_late 53 = .ok (.aload_n 0, 1) := dk_42 (dk_at dksX2_late_2 6 rfl rfl)
theorem dX2_late_54 : decode cX2_late 54 = .ok (.iload 5, 2) := dk_21 5 (dk_at dksX2_late_2 7 rfl rfl)
theorem dX2_late_56 : decode cX2_late 56 = .ok (.iconst (-1), 1) := dk_2 (dk_at dksX2_late_2 9 rfl rfl)
theorem dX2_late_57 : decode cX2_late 57 = .ok (.if_icmp .ne 21, 3) := dk_160 0 21 (dk_at dksX2_late_2 10 rfl rfl)
theorem dX2_late_60 : decode cX2_late 60 = .ok (.aload_n 0, 1) := dk_42 (dk_at dksX2_late_2 13 rfl rfl)
theorem dX2_late_61 : decode cX2_late 61 = .ok (.getfield 188, 3) := dk_180 0 188 (dk_at dksX2_late_2 14 rfl rfl)
theorem dX2_late_64 : decode cX2_late 64 = .ok (.bipush 12, 2) := dk_16 12 (dk_at dksX2_late_2 17 rfl rfl)
theorem dX2_late_66 : decode cX2_late 66 = .ok (.if_icmp .ne 12, 3) := dk_160 0 12 (dk_at dksX2_late_2 19 rfl rfl)
theorem dX2_late_69 : decode cX2_late 69 = .ok (.iload 4, 2) := dk_21 4 (dk_at dksX2_late_2 22 rfl rfl)
theorem dX2_late_71 : decode cX2_late 71 = .ok (.ifCond .eq 7, 3) := dk_153 0 7 (dk_at dksX2_late_3 0 rfl rfl)
theorem dX2_late_74 : decode cX2_late 74 = .ok (.iconst 1, 1) := dk_4 (dk_at dksX2_late_3 3 rfl rfl)
theorem dX2_late_75 : decode cX2_late 75 = .ok (.goto 4, 3) := dk_167 0 4 (dk_at dksX2_late_3 4 rfl rfl)
theorem dX2_late_78 : decode cX2_late 78 = .ok (.iconst 0, 1) := dk_3 (dk_at dksX2_late_3 7 rfl rfl)
theorem dX2_late_79 : decode cX2_late 79 = .ok (.iconst 3, 1) := dk_6 (dk_at dksX2_late_3 8 rfl rfl)
theorem dX2_late_80 : decode cX2_late 80 = .ok (.invokevirtual 130, 3) := dk_182 0 130 (dk_at dksX2_late_3 9 rfl rfl)
theorem dX2_late_83 : decode cX2_late 83 = .ok (.ifCond .eq 5, 3) := dk_153 0 5 (dk_at dksX2_late_3 12 rfl rfl)
theorem dX2_late_86 : decode cX2_late 86 = .ok (.iconst 0, 1) := dk_3 (dk_at dksX2_late_3 15 rfl rfl)
theorem dX2_late_87 : decode cX2_late 87 = .ok (.ireturn, 1) := dk_172 (dk_at dksX2_late_3 16 rfl rfl)
theorem dX2_late_88 : decode cX2_late 88 = .ok (.iload 5, 2) := dk_21 5 (dk_at dksX2_late_3 17 rfl rfl)
theorem dX2_late_90 : decode cX2_late 90 = .ok (.iconst (-1), 1) := dk_2 (dk_at dksX2_late_3 19 rfl rfl)
theorem dX2_late_91 : decode cX2_late 91 = .ok (.if_icmp .ne 7, 3) := dk_160 0 7 (dk_at dksX2_late_3 20 rfl rfl)
theorem dX2_late_94 : decode cX2_late 94 = .ok (.iconst 0, 1) := dk_3 (dk_at dksX2_late_3 23 rfl rfl)
theorem dX2_late_95 : decode cX2_late 95 = .ok (.goto 10, 3) := dk_167 0 10 (dk_at dksX2_late_4 0 rfl rfl)
theorem dX2_late_98 : decode cX2_late 98 = .ok (.aload_n 0, 1) := dk_42 (dk_at dksX2_late_4 3 rfl rfl)
theorem dX2_late_99 : decode cX2_late 99 = .ok (.getfield 51, 3) := dk_180 0 51 (dk_at dksX2_late_4 4 rfl rfl)
theorem dX2_late_102 : decode cX2_late 102 = .ok (.iload 5, 2) := dk_21 5 (dk_at dksX2_late_4 7 rfl rfl)
theorem dX2_late_104 : decode cX2_late 104 = .ok (.iaload, 1) := dk_46 (dk_at dksX2_late_4 9 rfl rfl)
theorem dX2_late_105 : decode cX2_late 105 = .ok (.istore 6, 2) := dk_54 6 (dk_at dksX2_late_4 10 rfl rfl)
theorem dX2_late_107 : decode cX2_late 107 = .ok (.iload 4, 2) := dk_21 4 (dk_at dksX2_late_4 12 rfl rfl)
theorem dX2_late_109 : decode cX2_late 109 = .ok (.ifCond .ne 86, 3) := dk_154 0 86 (dk_at dksX2_late_4 14 rfl rfl)
theorem dX2_late_112 : decode cX2_late 112 = .ok (.iload 5, 2) := dk_21 5 (dk_at dksX2_late_4 17 rfl rfl)
theorem dX2_late_114 : decode cX2_late 114 = .ok (.iconst (-1), 1) := dk_2 (dk_at dksX2_late_4 19 rfl rfl)
theorem dX2_late_115 : decode cX2_late 115 = .ok (.if_icmp .eq 77, 3) := dk_159 0 77 (dk_at dksX2_late_4 20 rfl rfl)
theorem dX2_late_118 : decode cX2_late 118 = .ok (.aload_n 0, 1) := dk_42 (dk_at dksX2_late_4 23 rfl rfl)
theorem dX2_late_119 : decode cX2_late 119 = .ok (.dup, 1) := dk_89 (dk_at dksX2_late_5 0 rfl rfl)
theorem dX2_late_120 : decode cX2_late 120 = .ok (.getfield 188, 3) := dk_180 0 188 (dk_at dksX2_late_5 1 rfl rfl)
theorem dX2_late_123 : decode cX2_late 123 = .ok (.iconst 1, 1) := dk_4 (dk_at dksX2_late_5 4 rfl rfl)
theorem dX2_late_124 : decode cX2_late 124 = .ok (.isub, 1) := dk_100 (dk_at dksX2_late_5 5 rfl rfl)
theorem dX2_late_125 : decode cX2_late 125 = .ok (.putfield 188, 3) := dk_181 0 188 (dk_at dksX2_late_5 6 rfl rfl)
theorem dX2_late_128 : decode cX2_late 128 = .ok (.aload_n 0, 1) := dk_42 (dk_at dksX2_late_5 9 rfl rfl)
theorem dX2_late_129 : decode cX2_late 129 = .ok (.getfield 42, 3) := dk_180 0 42 (dk_at dksX2_late_5 10 rfl rfl)
theorem dX2_late_132 : decode cX2_late 132 = .ok (.iload 5, 2) := dk_21 5 (dk_at dksX2_late_5 13 rfl rfl)
theorem dX2_late_134 : decode cX2_late 134 = .ok (.aload_n 0, 1) := dk_42 (dk_at dksX2_late_5 15 rfl rfl)
theorem dX2_late_135 : decode cX2_late 135 = .ok (.getfield 42, 3) := dk_180 0 42 (dk_at dksX2_late_5 16 rfl rfl)
theorem dX2_late_138 : decode cX2_late 138 = .ok (.aload_n 0, 1) := dk_42 (dk_at dksX2_late_5 19 rfl rfl)
theorem dX2_late_139 : decode cX2_late 139 = .ok (.getfield 188, 3) := dk_180 0 188 (dk_at dksX2_late_5 20 rfl rfl)
theorem dX2_late_142 : decode cX2_late 142 = .ok (.iaload, 1) := dk_46 (dk_at dksX2_late_5 23 rfl rfl)
theorem dX2_late_143 : decode cX2_late 143 = .ok (.iastore, 1) := dk_79 (dk_at dksX2_late_6 0 rfl rfl)
theorem dX2_late_144 : decode cX2_late 144 = .ok (.aload_n 0, 1) := dk_42 (dk_at dksX2_late_6 1 rfl rfl)
theorem dX2_late_145 : decode cX2_late 145 = .ok (.getfield 45, 3) := dk_180 0 45 (dk_at dksX2_late_6 2 rfl rfl)
theorem dX2_late_148 : decode cX2_late 148 = .ok (.iload 5, 2) := dk_21 5 (dk_at dksX2_late_6 5 rfl rfl)
theorem dX2_late_150 : decode cX2_late 150 = .ok (.aload_n 0, 1) := dk_42 (dk_at dksX2_late_6 7 rfl rfl)
theorem dX2_late_151 : decode cX2_late 151 = .ok (.getfield 45, 3) := dk_180 0 45 (dk_at dksX2_late_6 8 rfl rfl)
theorem dX2_late_154 : decode cX2_late 154 = .ok (.aload_n 0, 1) := dk_42 (dk_at dksX2_late_6 11 rfl rfl)
theorem dX2_late_155 : decode cX2_late 155 = .ok (.getfield 188, 3) := dk_180 0 188 (dk_at dksX2_late_6 12 rfl rfl)
theorem dX2_late_158 : decode cX2_late 158 = .ok (.iaload, 1) := dk_46 (dk_at dksX2_late_6 15 rfl rfl)
theorem dX2_late_159 : decode cX2_late 159 = .ok (.iastore, 1) := dk_79 (dk_at dksX2_late_6 16 rfl rfl)
theorem dX2_late_160 : decode cX2_late 160 = .ok (.aload_n 0, 1) := dk_42 (dk_at dksX2_late_6 17 rfl rfl)
theorem dX2_late_161 : decode cX2_late 161 = .ok (.getfield 48, 3) := dk_180 0 48 (dk_at dksX2_late_6 18 rfl rfl)
theorem dX2_late_164 : decode cX2_late 164 = .ok (.iload 5, 2) := dk_21 5 (dk_at dksX2_late_6 21 rfl rfl)
theorem dX2_late_166 : decode cX2_late 166 = .ok (.aload_n 0, 1) := dk_42 (dk_at dksX2_late_6 23 rfl rfl)
theorem dX2_late_167 : decode cX2_late 167 = .ok (.getfield 48, 3) := dk_180 0 48 (dk_at dksX2_late_7 0 rfl rfl)
theorem dX2_late_170 : decode cX2_late 170 = .ok (.aload_n 0, 1) := dk_42 (dk_at dksX2_late_7 3 rfl rfl)
theorem dX2_late_171 : decode cX2_late 171 = .ok (.getfield 188, 3) := dk_180 0 188 (dk_at dksX2_late_7 4 rfl rfl)
theorem dX2_late_174 : decode cX2_late 174 = .ok (.iaload, 1) := dk_46 (dk_at dksX2_late_7 7 rfl rfl)
theorem dX2_late_175 : decode cX2_late 175 = .ok (.iastore, 1) := dk_79 (dk_at dksX2_late_7 8 rfl rfl)
theorem dX2_late_176 : decode cX2_late 176 = .ok (.aload_n 0, 1) := dk_42 (dk_at dksX2_late_7 9 rfl rfl)
theorem dX2_late_177 : decode cX2_late 177 = .ok (.getfield 51, 3) := dk_180 0 51 (dk_at dksX2_late_7 10 rfl rfl)
theorem dX2_late_180 : decode cX2_late 180 = .ok (.iload 5, 2) := dk_21 5 (dk_at dksX2_late_7 13 rfl rfl)
theorem dX2_late_182 : decode cX2_late 182 = .ok (.aload_n 0, 1) := dk_42 (dk_at dksX2_late_7 15 rfl rfl)
theorem dX2_late_183 : decode cX2_late 183 = .ok (.getfield 51, 3) := dk_180 0 51 (dk_at dksX2_late_7 16 rfl rfl)
theorem dX2_late_186 : decode cX2_late 186 = .ok (.aload_n 0, 1) := dk_42 (dk_at dksX2_late_7 19 rfl rfl)
theorem dX2_late_187 : decode cX2_late 187 = .ok (.getfield 188, 3) := dk_180 0 188 (dk_at dksX2_late_7 20 rfl rfl)
theorem dX2_late_190 : decode cX2_late 190 = .ok (.iaload, 1) := dk_46 (dk_at dksX2_late_7 23 rfl rfl)
theorem dX2_late_191 : decode cX2_late 191 = .ok (.iastore, 1) := dk_79 (dk_at dksX2_late_8 0 rfl rfl)
theorem dX2_late_192 : decode cX2_late 192 = .ok (.iload 6, 2) := dk_21 6 (dk_at dksX2_late_8 1 rfl rfl)
theorem dX2_late_194 : decode cX2_late 194 = .ok (.ireturn, 1) := dk_172 (dk_at dksX2_late_8 3 rfl rfl)
theorem dX2_late_195 : decode cX2_late 195 = .ok (.iload 5, 2) := dk_21 5 (dk_at dksX2_late_8 4 rfl rfl)
theorem dX2_late_197 : decode cX2_late 197 = .ok (.iconst (-1), 1) := dk_2 (dk_at dksX2_late_8 6 rfl rfl)
theorem dX2_late_198 : decode cX2_late 198 = .ok (.if_icmp .ne 19, 3) := dk_160 0 19 (dk_at dksX2_late_8 7 rfl rfl)
theorem dX2_late_201 : decode cX2_late 201 = .ok (.aload_n 0, 1) := dk_42 (dk_at dksX2_late_8 10 rfl rfl)
theorem dX2_late_202 : decode cX2_late 202 = .ok (.getfield 188, 3) := dk_180 0 188 (dk_at dksX2_late_8 11 rfl rfl)
theorem dX2_late_205 : decode cX2_late 205 = .ok (.istore 5, 2) := dk_54 5 (dk_at dksX2_late_8 14 rfl rfl)
theorem dX2_late_207 : decode cX2_late 207 = .ok (.aload_n 0, 1) := dk_42 (dk_at dksX2_late_8 16 rfl rfl)
theorem dX2_late_208 : decode cX2_late 208 = .ok (.dup, 1) := dk_89 (dk_at dksX2_late_8 17 rfl rfl)
theorem dX2_late_209 : decode cX2_late 209 = .ok (.getfield 188, 3) := dk_180 0 188 (dk_at dksX2_late_8 18 rfl rfl)
theorem dX2_late_212 : decode cX2_late 212 = .ok (.iconst 1, 1) := dk_4 (dk_at dksX2_late_8 21 rfl rfl)
theorem dX2_late_213 : decode cX2_late 213 = .ok (.iadd, 1) := dk_96 (dk_at dksX2_late_8 22 rfl rfl)
theorem dX2_late_214 : decode cX2_late 214 = .ok (.putfield 188, 3) := dk_181 0 188 (dk_at dksX2_late_9 0 rfl rfl)
theorem dX2_late_217 : decode cX2_late 217 = .ok (.aload_n 0, 1) := dk_42 (dk_at dksX2_late_9 3 rfl rfl)
theorem dX2_late_218 : decode cX2_late 218 = .ok (.getfield 42, 3) := dk_180 0 42 (dk_at dksX2_late_9 4 rfl rfl)
theorem dX2_late_221 : decode cX2_late 221 = .ok (.iload 5, 2) := dk_21 5 (dk_at dksX2_late_9 7 rfl rfl)
theorem dX2_late_223 : decode cX2_late 223 = .ok (.iload_n 1, 1) := dk_27 (dk_at dksX2_late_9 9 rfl rfl)
theorem dX2_late_224 : decode cX2_late 224 = .ok (.iastore, 1) := dk_79 (dk_at dksX2_late_9 10 rfl rfl)
theorem dX2_late_225 : decode cX2_late 225 = .ok (.aload_n 0, 1) := dk_42 (dk_at dksX2_late_9 11 rfl rfl)
theorem dX2_late_226 : decode cX2_late 226 = .ok (.getfield 45, 3) := dk_180 0 45 (dk_at dksX2_late_9 12 rfl rfl)
theorem dX2_late_229 : decode cX2_late 229 = .ok (.iload 5, 2) := dk_21 5 (dk_at dksX2_late_9 15 rfl rfl)
theorem dX2_late_231 : decode cX2_late 231 = .ok (.iload_n 2, 1) := dk_28 (dk_at dksX2_late_9 17 rfl rfl)
theorem dX2_late_232 : decode cX2_late 232 = .ok (.iastore, 1) := dk_79 (dk_at dksX2_late_9 18 rfl rfl)
theorem dX2_late_233 : decode cX2_late 233 = .ok (.aload_n 0, 1) := dk_42 (dk_at dksX2_late_9 19 rfl rfl)
theorem dX2_late_234 : decode cX2_late 234 = .ok (.getfield 48, 3) := dk_180 0 48 (dk_at dksX2_late_9 20 rfl rfl)
theorem dX2_late_237 : decode cX2_late 237 = .ok (.iload 5, 2) := dk_21 5 (dk_at dksX2_late_10 0 rfl rfl)
theorem dX2_late_239 : decode cX2_late 239 = .ok (.iload_n 3, 1) := dk_29 (dk_at dksX2_late_10 2 rfl rfl)
theorem dX2_late_240 : decode cX2_late 240 = .ok (.iastore, 1) := dk_79 (dk_at dksX2_late_10 3 rfl rfl)
theorem dX2_late_241 : decode cX2_late 241 = .ok (.aload_n 0, 1) := dk_42 (dk_at dksX2_late_10 4 rfl rfl)
theorem dX2_late_242 : decode cX2_late 242 = .ok (.getfield 51, 3) := dk_180 0 51 (dk_at dksX2_late_10 5 rfl rfl)
theorem dX2_late_245 : decode cX2_late 245 = .ok (.iload 5, 2) := dk_21 5 (dk_at dksX2_late_10 8 rfl rfl)
theorem dX2_late_247 : decode cX2_late 247 = .ok (.iload 4, 2) := dk_21 4 (dk_at dksX2_late_10 10 rfl rfl)
theorem dX2_late_249 : decode cX2_late 249 = .ok (.iastore, 1) := dk_79 (dk_at dksX2_late_10 12 rfl rfl)
theorem dX2_late_250 : decode cX2_late 250 = .ok (.iload 6, 2) := dk_21 6 (dk_at dksX2_late_10 13 rfl rfl)
theorem dX2_late_252 : decode cX2_late 252 = .ok (.ireturn, 1) := dk_172 (dk_at dksX2_late_10 15 rfl rfl)
abbrev cX2_lateAt : ByteArray := prog_15_method_38_code
def yX2_lateAt : MethodName := ⟨RX2, "lateAt", "(II)I"⟩
def dkwX2_lateAt_2 : List UInt8 := [167, 255, 215, 29, 172]
abbrev dktX2_lateAt_2 : List UInt8 := dkwX2_lateAt_2 ++ []
def dkwX2_lateAt_1 : List UInt8 := [160, 0, 19, 42, 180, 0, 45, 21, 4, 46, 28, 160, 0, 8, 21, 4, 167, 0, 4, 29, 62, 132, 4, 1]
abbrev dktX2_lateAt_1 : List UInt8 := dkwX2_lateAt_1 ++ dktX2_lateAt_2
def dkwX2_lateAt_0 : List UInt8 := [2, 62, 3, 54, 4, 21, 4, 42, 180, 0, 188, 162, 0, 38, 42, 180, 0, 42, 21, 4, 46, 27]
abbrev dktX2_lateAt_0 : List UInt8 := dkwX2_lateAt_0 ++ dktX2_lateAt_1
theorem dksX2_lateAt_0 : cX2_lateAt.data.toList.drop 0 = dktX2_lateAt_0 := by decide +kernel
theorem dksX2_lateAt_1 : cX2_lateAt.data.toList.drop 22 = dktX2_lateAt_1 := dk_seg dksX2_lateAt_0 22 rfl rfl
theorem dksX2_lateAt_2 : cX2_lateAt.data.toList.drop 46 = dktX2_lateAt_2 := dk_seg dksX2_lateAt_1 24 rfl rfl
theorem dX2_lateAt_0 : decode cX2_lateAt 0 = .ok (.iconst (-1), 1) := dk_2 (dk_at dksX2_lateAt_0 0 rfl rfl)
theorem dX2_lateAt_1 : decode cX2_lateAt 1 = .ok (.istore_n 3, 1) := dk_62 (dk_at dksX2_lateAt_0 1 rfl rfl)
theorem dX2_lateAt_2 : decode cX2_lateAt 2 = .ok (.iconst 0, 1) := dk_3 (dk_at dksX2_lateAt_0 2 rfl rfl)
theorem dX2_lateAt_3 : decode cX2_lateAt 3 = .ok (.istore 4, 2) := dk_54 4 (dk_at dksX2_lateAt_0 3 rfl rfl)
theorem dX2_lateAt_5 : decode cX2_lateAt 5 = .ok (.iload 4, 2) := dk_21 4 (dk_at dksX2_lateAt_0 5 rfl rfl)
theorem dX2_lateAt_7 : decode cX2_lateAt 7 = .ok (.aload_n 0, 1) := dk_42 (dk_at dksX2_lateAt_0 7 rfl rfl)
theorem dX2_lateAt_8 : decode cX2_lateAt 8 = .ok (.getfield 188, 3) := dk_180 0 188 (dk_at dksX2_lateAt_0 8 rfl rfl)
theorem dX2_lateAt_11 : decode cX2_lateAt 11 = .ok (.if_icmp .ge 38, 3) := dk_162 0 38 (dk_at dksX2_lateAt_0 11 rfl rfl)
theorem dX2_lateAt_14 : decode cX2_lateAt 14 = .ok (.aload_n 0, 1) := dk_42 (dk_at dksX2_lateAt_0 14 rfl rfl)
theorem dX2_lateAt_15 : decode cX2_lateAt 15 = .ok (.getfield 42, 3) := dk_180 0 42 (dk_at dksX2_lateAt_0 15 rfl rfl)
theorem dX2_lateAt_18 : decode cX2_lateAt 18 = .ok (.iload 4, 2) := dk_21 4 (dk_at dksX2_lateAt_0 18 rfl rfl)
theorem dX2_lateAt_20 : decode cX2_lateAt 20 = .ok (.iaload, 1) := dk_46 (dk_at dksX2_lateAt_0 20 rfl rfl)
theorem dX2_lateAt_21 : decode cX2_lateAt 21 = .ok (.iload_n 1, 1) := dk_27 (dk_at dksX2_lateAt_0 21 rfl rfl)
theorem dX2_lateAt_22 : decode cX2_lateAt 22 = .ok (.if_icmp .ne 19, 3) := dk_160 0 19 (dk_at dksX2_lateAt_1 0 rfl rfl)
theorem dX2_lateAt_25 : decode cX2_lateAt 25 = .ok (.aload_n 0, 1) := dk_42 (dk_at dksX2_lateAt_1 3 rfl rfl)
theorem dX2_lateAt_26 : decode cX2_lateAt 26 = .ok (.getfield 45, 3) := dk_180 0 45 (dk_at dksX2_lateAt_1 4 rfl rfl)
theorem dX2_lateAt_29 : decode cX2_lateAt 29 = .ok (.iload 4, 2) := dk_21 4 (dk_at dksX2_lateAt_1 7 rfl rfl)
theorem dX2_lateAt_31 : decode cX2_lateAt 31 = .ok (.iaload, 1) := dk_46 (dk_at dksX2_lateAt_1 9 rfl rfl)
theorem dX2_lateAt_32 : decode cX2_lateAt 32 = .ok (.iload_n 2, 1) := dk_28 (dk_at dksX2_lateAt_1 10 rfl rfl)
theorem dX2_lateAt_33 : decode cX2_lateAt 33 = .ok (.if_icmp .ne 8, 3) := dk_160 0 8 (dk_at dksX2_lateAt_1 11 rfl rfl)
theorem dX2_lateAt_36 : decode cX2_lateAt 36 = .ok (.iload 4, 2) := dk_21 4 (dk_at dksX2_lateAt_1 14 rfl rfl)
theorem dX2_lateAt_38 : decode cX2_lateAt 38 = .ok (.goto 4, 3) := dk_167 0 4 (dk_at dksX2_lateAt_1 16 rfl rfl)
theorem dX2_lateAt_41 : decode cX2_lateAt 41 = .ok (.iload_n 3, 1) := dk_29 (dk_at dksX2_lateAt_1 19 rfl rfl)
theorem dX2_lateAt_42 : decode cX2_lateAt 42 = .ok (.istore_n 3, 1) := dk_62 (dk_at dksX2_lateAt_1 20 rfl rfl)
theorem dX2_lateAt_43 : decode cX2_lateAt 43 = .ok (.iinc 4 1, 3) := dk_132 4 1 (dk_at dksX2_lateAt_1 21 rfl rfl)
theorem dX2_lateAt_46 : decode cX2_lateAt 46 = .ok (.goto (-41), 3) := dk_167 255 215 (dk_at dksX2_lateAt_2 0 rfl rfl)
theorem dX2_lateAt_49 : decode cX2_lateAt 49 = .ok (.iload_n 3, 1) := dk_29 (dk_at dksX2_lateAt_2 3 rfl rfl)
theorem dX2_lateAt_50 : decode cX2_lateAt 50 = .ok (.ireturn, 1) := dk_172 (dk_at dksX2_lateAt_2 4 rfl rfl)
abbrev cX2_lateness : ByteArray := prog_15_method_41_code
def yX2_lateness : MethodName := ⟨RX2, "lateness", "(III)I"⟩
def dkwX2_lateness_1 : List UInt8 := [28, 29, 182, 0, 195, 172]
abbrev dktX2_lateness_1 : List UInt8 := dkwX2_lateness_1 ++ []
def dkwX2_lateness_0 : List UInt8 := [42, 28, 29, 182, 0, 162, 154, 0, 12, 42, 27, 5, 182, 0, 154, 153, 0, 7, 3, 167, 0, 10, 42, 27]
abbrev dktX2_lateness_0 : List UInt8 := dkwX2_lateness_0 ++ dktX2_lateness_1
theorem dksX2_lateness_0 : cX2_lateness.data.toList.drop 0 = dktX2_lateness_0 := by decide +kernel
theorem dksX2_lateness_1 : cX2_lateness.data.toList.drop 24 = dktX2_lateness_1 := dk_seg dksX2_lateness_0 24 rfl rfl
theorem dX2_lateness_0 : decode cX2_lateness 0 = .ok (.aload_n 0, 1) := dk_42 (dk_at dksX2_lateness_0 0 rfl rfl)
theorem dX2_lateness_1 : decode cX2_lateness 1 = .ok (.iload_n 2, 1) := dk_28 (dk_at dksX2_lateness_0 1 rfl rfl)
theorem dX2_lateness_2 : decode cX2_lateness 2 = .ok (.iload_n 3, 1) := dk_29 (dk_at dksX2_lateness_0 2 rfl rfl)
theorem dX2_lateness_3 : decode cX2_lateness 3 = .ok (.invokevirtual 162, 3) := dk_182 0 162 (dk_at dksX2_lateness_0 3 rfl rfl)
theorem dX2_lateness_6 : decode cX2_lateness 6 = .ok (.ifCond .ne 12, 3) := dk_154 0 12 (dk_at dksX2_lateness_0 6 rfl rfl)
theorem dX2_lateness_9 : decode cX2_lateness 9 = .ok (.aload_n 0, 1) := dk_42 (dk_at dksX2_lateness_0 9 rfl rfl)
theorem dX2_lateness_10 : decode cX2_lateness 10 = .ok (.iload_n 1, 1) := dk_27 (dk_at dksX2_lateness_0 10 rfl rfl)
theorem dX2_lateness_11 : decode cX2_lateness 11 = .ok (.iconst 2, 1) := dk_5 (dk_at dksX2_lateness_0 11 rfl rfl)
theorem dX2_lateness_12 : decode cX2_lateness 12 = .ok (.invokevirtual 154, 3) := dk_182 0 154 (dk_at dksX2_lateness_0 12 rfl rfl)
theorem dX2_lateness_15 : decode cX2_lateness 15 = .ok (.ifCond .eq 7, 3) := dk_153 0 7 (dk_at dksX2_lateness_0 15 rfl rfl)
theorem dX2_lateness_18 : decode cX2_lateness 18 = .ok (.iconst 0, 1) := dk_3 (dk_at dksX2_lateness_0 18 rfl rfl)
theorem dX2_lateness_19 : decode cX2_lateness 19 = .ok (.goto 10, 3) := dk_167 0 10 (dk_at dksX2_lateness_0 19 rfl rfl)
theorem dX2_lateness_22 : decode cX2_lateness 22 = .ok (.aload_n 0, 1) := dk_42 (dk_at dksX2_lateness_0 22 rfl rfl)
theorem dX2_lateness_23 : decode cX2_lateness 23 = .ok (.iload_n 1, 1) := dk_27 (dk_at dksX2_lateness_0 23 rfl rfl)
theorem dX2_lateness_24 : decode cX2_lateness 24 = .ok (.iload_n 2, 1) := dk_28 (dk_at dksX2_lateness_1 0 rfl rfl)
theorem dX2_lateness_25 : decode cX2_lateness 25 = .ok (.iload_n 3, 1) := dk_29 (dk_at dksX2_lateness_1 1 rfl rfl)
theorem dX2_lateness_26 : decode cX2_lateness 26 = .ok (.invokevirtual 195, 3) := dk_182 0 195 (dk_at dksX2_lateness_1 2 rfl rfl)
theorem dX2_lateness_29 : decode cX2_lateness 29 = .ok (.ireturn, 1) := dk_172 (dk_at dksX2_lateness_1 5 rfl rfl)
abbrev cX2_lateOf : ByteArray := prog_15_method_40_code
def yX2_lateOf : MethodName := ⟨RX2, "lateOf", "(III)I"⟩
def dkwX2_lateOf_1 : List UInt8 := [162, 0, 7, 3, 167, 0, 10, 42, 180, 0, 51, 21, 4, 46, 172]
abbrev dktX2_lateOf_1 : List UInt8 := dkwX2_lateOf_1 ++ []
def dkwX2_lateOf_0 : List UInt8 := [42, 27, 28, 182, 0, 191, 54, 4, 21, 4, 2, 159, 0, 14, 29, 42, 180, 0, 48, 21, 4, 46]
abbrev dktX2_lateOf_0 : List UInt8 := dkwX2_lateOf_0 ++ dktX2_lateOf_1
theorem dksX2_lateOf_0 : cX2_lateOf.data.toList.drop 0 = dktX2_lateOf_0 := by decide +kernel
theorem dksX2_lateOf_1 : cX2_lateOf.data.toList.drop 22 = dktX2_lateOf_1 := dk_seg dksX2_lateOf_0 22 rfl rfl
theorem dX2_lateOf_0 : decode cX2_lateOf 0 = .ok (.aload_n 0, 1) := dk_42 (dk_at dksX2_lateOf_0 0 rfl rfl)
theorem dX2_lateOf_1 : decode cX2_lateOf 1 = .ok (.iload_n 1, 1) := dk_27 (dk_at dksX2_lateOf_0 1 rfl rfl)
theorem dX2_lateOf_2 : decode cX2_lateOf 2 = .ok (.iload_n 2, 1) := dk_28 (dk_at dksX2_lateOf_0 2 rfl rfl)
theorem dX2_lateOf_3 : decode cX2_lateOf 3 = .ok (.invokevirtual 191, 3) := dk_182 0 191 (dk_at dksX2_lateOf_0 3 rfl rfl)
theorem dX2_lateOf_6 : decode cX2_lateOf 6 = .ok (.istore 4, 2) := dk_54 4 (dk_at dksX2_lateOf_0 6 rfl rfl)
theorem dX2_lateOf_8 : decode cX2_lateOf 8 = .ok (.iload 4, 2) := dk_21 4 (dk_at dksX2_lateOf_0 8 rfl rfl)
theorem dX2_lateOf_10 : decode cX2_lateOf 10 = .ok (.iconst (-1), 1) := dk_2 (dk_at dksX2_lateOf_0 10 rfl rfl)
theorem dX2_lateOf_11 : decode cX2_lateOf 11 = .ok (.if_icmp .eq 14, 3) := dk_159 0 14 (dk_at dksX2_lateOf_0 11 rfl rfl)
theorem dX2_lateOf_14 : decode cX2_lateOf 14 = .ok (.iload_n 3, 1) := dk_29 (dk_at dksX2_lateOf_0 14 rfl rfl)
theorem dX2_lateOf_15 : decode cX2_lateOf 15 = .ok (.aload_n 0, 1) := dk_42 (dk_at dksX2_lateOf_0 15 rfl rfl)
theorem dX2_lateOf_16 : decode cX2_lateOf 16 = .ok (.getfield 48, 3) := dk_180 0 48 (dk_at dksX2_lateOf_0 16 rfl rfl)
theorem dX2_lateOf_19 : decode cX2_lateOf 19 = .ok (.iload 4, 2) := dk_21 4 (dk_at dksX2_lateOf_0 19 rfl rfl)
theorem dX2_lateOf_21 : decode cX2_lateOf 21 = .ok (.iaload, 1) := dk_46 (dk_at dksX2_lateOf_0 21 rfl rfl)
theorem dX2_lateOf_22 : decode cX2_lateOf 22 = .ok (.if_icmp .ge 7, 3) := dk_162 0 7 (dk_at dksX2_lateOf_1 0 rfl rfl)
theorem dX2_lateOf_25 : decode cX2_lateOf 25 = .ok (.iconst 0, 1) := dk_3 (dk_at dksX2_lateOf_1 3 rfl rfl)
theorem dX2_lateOf_26 : decode cX2_lateOf 26 = .ok (.goto 10, 3) := dk_167 0 10 (dk_at dksX2_lateOf_1 4 rfl rfl)
theorem dX2_lateOf_29 : decode cX2_lateOf 29 = .ok (.aload_n 0, 1) := dk_42 (dk_at dksX2_lateOf_1 7 rfl rfl)
theorem dX2_lateOf_30 : decode cX2_lateOf 30 = .ok (.getfield 51, 3) := dk_180 0 51 (dk_at dksX2_lateOf_1 8 rfl rfl)
theorem dX2_lateOf_33 : decode cX2_lateOf 33 = .ok (.iload 4, 2) := dk_21 4 (dk_at dksX2_lateOf_1 11 rfl rfl)
theorem dX2_lateOf_35 : decode cX2_lateOf 35 = .ok (.iaload, 1) := dk_46 (dk_at dksX2_lateOf_1 13 rfl rfl)
theorem dX2_lateOf_36 : decode cX2_lateOf 36 = .ok (.ireturn, 1) := dk_172 (dk_at dksX2_lateOf_1 14 rfl rfl)
abbrev cX2_onTime : ByteArray := prog_15_method_42_code
def yX2_onTime : MethodName := ⟨RX2, "onTime", "()I"⟩
def dkwX2_onTime_0 : List UInt8 := [42, 3, 181, 0, 120, 42, 180, 0, 188, 60, 42, 3, 181, 0, 188, 27, 172]
abbrev dktX2_onTime_0 : List UInt8 := dkwX2_onTime_0 ++ []
theorem dksX2_onTime_0 : cX2_onTime.data.toList.drop 0 = dktX2_onTime_0 := by decide +kernel
theorem dX2_onTime_0 : decode cX2_onTime 0 = .ok (.aload_n 0, 1) := dk_42 (dk_at dksX2_onTime_0 0 rfl rfl)
theorem dX2_onTime_1 : decode cX2_onTime 1 = .ok (.iconst 0, 1) := dk_3 (dk_at dksX2_onTime_0 1 rfl rfl)
theorem dX2_onTime_2 : decode cX2_onTime 2 = .ok (.putfield 120, 3) := dk_181 0 120 (dk_at dksX2_onTime_0 2 rfl rfl)
theorem dX2_onTime_5 : decode cX2_onTime 5 = .ok (.aload_n 0, 1) := dk_42 (dk_at dksX2_onTime_0 5 rfl rfl)
theorem dX2_onTime_6 : decode cX2_onTime 6 = .ok (.getfield 188, 3) := dk_180 0 188 (dk_at dksX2_onTime_0 6 rfl rfl)
theorem dX2_onTime_9 : decode cX2_onTime 9 = .ok (.istore_n 1, 1) := dk_60 (dk_at dksX2_onTime_0 9 rfl rfl)
theorem dX2_onTime_10 : decode cX2_onTime 10 = .ok (.aload_n 0, 1) := dk_42 (dk_at dksX2_onTime_0 10 rfl rfl)
theorem dX2_onTime_11 : decode cX2_onTime 11 = .ok (.iconst 0, 1) := dk_3 (dk_at dksX2_onTime_0 11 rfl rfl)
theorem dX2_onTime_12 : decode cX2_onTime 12 = .ok (.putfield 188, 3) := dk_181 0 188 (dk_at dksX2_onTime_0 12 rfl rfl)
theorem dX2_onTime_15 : decode cX2_onTime 15 = .ok (.iload_n 1, 1) := dk_27 (dk_at dksX2_onTime_0 15 rfl rfl)
theorem dX2_onTime_16 : decode cX2_onTime 16 = .ok (.ireturn, 1) := dk_172 (dk_at dksX2_onTime_0 16 rfl rfl)
abbrev cX2_earliest : ByteArray := prog_15_method_57_code
def yX2_earliest : MethodName := ⟨RX2, "earliest", "(IIII)I"⟩
def dkwX2_earliest_2 : List UInt8 := [167, 0, 5, 21, 5, 172]
abbrev dktX2_earliest_2 : List UInt8 := dkwX2_earliest_2 ++ []
def dkwX2_earliest_1 : List UInt8 := [54, 5, 42, 21, 5, 18, 150, 161, 0, 7, 4, 167, 0, 4, 3, 6, 182, 0, 130, 153, 0, 7, 3]
abbrev dktX2_earliest_1 : List UInt8 := dkwX2_earliest_1 ++ dktX2_earliest_2
def dkwX2_earliest_0 : List UInt8 := [42, 27, 28, 29, 21, 4, 182, 0, 239, 153, 0, 5, 3, 172, 42, 27, 28, 29, 21, 4, 182, 0, 243]
abbrev dktX2_earliest_0 : List UInt8 := dkwX2_earliest_0 ++ dktX2_earliest_1
theorem dksX2_earliest_0 : cX2_earliest.data.toList.drop 0 = dktX2_earliest_0 := by decide +kernel
theorem dksX2_earliest_1 : cX2_earliest.data.toList.drop 23 = dktX2_earliest_1 := dk_seg dksX2_earliest_0 23 rfl rfl
theorem dksX2_earliest_2 : cX2_earliest.data.toList.drop 46 = dktX2_earliest_2 := dk_seg dksX2_earliest_1 23 rfl rfl
theorem dX2_earliest_0 : decode cX2_earliest 0 = .ok (.aload_n 0, 1) := dk_42 (dk_at dksX2_earliest_0 0 rfl rfl)
theorem dX2_earliest_1 : decode cX2_earliest 1 = .ok (.iload_n 1, 1) := dk_27 (dk_at dksX2_earliest_0 1 rfl rfl)
theorem dX2_earliest_2 : decode cX2_earliest 2 = .ok (.iload_n 2, 1) := dk_28 (dk_at dksX2_earliest_0 2 rfl rfl)
theorem dX2_earliest_3 : decode cX2_earliest 3 = .ok (.iload_n 3, 1) := dk_29 (dk_at dksX2_earliest_0 3 rfl rfl)
theorem dX2_earliest_4 : decode cX2_earliest 4 = .ok (.iload 4, 2) := dk_21 4 (dk_at dksX2_earliest_0 4 rfl rfl)
theorem dX2_earliest_6 : decode cX2_earliest 6 = .ok (.invokevirtual 239, 3) := dk_182 0 239 (dk_at dksX2_earliest_0 6 rfl rfl)
theorem dX2_earliest_9 : decode cX2_earliest 9 = .ok (.ifCond .eq 5, 3) := dk_153 0 5 (dk_at dksX2_earliest_0 9 rfl rfl)
theorem dX2_earliest_12 : decode cX2_earliest 12 = .ok (.iconst 0, 1) := dk_3 (dk_at dksX2_earliest_0 12 rfl rfl)
theorem dX2_earliest_13 : decode cX2_earliest 13 = .ok (.ireturn, 1) := dk_172 (dk_at dksX2_earliest_0 13 rfl rfl)
theorem dX2_earliest_14 : decode cX2_earliest 14 = .ok (.aload_n 0, 1) := dk_42 (dk_at dksX2_earliest_0 14 rfl rfl)
theorem dX2_earliest_15 : decode cX2_earliest 15 = .ok (.iload_n 1, 1) := dk_27 (dk_at dksX2_earliest_0 15 rfl rfl)
theorem dX2_earliest_16 : decode cX2_earliest 16 = .ok (.iload_n 2, 1) := dk_28 (dk_at dksX2_earliest_0 16 rfl rfl)
theorem dX2_earliest_17 : decode cX2_earliest 17 = .ok (.iload_n 3, 1) := dk_29 (dk_at dksX2_earliest_0 17 rfl rfl)
theorem dX2_earliest_18 : decode cX2_earliest 18 = .ok (.iload 4, 2) := dk_21 4 (dk_at dksX2_earliest_0 18 rfl rfl)
theorem dX2_earliest_20 : decode cX2_earliest 20 = .ok (.invokevirtual 243, 3) := dk_182 0 243 (dk_at dksX2_earliest_0 20 rfl rfl)
theorem dX2_earliest_23 : decode cX2_earliest 23 = .ok (.istore 5, 2) := dk_54 5 (dk_at dksX2_earliest_1 0 rfl rfl)
theorem dX2_earliest_25 : decode cX2_earliest 25 = .ok (.aload_n 0, 1) := dk_42 (dk_at dksX2_earliest_1 2 rfl rfl)
theorem dX2_earliest_26 : decode cX2_earliest 26 = .ok (.iload 5, 2) := dk_21 5 (dk_at dksX2_earliest_1 3 rfl rfl)
theorem dX2_earliest_28 : decode cX2_earliest 28 = .ok (.ldc 150, 2) := dk_18 150 (dk_at dksX2_earliest_1 5 rfl rfl)
theorem dX2_earliest_30 : decode cX2_earliest 30 = .ok (.if_icmp .lt 7, 3) := dk_161 0 7 (dk_at dksX2_earliest_1 7 rfl rfl)
theorem dX2_earliest_33 : decode cX2_earliest 33 = .ok (.iconst 1, 1) := dk_4 (dk_at dksX2_earliest_1 10 rfl rfl)
theorem dX2_earliest_34 : decode cX2_earliest 34 = .ok (.goto 4, 3) := dk_167 0 4 (dk_at dksX2_earliest_1 11 rfl rfl)
theorem dX2_earliest_37 : decode cX2_earliest 37 = .ok (.iconst 0, 1) := dk_3 (dk_at dksX2_earliest_1 14 rfl rfl)
theorem dX2_earliest_38 : decode cX2_earliest 38 = .ok (.iconst 3, 1) := dk_6 (dk_at dksX2_earliest_1 15 rfl rfl)
theorem dX2_earliest_39 : decode cX2_earliest 39 = .ok (.invokevirtual 130, 3) := dk_182 0 130 (dk_at dksX2_earliest_1 16 rfl rfl)
theorem dX2_earliest_42 : decode cX2_earliest 42 = .ok (.ifCond .eq 7, 3) := dk_153 0 7 (dk_at dksX2_earliest_1 19 rfl rfl)
theorem dX2_earliest_45 : decode cX2_earliest 45 = .ok (.iconst 0, 1) := dk_3 (dk_at dksX2_earliest_1 22 rfl rfl)
theorem dX2_earliest_46 : decode cX2_earliest 46 = .ok (.goto 5, 3) := dk_167 0 5 (dk_at dksX2_earliest_2 0 rfl rfl)
theorem dX2_earliest_49 : decode cX2_earliest 49 = .ok (.iload 5, 2) := dk_21 5 (dk_at dksX2_earliest_2 3 rfl rfl)
theorem dX2_earliest_51 : decode cX2_earliest 51 = .ok (.ireturn, 1) := dk_172 (dk_at dksX2_earliest_2 5 rfl rfl)
abbrev cX2_isAskedWrong : ByteArray := prog_15_method_56_code
def yX2_isAskedWrong : MethodName := ⟨RX2, "isAskedWrong", "(IIII)Z"⟩
def dkwX2_isAskedWrong_2 : List UInt8 := [153, 0, 7, 4, 167, 0, 4, 3, 172]
abbrev dktX2_isAskedWrong_2 : List UInt8 := dkwX2_isAskedWrong_2 ++ []
def dkwX2_isAskedWrong_1 : List UInt8 := [153, 0, 15, 21, 4, 3, 17, 5, 159, 184, 0, 126, 154, 0, 7, 4, 167, 0, 4, 3, 5, 182, 0, 130]
abbrev dktX2_isAskedWrong_1 : List UInt8 := dkwX2_isAskedWrong_1 ++ dktX2_isAskedWrong_2
def dkwX2_isAskedWrong_0 : List UInt8 := [42, 27, 182, 0, 147, 154, 0, 46, 42, 28, 182, 0, 147, 154, 0, 38, 42, 29, 3, 16, 27, 184, 0, 126]
abbrev dktX2_isAskedWrong_0 : List UInt8 := dkwX2_isAskedWrong_0 ++ dktX2_isAskedWrong_1
theorem dksX2_isAskedWrong_0 : cX2_isAskedWrong.data.toList.drop 0 = dktX2_isAskedWrong_0 := by decide +kernel
theorem dksX2_isAskedWrong_1 : cX2_isAskedWrong.data.toList.drop 24 = dktX2_isAskedWrong_1 := dk_seg dksX2_isAskedWrong_0 24 rfl rfl
theorem dksX2_isAskedWrong_2 : cX2_isAskedWrong.data.toList.drop 48 = dktX2_isAskedWrong_2 := dk_seg dksX2_isAskedWrong_1 24 rfl rfl
theorem dX2_isAskedWrong_0 : decode cX2_isAskedWrong 0 = .ok (.aload_n 0, 1) := dk_42 (dk_at dksX2_isAskedWrong_0 0 rfl rfl)
theorem dX2_isAskedWrong_1 : decode cX2_isAskedWrong 1 = .ok (.iload_n 1, 1) := dk_27 (dk_at dksX2_isAskedWrong_0 1 rfl rfl)
theorem dX2_isAskedWrong_2 : decode cX2_isAskedWrong 2 = .ok (.invokevirtual 147, 3) := dk_182 0 147 (dk_at dksX2_isAskedWrong_0 2 rfl rfl)
theorem dX2_isAskedWrong_5 : decode cX2_isAskedWrong 5 = .ok (.ifCond .ne 46, 3) := dk_154 0 46 (dk_at dksX2_isAskedWrong_0 5 rfl rfl)
theorem dX2_isAskedWrong_8 : decode cX2_isAskedWrong 8 = .ok (.aload_n 0, 1) := dk_42 (dk_at dksX2_isAskedWrong_0 8 rfl rfl)
theorem dX2_isAskedWrong_9 : decode cX2_isAskedWrong 9 = .ok (.iload_n 2, 1) := dk_28 (dk_at dksX2_isAskedWrong_0 9 rfl rfl)
theorem dX2_isAskedWrong_10 : decode cX2_isAskedWrong 10 = .ok (.invokevirtual 147, 3) := dk_182 0 147 (dk_at dksX2_isAskedWrong_0 10 rfl rfl)
theorem dX2_isAskedWrong_13 : decode cX2_isAskedWrong 13 = .ok (.ifCond .ne 38, 3) := dk_154 0 38 (dk_at dksX2_isAskedWrong_0 13 rfl rfl)
theorem dX2_isAskedWrong_16 : decode cX2_isAskedWrong 16 = .ok (.aload_n 0, 1) := dk_42 (dk_at dksX2_isAskedWrong_0 16 rfl rfl)
theorem dX2_isAskedWrong_17 : decode cX2_isAskedWrong 17 = .ok (.iload_n 3, 1) := dk_29 (dk_at dksX2_isAskedWrong_0 17 rfl rfl)
theorem dX2_isAskedWrong_18 : decode cX2_isAskedWrong 18 = .ok (.iconst 0, 1) := dk_3 (dk_at dksX2_isAskedWrong_0 18 rfl rfl)
theorem dX2_isAskedWrong_19 : decode cX2_isAskedWrong 19 = .ok (.bipush 27, 2) := dk_16 27 (dk_at dksX2_isAskedWrong_0 19 rfl rfl)
theorem dX2_isAskedWrong_21 : decode cX2_isAskedWrong 21 = .ok (.invokestatic 126, 3) := dk_184 0 126 (dk_at dksX2_isAskedWrong_0 21 rfl rfl)
theorem dX2_isAskedWrong_24 : decode cX2_isAskedWrong 24 = .ok (.ifCond .eq 15, 3) := dk_153 0 15 (dk_at dksX2_isAskedWrong_1 0 rfl rfl)
theorem dX2_isAskedWrong_27 : decode cX2_isAskedWrong 27 = .ok (.iload 4, 2) := dk_21 4 (dk_at dksX2_isAskedWrong_1 3 rfl rfl)
theorem dX2_isAskedWrong_29 : decode cX2_isAskedWrong 29 = .ok (.iconst 0, 1) := dk_3 (dk_at dksX2_isAskedWrong_1 5 rfl rfl)
theorem dX2_isAskedWrong_30 : decode cX2_isAskedWrong 30 = .ok (.sipush 1439, 3) := dk_17 5 159 (dk_at dksX2_isAskedWrong_1 6 rfl rfl)
theorem dX2_isAskedWrong_33 : decode cX2_isAskedWrong 33 = .ok (.invokestatic 126, 3) := dk_184 0 126 (dk_at dksX2_isAskedWrong_1 9 rfl rfl)
theorem dX2_isAskedWrong_36 : decode cX2_isAskedWrong 36 = .ok (.ifCond .ne 7, 3) := dk_154 0 7 (dk_at dksX2_isAskedWrong_1 12 rfl rfl)
theorem dX2_isAskedWrong_39 : decode cX2_isAskedWrong 39 = .ok (.iconst 1, 1) := dk_4 (dk_at dksX2_isAskedWrong_1 15 rfl rfl)
theorem dX2_isAskedWrong_40 : decode cX2_isAskedWrong 40 = .ok (.goto 4, 3) := dk_167 0 4 (dk_at dksX2_isAskedWrong_1 16 rfl rfl)
theorem dX2_isAskedWrong_43 : decode cX2_isAskedWrong 43 = .ok (.iconst 0, 1) := dk_3 (dk_at dksX2_isAskedWrong_1 19 rfl rfl)
theorem dX2_isAskedWrong_44 : decode cX2_isAskedWrong 44 = .ok (.iconst 2, 1) := dk_5 (dk_at dksX2_isAskedWrong_1 20 rfl rfl)
theorem dX2_isAskedWrong_45 : decode cX2_isAskedWrong 45 = .ok (.invokevirtual 130, 3) := dk_182 0 130 (dk_at dksX2_isAskedWrong_1 21 rfl rfl)
theorem dX2_isAskedWrong_48 : decode cX2_isAskedWrong 48 = .ok (.ifCond .eq 7, 3) := dk_153 0 7 (dk_at dksX2_isAskedWrong_2 0 rfl rfl)
theorem dX2_isAskedWrong_51 : decode cX2_isAskedWrong 51 = .ok (.iconst 1, 1) := dk_4 (dk_at dksX2_isAskedWrong_2 3 rfl rfl)
theorem dX2_isAskedWrong_52 : decode cX2_isAskedWrong 52 = .ok (.goto 4, 3) := dk_167 0 4 (dk_at dksX2_isAskedWrong_2 4 rfl rfl)
theorem dX2_isAskedWrong_55 : decode cX2_isAskedWrong 55 = .ok (.iconst 0, 1) := dk_3 (dk_at dksX2_isAskedWrong_2 7 rfl rfl)
theorem dX2_isAskedWrong_56 : decode cX2_isAskedWrong 56 = .ok (.ireturn, 1) := dk_172 (dk_at dksX2_isAskedWrong_2 8 rfl rfl)
abbrev cX2_earliestOf : ByteArray := prog_15_method_55_code
def yX2_earliestOf : MethodName := ⟨RX2, "earliestOf", "(IIII)I"⟩
def dkwX2_earliestOf_0 : List UInt8 := [42, 29, 181, 0, 198, 42, 27, 21, 4, 182, 0, 229, 42, 182, 0, 232, 42, 28, 182, 0, 235, 172]
abbrev dktX2_earliestOf_0 : List UInt8 := dkwX2_earliestOf_0 ++ []
theorem dksX2_earliestOf_0 : cX2_earliestOf.data.toList.drop 0 = dktX2_earliestOf_0 := by decide +kernel
theorem dX2_earliestOf_0 : decode cX2_earliestOf 0 = .ok (.aload_n 0, 1) := dk_42 (dk_at dksX2_earliestOf_0 0 rfl rfl)
theorem dX2_earliestOf_1 : decode cX2_earliestOf 1 = .ok (.iload_n 3, 1) := dk_29 (dk_at dksX2_earliestOf_0 1 rfl rfl)
theorem dX2_earliestOf_2 : decode cX2_earliestOf 2 = .ok (.putfield 198, 3) := dk_181 0 198 (dk_at dksX2_earliestOf_0 2 rfl rfl)
theorem dX2_earliestOf_5 : decode cX2_earliestOf 5 = .ok (.aload_n 0, 1) := dk_42 (dk_at dksX2_earliestOf_0 5 rfl rfl)
theorem dX2_earliestOf_6 : decode cX2_earliestOf 6 = .ok (.iload_n 1, 1) := dk_27 (dk_at dksX2_earliestOf_0 6 rfl rfl)
theorem dX2_earliestOf_7 : decode cX2_earliestOf 7 = .ok (.iload 4, 2) := dk_21 4 (dk_at dksX2_earliestOf_0 7 rfl rfl)
theorem dX2_earliestOf_9 : decode cX2_earliestOf 9 = .ok (.invokevirtual 229, 3) := dk_182 0 229 (dk_at dksX2_earliestOf_0 9 rfl rfl)
theorem dX2_earliestOf_12 : decode cX2_earliestOf 12 = .ok (.aload_n 0, 1) := dk_42 (dk_at dksX2_earliestOf_0 12 rfl rfl)
theorem dX2_earliestOf_13 : decode cX2_earliestOf 13 = .ok (.invokevirtual 232, 3) := dk_182 0 232 (dk_at dksX2_earliestOf_0 13 rfl rfl)
theorem dX2_earliestOf_16 : decode cX2_earliestOf 16 = .ok (.aload_n 0, 1) := dk_42 (dk_at dksX2_earliestOf_0 16 rfl rfl)
theorem dX2_earliestOf_17 : decode cX2_earliestOf 17 = .ok (.iload_n 2, 1) := dk_28 (dk_at dksX2_earliestOf_0 17 rfl rfl)
theorem dX2_earliestOf_18 : decode cX2_earliestOf 18 = .ok (.invokevirtual 235, 3) := dk_182 0 235 (dk_at dksX2_earliestOf_0 18 rfl rfl)
theorem dX2_earliestOf_21 : decode cX2_earliestOf 21 = .ok (.ireturn, 1) := dk_172 (dk_at dksX2_earliestOf_0 21 rfl rfl)
abbrev cX2_begin : ByteArray := prog_15_method_48_code
def yX2_begin : MethodName := ⟨RX2, "begin", "(II)V"⟩
def dkwX2_begin_2 : List UInt8 := [79, 132, 3, 1, 167, 255, 210, 177]
abbrev dktX2_begin_2 : List UInt8 := dkwX2_begin_2 ++ []
def dkwX2_begin_1 : List UInt8 := [96, 46, 96, 54, 4, 42, 180, 0, 60, 29, 21, 4, 18, 150, 162, 0, 8, 21, 4, 167, 0, 5, 18, 150]
abbrev dktX2_begin_1 : List UInt8 := dkwX2_begin_1 ++ dktX2_begin_2
def dkwX2_begin_0 : List UInt8 := [42, 182, 0, 201, 3, 62, 29, 42, 180, 0, 123, 162, 0, 44, 28, 42, 180, 0, 16, 16, 12, 27, 104, 29]
abbrev dktX2_begin_0 : List UInt8 := dkwX2_begin_0 ++ dktX2_begin_1
theorem dksX2_begin_0 : cX2_begin.data.toList.drop 0 = dktX2_begin_0 := by decide +kernel
theorem dksX2_begin_1 : cX2_begin.data.toList.drop 24 = dktX2_begin_1 := dk_seg dksX2_begin_0 24 rfl rfl
theorem dksX2_begin_2 : cX2_begin.data.toList.drop 48 = dktX2_begin_2 := dk_seg dksX2_begin_1 24 rfl rfl
theorem dX2_begin_0 : decode cX2_begin 0 = .ok (.aload_n 0, 1) := dk_42 (dk_at dksX2_begin_0 0 rfl rfl)
theorem dX2_begin_1 : decode cX2_begin 1 = .ok (.invokevirtual 201, 3) := dk_182 0 201 (dk_at dksX2_begin_0 1 rfl rfl)
theorem dX2_begin_4 : decode cX2_begin 4 = .ok (.iconst 0, 1) := dk_3 (dk_at dksX2_begin_0 4 rfl rfl)
theorem dX2_begin_5 : decode cX2_begin 5 = .ok (.istore_n 3, 1) := dk_62 (dk_at dksX2_begin_0 5 rfl rfl)
theorem dX2_begin_6 : decode cX2_begin 6 = .ok (.iload_n 3, 1) := dk_29 (dk_at dksX2_begin_0 6 rfl rfl)
theorem dX2_begin_7 : decode cX2_begin 7 = .ok (.aload_n 0, 1) := dk_42 (dk_at dksX2_begin_0 7 rfl rfl)
theorem dX2_begin_8 : decode cX2_begin 8 = .ok (.getfield 123, 3) := dk_180 0 123 (dk_at dksX2_begin_0 8 rfl rfl)
theorem dX2_begin_11 : decode cX2_begin 11 = .ok (.if_icmp .ge 44, 3) := dk_162 0 44 (dk_at dksX2_begin_0 11 rfl rfl)
theorem dX2_begin_14 : decode cX2_begin 14 = .ok (.iload_n 2, 1) := dk_28 (dk_at dksX2_begin_0 14 rfl rfl)
theorem dX2_begin_15 : decode cX2_begin 15 = .ok (.aload_n 0, 1) := dk_42 (dk_at dksX2_begin_0 15 rfl rfl)
theorem dX2_begin_16 : decode cX2_begin 16 = .ok (.getfield 16, 3) := dk_180 0 16 (dk_at dksX2_begin_0 16 rfl rfl)
theorem dX2_begin_19 : decode cX2_begin 19 = .ok (.bipush 12, 2) := dk_16 12 (dk_at dksX2_begin_0 19 rfl rfl)
theorem dX2_begin_21 : decode cX2_begin 21 = .ok (.iload_n 1, 1) := dk_27 (dk_at dksX2_begin_0 21 rfl rfl)
theorem dX2_begin_22 : decode cX2_begin 22 = .ok (.imul, 1) := dk_104 (dk_at dksX2_begin_0 22 rfl rfl)
theorem dX2_begin_23 : decode cX2_begin 23 = .ok (.iload_n 3, 1) := dk_29 (dk_at dksX2_begin_0 23 rfl rfl)
theorem dX2_begin_24 : decode cX2_begin 24 = .ok (.iadd, 1) := dk_96 (dk_at dksX2_begin_1 0 rfl rfl)
theorem dX2_begin_25 : decode cX2_begin 25 = .ok (.iaload, 1) := dk_46 (dk_at dksX2_begin_1 1 rfl rfl)
theorem dX2_begin_26 : decode cX2_begin 26 = .ok (.iadd, 1) := dk_96 (dk_at dksX2_begin_1 2 rfl rfl)
theorem dX2_begin_27 : decode cX2_begin 27 = .ok (.istore 4, 2) := dk_54 4 (dk_at dksX2_begin_1 3 rfl rfl)
theorem dX2_begin_29 : decode cX2_begin 29 = .ok (.aload_n 0, 1) := dk_42 (dk_at dksX2_begin_1 5 rfl rfl)
theorem dX2_begin_30 : decode cX2_begin 30 = .ok (.getfield 60, 3) := dk_180 0 60 (dk_at dksX2_begin_1 6 rfl rfl)
theorem dX2_begin_33 : decode cX2_begin 33 = .ok (.iload_n 3, 1) := dk_29 (dk_at dksX2_begin_1 9 rfl rfl)
theorem dX2_begin_34 : decode cX2_begin 34 = .ok (.iload 4, 2) := dk_21 4 (dk_at dksX2_begin_1 10 rfl rfl)
theorem dX2_begin_36 : decode cX2_begin 36 = .ok (.ldc 150, 2) := dk_18 150 (dk_at dksX2_begin_1 12 rfl rfl)
theorem dX2_begin_38 : decode cX2_begin 38 = .ok (.if_icmp .ge 8, 3) := dk_162 0 8 (dk_at dksX2_begin_1 14 rfl rfl)
theorem dX2_begin_41 : decode cX2_begin 41 = .ok (.iload 4, 2) := dk_21 4 (dk_at dksX2_begin_1 17 rfl rfl)
theorem dX2_begin_43 : decode cX2_begin 43 = .ok (.goto 5, 3) := dk_167 0 5 (dk_at dksX2_begin_1 19 rfl rfl)
theorem dX2_begin_46 : decode cX2_begin 46 = .ok (.ldc 150, 2) := dk_18 150 (dk_at dksX2_begin_1 22 rfl rfl)
theorem dX2_begin_48 : decode cX2_begin 48 = .ok (.iastore, 1) := dk_79 (dk_at dksX2_begin_2 0 rfl rfl)
theorem dX2_begin_49 : decode cX2_begin 49 = .ok (.iinc 3 1, 3) := dk_132 3 1 (dk_at dksX2_begin_2 1 rfl rfl)
theorem dX2_begin_52 : decode cX2_begin 52 = .ok (.goto (-46), 3) := dk_167 255 210 (dk_at dksX2_begin_2 4 rfl rfl)
theorem dX2_begin_55 : decode cX2_begin 55 = .ok (.return_, 1) := dk_177 (dk_at dksX2_begin_2 7 rfl rfl)
abbrev cX2_nowhere : ByteArray := prog_15_method_47_code
def yX2_nowhere : MethodName := ⟨RX2, "nowhere", "()V"⟩
def dkwX2_nowhere_1 : List UInt8 := [132, 1, 1, 167, 255, 231, 177]
abbrev dktX2_nowhere_1 : List UInt8 := dkwX2_nowhere_1 ++ []
def dkwX2_nowhere_0 : List UInt8 := [3, 60, 27, 16, 12, 162, 0, 25, 42, 180, 0, 60, 27, 18, 150, 79, 42, 180, 0, 63, 27, 18, 150, 79]
abbrev dktX2_nowhere_0 : List UInt8 := dkwX2_nowhere_0 ++ dktX2_nowhere_1
theorem dksX2_nowhere_0 : cX2_nowhere.data.toList.drop 0 = dktX2_nowhere_0 := by decide +kernel
theorem dksX2_nowhere_1 : cX2_nowhere.data.toList.drop 24 = dktX2_nowhere_1 := dk_seg dksX2_nowhere_0 24 rfl rfl
theorem dX2_nowhere_0 : decode cX2_nowhere 0 = .ok (.iconst 0, 1) := dk_3 (dk_at dksX2_nowhere_0 0 rfl rfl)
theorem dX2_nowhere_1 : decode cX2_nowhere 1 = .ok (.istore_n 1, 1) := dk_60 (dk_at dksX2_nowhere_0 1 rfl rfl)
theorem dX2_nowhere_2 : decode cX2_nowhere 2 = .ok (.iload_n 1, 1) := dk_27 (dk_at dksX2_nowhere_0 2 rfl rfl)
theorem dX2_nowhere_3 : decode cX2_nowhere 3 = .ok (.bipush 12, 2) := dk_16 12 (dk_at dksX2_nowhere_0 3 rfl rfl)
theorem dX2_nowhere_5 : decode cX2_nowhere 5 = .ok (.if_icmp .ge 25, 3) := dk_162 0 25 (dk_at dksX2_nowhere_0 5 rfl rfl)
theorem dX2_nowhere_8 : decode cX2_nowhere 8 = .ok (.aload_n 0, 1) := dk_42 (dk_at dksX2_nowhere_0 8 rfl rfl)
theorem dX2_nowhere_9 : decode cX2_nowhere 9 = .ok (.getfield 60, 3) := dk_180 0 60 (dk_at dksX2_nowhere_0 9 rfl rfl)
theorem dX2_nowhere_12 : decode cX2_nowhere 12 = .ok (.iload_n 1, 1) := dk_27 (dk_at dksX2_nowhere_0 12 rfl rfl)
theorem dX2_nowhere_13 : decode cX2_nowhere 13 = .ok (.ldc 150, 2) := dk_18 150 (dk_at dksX2_nowhere_0 13 rfl rfl)
theorem dX2_nowhere_15 : decode cX2_nowhere 15 = .ok (.iastore, 1) := dk_79 (dk_at dksX2_nowhere_0 15 rfl rfl)
theorem dX2_nowhere_16 : decode cX2_nowhere 16 = .ok (.aload_n 0, 1) := dk_42 (dk_at dksX2_nowhere_0 16 rfl rfl)
theorem dX2_nowhere_17 : decode cX2_nowhere 17 = .ok (.getfield 63, 3) := dk_180 0 63 (dk_at dksX2_nowhere_0 17 rfl rfl)
theorem dX2_nowhere_20 : decode cX2_nowhere 20 = .ok (.iload_n 1, 1) := dk_27 (dk_at dksX2_nowhere_0 20 rfl rfl)
theorem dX2_nowhere_21 : decode cX2_nowhere 21 = .ok (.ldc 150, 2) := dk_18 150 (dk_at dksX2_nowhere_0 21 rfl rfl)
theorem dX2_nowhere_23 : decode cX2_nowhere 23 = .ok (.iastore, 1) := dk_79 (dk_at dksX2_nowhere_0 23 rfl rfl)
theorem dX2_nowhere_24 : decode cX2_nowhere 24 = .ok (.iinc 1 1, 3) := dk_132 1 1 (dk_at dksX2_nowhere_1 0 rfl rfl)
theorem dX2_nowhere_27 : decode cX2_nowhere 27 = .ok (.goto (-25), 3) := dk_167 255 231 (dk_at dksX2_nowhere_1 3 rfl rfl)
theorem dX2_nowhere_30 : decode cX2_nowhere 30 = .ok (.return_, 1) := dk_177 (dk_at dksX2_nowhere_1 6 rfl rfl)
abbrev cX2_settle : ByteArray := prog_15_method_51_code
def yX2_settle : MethodName := ⟨RX2, "settle", "()V"⟩
def dkwX2_settle_2 : List UInt8 := [167, 255, 217, 177]
abbrev dktX2_settle_2 : List UInt8 := dkwX2_settle_2 ++ []
def dkwX2_settle_1 : List UInt8 := [162, 0, 22, 42, 27, 182, 0, 208, 153, 0, 8, 42, 27, 182, 0, 211, 132, 1, 1, 167, 255, 234]
abbrev dktX2_settle_1 : List UInt8 := dkwX2_settle_1 ++ dktX2_settle_2
def dkwX2_settle_0 : List UInt8 := [42, 4, 181, 0, 204, 42, 180, 0, 204, 153, 0, 38, 42, 3, 181, 0, 204, 3, 60, 27, 16, 72]
abbrev dktX2_settle_0 : List UInt8 := dkwX2_settle_0 ++ dktX2_settle_1
theorem dksX2_settle_0 : cX2_settle.data.toList.drop 0 = dktX2_settle_0 := by decide +kernel
theorem dksX2_settle_1 : cX2_settle.data.toList.drop 22 = dktX2_settle_1 := dk_seg dksX2_settle_0 22 rfl rfl
theorem dksX2_settle_2 : cX2_settle.data.toList.drop 44 = dktX2_settle_2 := dk_seg dksX2_settle_1 22 rfl rfl
theorem dX2_settle_0 : decode cX2_settle 0 = .ok (.aload_n 0, 1) := dk_42 (dk_at dksX2_settle_0 0 rfl rfl)
theorem dX2_settle_1 : decode cX2_settle 1 = .ok (.iconst 1, 1) := dk_4 (dk_at dksX2_settle_0 1 rfl rfl)
theorem dX2_settle_2 : decode cX2_settle 2 = .ok (.putfield 204, 3) := dk_181 0 204 (dk_at dksX2_settle_0 2 rfl rfl)
theorem dX2_settle_5 : decode cX2_settle 5 = .ok (.aload_n 0, 1) := dk_42 (dk_at dksX2_settle_0 5 rfl rfl)
theorem dX2_settle_6 : decode cX2_settle 6 = .ok (.getfield 204, 3) := dk_180 0 204 (dk_at dksX2_settle_0 6 rfl rfl)
theorem dX2_settle_9 : decode cX2_settle 9 = .ok (.ifCond .eq 38, 3) := dk_153 0 38 (dk_at dksX2_settle_0 9 rfl rfl)
theorem dX2_settle_12 : decode cX2_settle 12 = .ok (.aload_n 0, 1) := dk_42 (dk_at dksX2_settle_0 12 rfl rfl)
theorem dX2_settle_13 : decode cX2_settle 13 = .ok (.iconst 0, 1) := dk_3 (dk_at dksX2_settle_0 13 rfl rfl)
theorem dX2_settle_14 : decode cX2_settle 14 = .ok (.putfield 204, 3) := dk_181 0 204 (dk_at dksX2_settle_0 14 rfl rfl)
theorem dX2_settle_17 : decode cX2_settle 17 = .ok (.iconst 0, 1) := dk_3 (dk_at dksX2_settle_0 17 rfl rfl)
theorem dX2_settle_18 : decode cX2_settle 18 = .ok (.istore_n 1, 1) := dk_60 (dk_at dksX2_settle_0 18 rfl rfl)
theorem dX2_settle_19 : decode cX2_settle 19 = .ok (.iload_n 1, 1) := dk_27 (dk_at dksX2_settle_0 19 rfl rfl)
theorem dX2_settle_20 : decode cX2_settle 20 = .ok (.bipush 72, 2) := dk_16 72 (dk_at dksX2_settle_0 20 rfl rfl)
theorem dX2_settle_22 : decode cX2_settle 22 = .ok (.if_icmp .ge 22, 3) := dk_162 0 22 (dk_at dksX2_settle_1 0 rfl rfl)
theorem dX2_settle_25 : decode cX2_settle 25 = .ok (.aload_n 0, 1) := dk_42 (dk_at dksX2_settle_1 3 rfl rfl)
theorem dX2_settle_26 : decode cX2_settle 26 = .ok (.iload_n 1, 1) := dk_27 (dk_at dksX2_settle_1 4 rfl rfl)
theorem dX2_settle_27 : decode cX2_settle 27 = .ok (.invokevirtual 208, 3) := dk_182 0 208 (dk_at dksX2_settle_1 5 rfl rfl)
theorem dX2_settle_30 : decode cX2_settle 30 = .ok (.ifCond .eq 8, 3) := dk_153 0 8 (dk_at dksX2_settle_1 8 rfl rfl)
theorem dX2_settle_33 : decode cX2_settle 33 = .ok (.aload_n 0, 1) := dk_42 (dk_at dksX2_settle_1 11 rfl rfl)
theorem dX2_settle_34 : decode cX2_settle 34 = .ok (.iload_n 1, 1) := dk_27 (dk_at dksX2_settle_1 12 rfl rfl)
theorem dX2_settle_35 : decode cX2_settle 35 = .ok (.invokevirtual 211, 3) := dk_182 0 211 (dk_at dksX2_settle_1 13 rfl rfl)
theorem dX2_settle_38 : decode cX2_settle 38 = .ok (.iinc 1 1, 3) := dk_132 1 1 (dk_at dksX2_settle_1 16 rfl rfl)
theorem dX2_settle_41 : decode cX2_settle 41 = .ok (.goto (-22), 3) := dk_167 255 234 (dk_at dksX2_settle_1 19 rfl rfl)
theorem dX2_settle_44 : decode cX2_settle 44 = .ok (.goto (-39), 3) := dk_167 255 217 (dk_at dksX2_settle_2 0 rfl rfl)
theorem dX2_settle_47 : decode cX2_settle 47 = .ok (.return_, 1) := dk_177 (dk_at dksX2_settle_2 3 rfl rfl)
abbrev cX2_isRun : ByteArray := prog_15_method_43_code
def yX2_isRun : MethodName := ⟨RX2, "isRun", "(I)Z"⟩
def dkwX2_isRun_2 : List UInt8 := [46, 104, 28, 96, 51, 153, 0, 7, 4, 167, 0, 4, 3, 172]
abbrev dktX2_isRun_2 : List UInt8 := dkwX2_isRun_2 ++ []
def dkwX2_isRun_1 : List UInt8 := [162, 0, 36, 28, 3, 16, 27, 184, 0, 126, 153, 0, 26, 42, 180, 0, 23, 16, 28, 42, 180, 0, 27, 29]
abbrev dktX2_isRun_1 : List UInt8 := dkwX2_isRun_1 ++ dktX2_isRun_2
def dkwX2_isRun_0 : List UInt8 := [42, 180, 0, 198, 27, 16, 24, 108, 96, 4, 100, 61, 27, 16, 24, 112, 62, 29, 42, 180, 0, 137]
abbrev dktX2_isRun_0 : List UInt8 := dkwX2_isRun_0 ++ dktX2_isRun_1
theorem dksX2_isRun_0 : cX2_isRun.data.toList.drop 0 = dktX2_isRun_0 := by decide +kernel
theorem dksX2_isRun_1 : cX2_isRun.data.toList.drop 22 = dktX2_isRun_1 := dk_seg dksX2_isRun_0 22 rfl rfl
theorem dksX2_isRun_2 : cX2_isRun.data.toList.drop 46 = dktX2_isRun_2 := dk_seg dksX2_isRun_1 24 rfl rfl
theorem dX2_isRun_0 : decode cX2_isRun 0 = .ok (.aload_n 0, 1) := dk_42 (dk_at dksX2_isRun_0 0 rfl rfl)
theorem dX2_isRun_1 : decode cX2_isRun 1 = .ok (.getfield 198, 3) := dk_180 0 198 (dk_at dksX2_isRun_0 1 rfl rfl)
theorem dX2_isRun_4 : decode cX2_isRun 4 = .ok (.iload_n 1, 1) := dk_27 (dk_at dksX2_isRun_0 4 rfl rfl)
theorem dX2_isRun_5 : decode cX2_isRun 5 = .ok (.bipush 24, 2) := dk_16 24 (dk_at dksX2_isRun_0 5 rfl rfl)
theorem dX2_isRun_7 : decode cX2_isRun 7 = .ok (.idiv, 1) := dk_108 (dk_at dksX2_isRun_0 7 rfl rfl)
theorem dX2_isRun_8 : decode cX2_isRun 8 = .ok (.iadd, 1) := dk_96 (dk_at dksX2_isRun_0 8 rfl rfl)
theorem dX2_isRun_9 : decode cX2_isRun 9 = .ok (.iconst 1, 1) := dk_4 (dk_at dksX2_isRun_0 9 rfl rfl)
theorem dX2_isRun_10 : decode cX2_isRun 10 = .ok (.isub, 1) := dk_100 (dk_at dksX2_isRun_0 10 rfl rfl)
theorem dX2_isRun_11 : decode cX2_isRun 11 = .ok (.istore_n 2, 1) := dk_61 (dk_at dksX2_isRun_0 11 rfl rfl)
theorem dX2_isRun_12 : decode cX2_isRun 12 = .ok (.iload_n 1, 1) := dk_27 (dk_at dksX2_isRun_0 12 rfl rfl)
theorem dX2_isRun_13 : decode cX2_isRun 13 = .ok (.bipush 24, 2) := dk_16 24 (dk_at dksX2_isRun_0 13 rfl rfl)
theorem dX2_isRun_15 : decode cX2_isRun 15 = .ok (.irem, 1) := dk_112 (dk_at dksX2_isRun_0 15 rfl rfl)
theorem dX2_isRun_16 : decode cX2_isRun 16 = .ok (.istore_n 3, 1) := dk_62 (dk_at dksX2_isRun_0 16 rfl rfl)
theorem dX2_isRun_17 : decode cX2_isRun 17 = .ok (.iload_n 3, 1) := dk_29 (dk_at dksX2_isRun_0 17 rfl rfl)
theorem dX2_isRun_18 : decode cX2_isRun 18 = .ok (.aload_n 0, 1) := dk_42 (dk_at dksX2_isRun_0 18 rfl rfl)
theorem dX2_isRun_19 : decode cX2_isRun 19 = .ok (.getfield 137, 3) := dk_180 0 137 (dk_at dksX2_isRun_0 19 rfl rfl)
theorem dX2_isRun_22 : decode cX2_isRun 22 = .ok (.if_icmp .ge 36, 3) := dk_162 0 36 (dk_at dksX2_isRun_1 0 rfl rfl)
theorem dX2_isRun_25 : decode cX2_isRun 25 = .ok (.iload_n 2, 1) := dk_28 (dk_at dksX2_isRun_1 3 rfl rfl)
theorem dX2_isRun_26 : decode cX2_isRun 26 = .ok (.iconst 0, 1) := dk_3 (dk_at dksX2_isRun_1 4 rfl rfl)
theorem dX2_isRun_27 : decode cX2_isRun 27 = .ok (.bipush 27, 2) := dk_16 27 (dk_at dksX2_isRun_1 5 rfl rfl)
theorem dX2_isRun_29 : decode cX2_isRun 29 = .ok (.invokestatic 126, 3) := dk_184 0 126 (dk_at dksX2_isRun_1 7 rfl rfl)
theorem dX2_isRun_32 : decode cX2_isRun 32 = .ok (.ifCond .eq 26, 3) := dk_153 0 26 (dk_at dksX2_isRun_1 10 rfl rfl)
theorem dX2_isRun_35 : decode cX2_isRun 35 = .ok (.aload_n 0, 1) := dk_42 (dk_at dksX2_isRun_1 13 rfl rfl)
theorem dX2_isRun_36 : decode cX2_isRun 36 = .ok (.getfield 23, 3) := dk_180 0 23 (dk_at dksX2_isRun_1 14 rfl rfl)
theorem dX2_isRun_39 : decode cX2_isRun 39 = .ok (.bipush 28, 2) := dk_16 28 (dk_at dksX2_isRun_1 17 rfl rfl)
theorem dX2_isRun_41 : decode cX2_isRun 41 = .ok (.aload_n 0, 1) := dk_42 (dk_at dksX2_isRun_1 19 rfl rfl)
theorem dX2_isRun_42 : decode cX2_isRun 42 = .ok (.getfield 27, 3) := dk_180 0 27 (dk_at dksX2_isRun_1 20 rfl rfl)
theorem dX2_isRun_45 : decode cX2_isRun 45 = .ok (.iload_n 3, 1) := dk_29 (dk_at dksX2_isRun_1 23 rfl rfl)
theorem dX2_isRun_46 : decode cX2_isRun 46 = .ok (.iaload, 1) := dk_46 (dk_at dksX2_isRun_2 0 rfl rfl)
theorem dX2_isRun_47 : decode cX2_isRun 47 = .ok (.imul, 1) := dk_104 (dk_at dksX2_isRun_2 1 rfl rfl)
theorem dX2_isRun_48 : decode cX2_isRun 48 = .ok (.iload_n 2, 1) := dk_28 (dk_at dksX2_isRun_2 2 rfl rfl)
theorem dX2_isRun_49 : decode cX2_isRun 49 = .ok (.iadd, 1) := dk_96 (dk_at dksX2_isRun_2 3 rfl rfl)
theorem dX2_isRun_50 : decode cX2_isRun 50 = .ok (.baload, 1) := dk_51 (dk_at dksX2_isRun_2 4 rfl rfl)
theorem dX2_isRun_51 : decode cX2_isRun 51 = .ok (.ifCond .eq 7, 3) := dk_153 0 7 (dk_at dksX2_isRun_2 5 rfl rfl)
theorem dX2_isRun_54 : decode cX2_isRun 54 = .ok (.iconst 1, 1) := dk_4 (dk_at dksX2_isRun_2 8 rfl rfl)
theorem dX2_isRun_55 : decode cX2_isRun 55 = .ok (.goto 4, 3) := dk_167 0 4 (dk_at dksX2_isRun_2 9 rfl rfl)
theorem dX2_isRun_58 : decode cX2_isRun 58 = .ok (.iconst 0, 1) := dk_3 (dk_at dksX2_isRun_2 12 rfl rfl)
theorem dX2_isRun_59 : decode cX2_isRun 59 = .ok (.ireturn, 1) := dk_172 (dk_at dksX2_isRun_2 13 rfl rfl)
abbrev cX2_rideOn : ByteArray := prog_15_method_52_code
def yX2_rideOn : MethodName := ⟨RX2, "rideOn", "(I)V"⟩
def dkwX2_rideOn_3 : List UInt8 := [177]
abbrev dktX2_rideOn_3 : List UInt8 := dkwX2_rideOn_3 ++ []
def dkwX2_rideOn_2 : List UInt8 := [42, 27, 29, 182, 0, 223, 182, 0, 226, 153, 0, 7, 4, 167, 0, 4, 3, 61, 132, 3, 1, 167, 255, 191]
abbrev dktX2_rideOn_2 : List UInt8 := dkwX2_rideOn_2 ++ dktX2_rideOn_3
def dkwX2_rideOn_1 : List UInt8 := [29, 182, 0, 214, 42, 27, 29, 182, 0, 217, 182, 0, 220, 28, 154, 0, 22, 42, 42, 27, 29, 182, 0, 214]
abbrev dktX2_rideOn_1 : List UInt8 := dkwX2_rideOn_1 ++ dktX2_rideOn_2
def dkwX2_rideOn_0 : List UInt8 := [3, 61, 3, 62, 29, 42, 180, 0, 30, 27, 16, 24, 112, 46, 162, 0, 58, 28, 153, 0, 19, 42, 42, 27]
abbrev dktX2_rideOn_0 : List UInt8 := dkwX2_rideOn_0 ++ dktX2_rideOn_1
theorem dksX2_rideOn_0 : cX2_rideOn.data.toList.drop 0 = dktX2_rideOn_0 := by decide +kernel
theorem dksX2_rideOn_1 : cX2_rideOn.data.toList.drop 24 = dktX2_rideOn_1 := dk_seg dksX2_rideOn_0 24 rfl rfl
theorem dksX2_rideOn_2 : cX2_rideOn.data.toList.drop 48 = dktX2_rideOn_2 := dk_seg dksX2_rideOn_1 24 rfl rfl
theorem dksX2_rideOn_3 : cX2_rideOn.data.toList.drop 72 = dktX2_rideOn_3 := dk_seg dksX2_rideOn_2 24 rfl rfl
theorem dX2_rideOn_0 : decode cX2_rideOn 0 = .ok (.iconst 0, 1) := dk_3 (dk_at dksX2_rideOn_0 0 rfl rfl)
theorem dX2_rideOn_1 : decode cX2_rideOn 1 = .ok (.istore_n 2, 1) := dk_61 (dk_at dksX2_rideOn_0 1 rfl rfl)
theorem dX2_rideOn_2 : decode cX2_rideOn 2 = .ok (.iconst 0, 1) := dk_3 (dk_at dksX2_rideOn_0 2 rfl rfl)
theorem dX2_rideOn_3 : decode cX2_rideOn 3 = .ok (.istore_n 3, 1) := dk_62 (dk_at dksX2_rideOn_0 3 rfl rfl)
theorem dX2_rideOn_4 : decode cX2_rideOn 4 = .ok (.iload_n 3, 1) := dk_29 (dk_at dksX2_rideOn_0 4 rfl rfl)
theorem dX2_rideOn_5 : decode cX2_rideOn 5 = .ok (.aload_n 0, 1) := dk_42 (dk_at dksX2_rideOn_0 5 rfl rfl)
theorem dX2_rideOn_6 : decode cX2_rideOn 6 = .ok (.getfield 30, 3) := dk_180 0 30 (dk_at dksX2_rideOn_0 6 rfl rfl)
theorem dX2_rideOn_9 : decode cX2_rideOn 9 = .ok (.iload_n 1, 1) := dk_27 (dk_at dksX2_rideOn_0 9 rfl rfl)
theorem dX2_rideOn_10 : decode cX2_rideOn 10 = .ok (.bipush 24, 2) := dk_16 24 (dk_at dksX2_rideOn_0 10 rfl rfl)
theorem dX2_rideOn_12 : decode cX2_rideOn 12 = .ok (.irem, 1) := dk_112 (dk_at dksX2_rideOn_0 12 rfl rfl)
theorem dX2_rideOn_13 : decode cX2_rideOn 13 = .ok (.iaload, 1) := dk_46 (dk_at dksX2_rideOn_0 13 rfl rfl)
theorem dX2_rideOn_14 : decode cX2_rideOn 14 = .ok (.if_icmp .ge 58, 3) := dk_162 0 58 (dk_at dksX2_rideOn_0 14 rfl rfl)
theorem dX2_rideOn_17 : decode cX2_rideOn 17 = .ok (.iload_n 2, 1) := dk_28 (dk_at dksX2_rideOn_0 17 rfl rfl)
theorem dX2_rideOn_18 : decode cX2_rideOn 18 = .ok (.ifCond .eq 19, 3) := dk_153 0 19 (dk_at dksX2_rideOn_0 18 rfl rfl)
theorem dX2_rideOn_21 : decode cX2_rideOn 21 = .ok (.aload_n 0, 1) := dk_42 (dk_at dksX2_rideOn_0 21 rfl rfl)
theorem dX2_rideOn_22 : decode cX2_rideOn 22 = .ok (.aload_n 0, 1) := dk_42 (dk_at dksX2_rideOn_0 22 rfl rfl)
theorem dX2_rideOn_23 : decode cX2_rideOn 23 = .ok (.iload_n 1, 1) := dk_27 (dk_at dksX2_rideOn_0 23 rfl rfl)
theorem dX2_rideOn_24 : decode cX2_rideOn 24 = .ok (.iload_n 3, 1) := dk_29 (dk_at dksX2_rideOn_1 0 rfl rfl)
theorem dX2_rideOn_25 : decode cX2_rideOn 25 = .ok (.invokevirtual 214, 3) := dk_182 0 214 (dk_at dksX2_rideOn_1 1 rfl rfl)
theorem dX2_rideOn_28 : decode cX2_rideOn 28 = .ok (.aload_n 0, 1) := dk_42 (dk_at dksX2_rideOn_1 4 rfl rfl)
theorem dX2_rideOn_29 : decode cX2_rideOn 29 = .ok (.iload_n 1, 1) := dk_27 (dk_at dksX2_rideOn_1 5 rfl rfl)
theorem dX2_rideOn_30 : decode cX2_rideOn 30 = .ok (.iload_n 3, 1) := dk_29 (dk_at dksX2_rideOn_1 6 rfl rfl)
theorem dX2_rideOn_31 : decode cX2_rideOn 31 = .ok (.invokevirtual 217, 3) := dk_182 0 217 (dk_at dksX2_rideOn_1 7 rfl rfl)
theorem dX2_rideOn_34 : decode cX2_rideOn 34 = .ok (.invokevirtual 220, 3) := dk_182 0 220 (dk_at dksX2_rideOn_1 10 rfl rfl)
theorem dX2_rideOn_37 : decode cX2_rideOn 37 = .ok (.iload_n 2, 1) := dk_28 (dk_at dksX2_rideOn_1 13 rfl rfl)
theorem dX2_rideOn_38 : decode cX2_rideOn 38 = .ok (.ifCond .ne 22, 3) := dk_154 0 22 (dk_at dksX2_rideOn_1 14 rfl rfl)
theorem dX2_rideOn_41 : decode cX2_rideOn 41 = .ok (.aload_n 0, 1) := dk_42 (dk_at dksX2_rideOn_1 17 rfl rfl)
theorem dX2_rideOn_42 : decode cX2_rideOn 42 = .ok (.aload_n 0, 1) := dk_42 (dk_at dksX2_rideOn_1 18 rfl rfl)
theorem dX2_rideOn_43 : decode cX2_rideOn 43 = .ok (.iload_n 1, 1) := dk_27 (dk_at dksX2_rideOn_1 19 rfl rfl)
theorem dX2_rideOn_44 : decode cX2_rideOn 44 = .ok (.iload_n 3, 1) := dk_29 (dk_at dksX2_rideOn_1 20 rfl rfl)
theorem dX2_rideOn_45 : decode cX2_rideOn 45 = .ok (.invokevirtual 214, 3) := dk_182 0 214 (dk_at dksX2_rideOn_1 21 rfl rfl)
theorem dX2_rideOn_48 : decode cX2_rideOn 48 = .ok (.aload_n 0, 1) := dk_42 (dk_at dksX2_rideOn_2 0 rfl rfl)
theorem dX2_rideOn_49 : decode cX2_rideOn 49 = .ok (.iload_n 1, 1) := dk_27 (dk_at dksX2_rideOn_2 1 rfl rfl)
theorem dX2_rideOn_50 : decode cX2_rideOn 50 = .ok (.iload_n 3, 1) := dk_29 (dk_at dksX2_rideOn_2 2 rfl rfl)
theorem dX2_rideOn_51 : decode cX2_rideOn 51 = .ok (.invokevirtual 223, 3) := dk_182 0 223 (dk_at dksX2_rideOn_2 3 rfl rfl)
theorem dX2_rideOn_54 : decode cX2_rideOn 54 = .ok (.invokevirtual 226, 3) := dk_182 0 226 (dk_at dksX2_rideOn_2 6 rfl rfl)
theorem dX2_rideOn_57 : decode cX2_rideOn 57 = .ok (.ifCond .eq 7, 3) := dk_153 0 7 (dk_at dksX2_rideOn_2 9 rfl rfl)
theorem dX2_rideOn_60 : decode cX2_rideOn 60 = .ok (.iconst 1, 1) := dk_4 (dk_at dksX2_rideOn_2 12 rfl rfl)
theorem dX2_rideOn_61 : decode cX2_rideOn 61 = .ok (.goto 4, 3) := dk_167 0 4 (dk_at dksX2_rideOn_2 13 rfl rfl)
theorem dX2_rideOn_64 : decode cX2_rideOn 64 = .ok (.iconst 0, 1) := dk_3 (dk_at dksX2_rideOn_2 16 rfl rfl)
theorem dX2_rideOn_65 : decode cX2_rideOn 65 = .ok (.istore_n 2, 1) := dk_61 (dk_at dksX2_rideOn_2 17 rfl rfl)
theorem dX2_rideOn_66 : decode cX2_rideOn 66 = .ok (.iinc 3 1, 3) := dk_132 3 1 (dk_at dksX2_rideOn_2 18 rfl rfl)
theorem dX2_rideOn_69 : decode cX2_rideOn 69 = .ok (.goto (-65), 3) := dk_167 255 191 (dk_at dksX2_rideOn_2 21 rfl rfl)
theorem dX2_rideOn_72 : decode cX2_rideOn 72 = .ok (.return_, 1) := dk_177 (dk_at dksX2_rideOn_3 0 rfl rfl)
abbrev cX2_stopIn : ByteArray := prog_15_method_46_code
def yX2_stopIn : MethodName := ⟨RX2, "stopIn", "(II)I"⟩
def dkwX2_stopIn_0 : List UInt8 := [42, 180, 0, 33, 16, 8, 27, 16, 24, 112, 104, 28, 96, 46, 172]
abbrev dktX2_stopIn_0 : List UInt8 := dkwX2_stopIn_0 ++ []
theorem dksX2_stopIn_0 : cX2_stopIn.data.toList.drop 0 = dktX2_stopIn_0 := by decide +kernel
theorem dX2_stopIn_0 : decode cX2_stopIn 0 = .ok (.aload_n 0, 1) := dk_42 (dk_at dksX2_stopIn_0 0 rfl rfl)
theorem dX2_stopIn_1 : decode cX2_stopIn 1 = .ok (.getfield 33, 3) := dk_180 0 33 (dk_at dksX2_stopIn_0 1 rfl rfl)
theorem dX2_stopIn_4 : decode cX2_stopIn 4 = .ok (.bipush 8, 2) := dk_16 8 (dk_at dksX2_stopIn_0 4 rfl rfl)
theorem dX2_stopIn_6 : decode cX2_stopIn 6 = .ok (.iload_n 1, 1) := dk_27 (dk_at dksX2_stopIn_0 6 rfl rfl)
theorem dX2_stopIn_7 : decode cX2_stopIn 7 = .ok (.bipush 24, 2) := dk_16 24 (dk_at dksX2_stopIn_0 7 rfl rfl)
theorem dX2_stopIn_9 : decode cX2_stopIn 9 = .ok (.irem, 1) := dk_112 (dk_at dksX2_stopIn_0 9 rfl rfl)
theorem dX2_stopIn_10 : decode cX2_stopIn 10 = .ok (.imul, 1) := dk_104 (dk_at dksX2_stopIn_0 10 rfl rfl)
theorem dX2_stopIn_11 : decode cX2_stopIn 11 = .ok (.iload_n 2, 1) := dk_28 (dk_at dksX2_stopIn_0 11 rfl rfl)
theorem dX2_stopIn_12 : decode cX2_stopIn 12 = .ok (.iadd, 1) := dk_96 (dk_at dksX2_stopIn_0 12 rfl rfl)
theorem dX2_stopIn_13 : decode cX2_stopIn 13 = .ok (.iaload, 1) := dk_46 (dk_at dksX2_stopIn_0 13 rfl rfl)
theorem dX2_stopIn_14 : decode cX2_stopIn 14 = .ok (.ireturn, 1) := dk_172 (dk_at dksX2_stopIn_0 14 rfl rfl)
abbrev cX2_comesAt : ByteArray := prog_15_method_45_code
def yX2_comesAt : MethodName := ⟨RX2, "comesAt", "(II)I"⟩
def dkwX2_comesAt_2 : List UInt8 := [28, 4, 100, 182, 0, 195, 96, 172]
abbrev dktX2_comesAt_2 : List UInt8 := dkwX2_comesAt_2 ++ []
def dkwX2_comesAt_1 : List UInt8 := [17, 5, 160, 21, 4, 104, 96, 28, 154, 0, 7, 3, 167, 0, 18, 42, 42, 180, 0, 198, 21, 4, 96, 29]
abbrev dktX2_comesAt_1 : List UInt8 := dkwX2_comesAt_1 ++ dktX2_comesAt_2
def dkwX2_comesAt_0 : List UInt8 := [27, 16, 24, 112, 62, 27, 16, 24, 108, 4, 100, 54, 4, 42, 180, 0, 36, 16, 8, 29, 104, 28, 96, 46]
abbrev dktX2_comesAt_0 : List UInt8 := dkwX2_comesAt_0 ++ dktX2_comesAt_1
theorem dksX2_comesAt_0 : cX2_comesAt.data.toList.drop 0 = dktX2_comesAt_0 := by decide +kernel
theorem dksX2_comesAt_1 : cX2_comesAt.data.toList.drop 24 = dktX2_comesAt_1 := dk_seg dksX2_comesAt_0 24 rfl rfl
theorem dksX2_comesAt_2 : cX2_comesAt.data.toList.drop 48 = dktX2_comesAt_2 := dk_seg dksX2_comesAt_1 24 rfl rfl
theorem dX2_comesAt_0 : decode cX2_comesAt 0 = .ok (.iload_n 1, 1) := dk_27 (dk_at dksX2_comesAt_0 0 rfl rfl)
theorem dX2_comesAt_1 : decode cX2_comesAt 1 = .ok (.bipush 24, 2) := dk_16 24 (dk_at dksX2_comesAt_0 1 rfl rfl)
theorem dX2_comesAt_3 : decode cX2_comesAt 3 = .ok (.irem, 1) := dk_112 (dk_at dksX2_comesAt_0 3 rfl rfl)
theorem dX2_comesAt_4 : decode cX2_comesAt 4 = .ok (.istore_n 3, 1) := dk_62 (dk_at dksX2_comesAt_0 4 rfl rfl)
theorem dX2_comesAt_5 : decode cX2_comesAt 5 = .ok (.iload_n 1, 1) := dk_27 (dk_at dksX2_comesAt_0 5 rfl rfl)
theorem dX2_comesAt_6 : decode cX2_comesAt 6 = .ok (.bipush 24, 2) := dk_16 24 (dk_at dksX2_comesAt_0 6 rfl rfl)
theorem dX2_comesAt_8 : decode cX2_comesAt 8 = .ok (.idiv, 1) := dk_108 (dk_at dksX2_comesAt_0 8 rfl rfl)
theorem dX2_comesAt_9 : decode cX2_comesAt 9 = .ok (.iconst 1, 1) := dk_4 (dk_at dksX2_comesAt_0 9 rfl rfl)
theorem dX2_comesAt_10 : decode cX2_comesAt 10 = .ok (.isub, 1) := dk_100 (dk_at dksX2_comesAt_0 10 rfl rfl)
theorem dX2_comesAt_11 : decode cX2_comesAt 11 = .ok (.istore 4, 2) := dk_54 4 (dk_at dksX2_comesAt_0 11 rfl rfl)
theorem dX2_comesAt_13 : decode cX2_comesAt 13 = .ok (.aload_n 0, 1) := dk_42 (dk_at dksX2_comesAt_0 13 rfl rfl)
theorem dX2_comesAt_14 : decode cX2_comesAt 14 = .ok (.getfield 36, 3) := dk_180 0 36 (dk_at dksX2_comesAt_0 14 rfl rfl)
theorem dX2_comesAt_17 : decode cX2_comesAt 17 = .ok (.bipush 8, 2) := dk_16 8 (dk_at dksX2_comesAt_0 17 rfl rfl)
theorem dX2_comesAt_19 : decode cX2_comesAt 19 = .ok (.iload_n 3, 1) := dk_29 (dk_at dksX2_comesAt_0 19 rfl rfl)
theorem dX2_comesAt_20 : decode cX2_comesAt 20 = .ok (.imul, 1) := dk_104 (dk_at dksX2_comesAt_0 20 rfl rfl)
theorem dX2_comesAt_21 : decode cX2_comesAt 21 = .ok (.iload_n 2, 1) := dk_28 (dk_at dksX2_comesAt_0 21 rfl rfl)
theorem dX2_comesAt_22 : decode cX2_comesAt 22 = .ok (.iadd, 1) := dk_96 (dk_at dksX2_comesAt_0 22 rfl rfl)
theorem dX2_comesAt_23 : decode cX2_comesAt 23 = .ok (.iaload, 1) := dk_46 (dk_at dksX2_comesAt_0 23 rfl rfl)
theorem dX2_comesAt_24 : decode cX2_comesAt 24 = .ok (.sipush 1440, 3) := dk_17 5 160 (dk_at dksX2_comesAt_1 0 rfl rfl)
theorem dX2_comesAt_27 : decode cX2_comesAt 27 = .ok (.iload 4, 2) := dk_21 4 (dk_at dksX2_comesAt_1 3 rfl rfl)
theorem dX2_comesAt_29 : decode cX2_comesAt 29 = .ok (.imul, 1) := dk_104 (dk_at dksX2_comesAt_1 5 rfl rfl)
theorem dX2_comesAt_30 : decode cX2_comesAt 30 = .ok (.iadd, 1) := dk_96 (dk_at dksX2_comesAt_1 6 rfl rfl)
theorem dX2_comesAt_31 : decode cX2_comesAt 31 = .ok (.iload_n 2, 1) := dk_28 (dk_at dksX2_comesAt_1 7 rfl rfl)
theorem dX2_comesAt_32 : decode cX2_comesAt 32 = .ok (.ifCond .ne 7, 3) := dk_154 0 7 (dk_at dksX2_comesAt_1 8 rfl rfl)
theorem dX2_comesAt_35 : decode cX2_comesAt 35 = .ok (.iconst 0, 1) := dk_3 (dk_at dksX2_comesAt_1 11 rfl rfl)
theorem dX2_comesAt_36 : decode cX2_comesAt 36 = .ok (.goto 18, 3) := dk_167 0 18 (dk_at dksX2_comesAt_1 12 rfl rfl)
theorem dX2_comesAt_39 : decode cX2_comesAt 39 = .ok (.aload_n 0, 1) := dk_42 (dk_at dksX2_comesAt_1 15 rfl rfl)
theorem dX2_comesAt_40 : decode cX2_comesAt 40 = .ok (.aload_n 0, 1) := dk_42 (dk_at dksX2_comesAt_1 16 rfl rfl)
theorem dX2_comesAt_41 : decode cX2_comesAt 41 = .ok (.getfield 198, 3) := dk_180 0 198 (dk_at dksX2_comesAt_1 17 rfl rfl)
theorem dX2_comesAt_44 : decode cX2_comesAt 44 = .ok (.iload 4, 2) := dk_21 4 (dk_at dksX2_comesAt_1 20 rfl rfl)
theorem dX2_comesAt_46 : decode cX2_comesAt 46 = .ok (.iadd, 1) := dk_96 (dk_at dksX2_comesAt_1 22 rfl rfl)
theorem dX2_comesAt_47 : decode cX2_comesAt 47 = .ok (.iload_n 3, 1) := dk_29 (dk_at dksX2_comesAt_1 23 rfl rfl)
theorem dX2_comesAt_48 : decode cX2_comesAt 48 = .ok (.iload_n 2, 1) := dk_28 (dk_at dksX2_comesAt_2 0 rfl rfl)
theorem dX2_comesAt_49 : decode cX2_comesAt 49 = .ok (.iconst 1, 1) := dk_4 (dk_at dksX2_comesAt_2 1 rfl rfl)
theorem dX2_comesAt_50 : decode cX2_comesAt 50 = .ok (.isub, 1) := dk_100 (dk_at dksX2_comesAt_2 2 rfl rfl)
theorem dX2_comesAt_51 : decode cX2_comesAt 51 = .ok (.invokevirtual 195, 3) := dk_182 0 195 (dk_at dksX2_comesAt_2 3 rfl rfl)
theorem dX2_comesAt_54 : decode cX2_comesAt 54 = .ok (.iadd, 1) := dk_96 (dk_at dksX2_comesAt_2 6 rfl rfl)
theorem dX2_comesAt_55 : decode cX2_comesAt 55 = .ok (.ireturn, 1) := dk_172 (dk_at dksX2_comesAt_2 7 rfl rfl)
abbrev cX2_getsOff : ByteArray := prog_15_method_50_code
def yX2_getsOff : MethodName := ⟨RX2, "getsOff", "(II)V"⟩
def dkwX2_getsOff_3 : List UInt8 := [42, 180, 0, 60, 29, 21, 4, 79, 132, 3, 1, 167, 255, 206, 177]
abbrev dktX2_getsOff_3 : List UInt8 := dkwX2_getsOff_3 ++ []
def dkwX2_getsOff_2 : List UInt8 := [27, 104, 29, 96, 46, 96, 54, 4, 29, 27, 159, 0, 22, 21, 4, 42, 180, 0, 60, 29, 46, 162, 0, 11]
abbrev dktX2_getsOff_2 : List UInt8 := dkwX2_getsOff_2 ++ dktX2_getsOff_3
def dkwX2_getsOff_1 : List UInt8 := [28, 79, 42, 4, 181, 0, 204, 3, 62, 29, 42, 180, 0, 123, 162, 0, 48, 28, 42, 180, 0, 16, 16, 12]
abbrev dktX2_getsOff_1 : List UInt8 := dkwX2_getsOff_1 ++ dktX2_getsOff_2
def dkwX2_getsOff_0 : List UInt8 := [27, 42, 180, 0, 19, 159, 0, 13, 28, 42, 180, 0, 63, 27, 46, 161, 0, 4, 177, 42, 180, 0, 63, 27]
abbrev dktX2_getsOff_0 : List UInt8 := dkwX2_getsOff_0 ++ dktX2_getsOff_1
theorem dksX2_getsOff_0 : cX2_getsOff.data.toList.drop 0 = dktX2_getsOff_0 := by decide +kernel
theorem dksX2_getsOff_1 : cX2_getsOff.data.toList.drop 24 = dktX2_getsOff_1 := dk_seg dksX2_getsOff_0 24 rfl rfl
theorem dksX2_getsOff_2 : cX2_getsOff.data.toList.drop 48 = dktX2_getsOff_2 := dk_seg dksX2_getsOff_1 24 rfl rfl
theorem dksX2_getsOff_3 : cX2_getsOff.data.toList.drop 72 = dktX2_getsOff_3 := dk_seg dksX2_getsOff_2 24 rfl rfl
theorem dX2_getsOff_0 : decode cX2_getsOff 0 = .ok (.iload_n 1, 1) := dk_27 (dk_at dksX2_getsOff_0 0 rfl rfl)
theorem dX2_getsOff_1 : decode cX2_getsOff 1 = .ok (.aload_n 0, 1) := dk_42 (dk_at dksX2_getsOff_0 1 rfl rfl)
theorem dX2_getsOff_2 : decode cX2_getsOff 2 = .ok (.getfield 19, 3) := dk_180 0 19 (dk_at dksX2_getsOff_0 2 rfl rfl)
theorem dX2_getsOff_5 : decode cX2_getsOff 5 = .ok (.if_icmp .eq 13, 3) := dk_159 0 13 (dk_at dksX2_getsOff_0 5 rfl rfl)
theorem dX2_getsOff_8 : decode cX2_getsOff 8 = .ok (.iload_n 2, 1) := dk_28 (dk_at dksX2_getsOff_0 8 rfl rfl)
theorem dX2_getsOff_9 : decode cX2_getsOff 9 = .ok (.aload_n 0, 1) := dk_42 (dk_at dksX2_getsOff_0 9 rfl rfl)
theorem dX2_getsOff_10 : decode cX2_getsOff 10 = .ok (.getfield 63, 3) := dk_180 0 63 (dk_at dksX2_getsOff_0 10 rfl rfl)
theorem dX2_getsOff_13 : decode cX2_getsOff 13 = .ok (.iload_n 1, 1) := dk_27 (dk_at dksX2_getsOff_0 13 rfl rfl)
theorem dX2_getsOff_14 : decode cX2_getsOff 14 = .ok (.iaload, 1) := dk_46 (dk_at dksX2_getsOff_0 14 rfl rfl)
theorem dX2_getsOff_15 : decode cX2_getsOff 15 = .ok (.if_icmp .lt 4, 3) := dk_161 0 4 (dk_at dksX2_getsOff_0 15 rfl rfl)
theorem dX2_getsOff_18 : decode cX2_getsOff 18 = .ok (.return_, 1) := dk_177 (dk_at dksX2_getsOff_0 18 rfl rfl)
theorem dX2_getsOff_19 : decode cX2_getsOff 19 = .ok (.aload_n 0, 1) := dk_42 (dk_at dksX2_getsOff_0 19 rfl rfl)
theorem dX2_getsOff_20 : decode cX2_getsOff 20 = .ok (.getfield 63, 3) := dk_180 0 63 (dk_at dksX2_getsOff_0 20 rfl rfl)
theorem dX2_getsOff_23 : decode cX2_getsOff 23 = .ok (.iload_n 1, 1) := dk_27 (dk_at dksX2_getsOff_0 23 rfl rfl)
theorem dX2_getsOff_24 : decode cX2_getsOff 24 = .ok (.iload_n 2, 1) := dk_28 (dk_at dksX2_getsOff_1 0 rfl rfl)
theorem dX2_getsOff_25 : decode cX2_getsOff 25 = .ok (.iastore, 1) := dk_79 (dk_at dksX2_getsOff_1 1 rfl rfl)
theorem dX2_getsOff_26 : decode cX2_getsOff 26 = .ok (.aload_n 0, 1) := dk_42 (dk_at dksX2_getsOff_1 2 rfl rfl)
theorem dX2_getsOff_27 : decode cX2_getsOff 27 = .ok (.iconst 1, 1) := dk_4 (dk_at dksX2_getsOff_1 3 rfl rfl)
theorem dX2_getsOff_28 : decode cX2_getsOff 28 = .ok (.putfield 204, 3) := dk_181 0 204 (dk_at dksX2_getsOff_1 4 rfl rfl)
theorem dX2_getsOff_31 : decode cX2_getsOff 31 = .ok (.iconst 0, 1) := dk_3 (dk_at dksX2_getsOff_1 7 rfl rfl)
theorem dX2_getsOff_32 : decode cX2_getsOff 32 = .ok (.istore_n 3, 1) := dk_62 (dk_at dksX2_getsOff_1 8 rfl rfl)
theorem dX2_getsOff_33 : decode cX2_getsOff 33 = .ok (.iload_n 3, 1) := dk_29 (dk_at dksX2_getsOff_1 9 rfl rfl)
theorem dX2_getsOff_34 : decode cX2_getsOff 34 = .ok (.aload_n 0, 1) := dk_42 (dk_at dksX2_getsOff_1 10 rfl rfl)
theorem dX2_getsOff_35 : decode cX2_getsOff 35 = .ok (.getfield 123, 3) := dk_180 0 123 (dk_at dksX2_getsOff_1 11 rfl rfl)
theorem dX2_getsOff_38 : decode cX2_getsOff 38 = .ok (.if_icmp .ge 48, 3) := dk_162 0 48 (dk_at dksX2_getsOff_1 14 rfl rfl)
theorem dX2_getsOff_41 : decode cX2_getsOff 41 = .ok (.iload_n 2, 1) := dk_28 (dk_at dksX2_getsOff_1 17 rfl rfl)
theorem dX2_getsOff_42 : decode cX2_getsOff 42 = .ok (.aload_n 0, 1) := dk_42 (dk_at dksX2_getsOff_1 18 rfl rfl)
theorem dX2_getsOff_43 : decode cX2_getsOff 43 = .ok (.getfield 16, 3) := dk_180 0 16 (dk_at dksX2_getsOff_1 19 rfl rfl)
theorem dX2_getsOff_46 : decode cX2_getsOff 46 = .ok (.bipush 12, 2) := dk_16 12 (dk_at dksX2_getsOff_1 22 rfl rfl)
theorem dX2_getsOff_48 : decode cX2_getsOff 48 = .ok (.iload_n 1, 1) := dk_27 (dk_at dksX2_getsOff_2 0 rfl rfl)
theorem dX2_getsOff_49 : decode cX2_getsOff 49 = .ok (.imul, 1) := dk_104 (dk_at dksX2_getsOff_2 1 rfl rfl)
theorem dX2_getsOff_50 : decode cX2_getsOff 50 = .ok (.iload_n 3, 1) := dk_29 (dk_at dksX2_getsOff_2 2 rfl rfl)
theorem dX2_getsOff_51 : decode cX2_getsOff 51 = .ok (.iadd, 1) := dk_96 (dk_at dksX2_getsOff_2 3 rfl rfl)
theorem dX2_getsOff_52 : decode cX2_getsOff 52 = .ok (.iaload, 1) := dk_46 (dk_at dksX2_getsOff_2 4 rfl rfl)
theorem dX2_getsOff_53 : decode cX2_getsOff 53 = .ok (.iadd, 1) := dk_96 (dk_at dksX2_getsOff_2 5 rfl rfl)
theorem dX2_getsOff_54 : decode cX2_getsOff 54 = .ok (.istore 4, 2) := dk_54 4 (dk_at dksX2_getsOff_2 6 rfl rfl)
theorem dX2_getsOff_56 : decode cX2_getsOff 56 = .ok (.iload_n 3, 1) := dk_29 (dk_at dksX2_getsOff_2 8 rfl rfl)
theorem dX2_getsOff_57 : decode cX2_getsOff 57 = .ok (.iload_n 1, 1) := dk_27 (dk_at dksX2_getsOff_2 9 rfl rfl)
theorem dX2_getsOff_58 : decode cX2_getsOff 58 = .ok (.if_icmp .eq 22, 3) := dk_159 0 22 (dk_at dksX2_getsOff_2 10 rfl rfl)
theorem dX2_getsOff_61 : decode cX2_getsOff 61 = .ok (.iload 4, 2) := dk_21 4 (dk_at dksX2_getsOff_2 13 rfl rfl)
theorem dX2_getsOff_63 : decode cX2_getsOff 63 = .ok (.aload_n 0, 1) := dk_42 (dk_at dksX2_getsOff_2 15 rfl rfl)
theorem dX2_getsOff_64 : decode cX2_getsOff 64 = .ok (.getfield 60, 3) := dk_180 0 60 (dk_at dksX2_getsOff_2 16 rfl rfl)
theorem dX2_getsOff_67 : decode cX2_getsOff 67 = .ok (.iload_n 3, 1) := dk_29 (dk_at dksX2_getsOff_2 19 rfl rfl)
theorem dX2_getsOff_68 : decode cX2_getsOff 68 = .ok (.iaload, 1) := dk_46 (dk_at dksX2_getsOff_2 20 rfl rfl)
theorem dX2_getsOff_69 : decode cX2_getsOff 69 = .ok (.if_icmp .ge 11, 3) := dk_162 0 11 (dk_at dksX2_getsOff_2 21 rfl rfl)
theorem dX2_getsOff_72 : decode cX2_getsOff 72 = .ok (.aload_n 0, 1) := dk_42 (dk_at dksX2_getsOff_3 0 rfl rfl)
theorem dX2_getsOff_73 : decode cX2_getsOff 73 = .ok (.getfield 60, 3) := dk_180 0 60 (dk_at dksX2_getsOff_3 1 rfl rfl)
theorem dX2_getsOff_76 : decode cX2_getsOff 76 = .ok (.iload_n 3, 1) := dk_29 (dk_at dksX2_getsOff_3 4 rfl rfl)
theorem dX2_getsOff_77 : decode cX2_getsOff 77 = .ok (.iload 4, 2) := dk_21 4 (dk_at dksX2_getsOff_3 5 rfl rfl)
theorem dX2_getsOff_79 : decode cX2_getsOff 79 = .ok (.iastore, 1) := dk_79 (dk_at dksX2_getsOff_3 7 rfl rfl)
theorem dX2_getsOff_80 : decode cX2_getsOff 80 = .ok (.iinc 3 1, 3) := dk_132 3 1 (dk_at dksX2_getsOff_3 8 rfl rfl)
theorem dX2_getsOff_83 : decode cX2_getsOff 83 = .ok (.goto (-50), 3) := dk_167 255 206 (dk_at dksX2_getsOff_3 11 rfl rfl)
theorem dX2_getsOff_86 : decode cX2_getsOff 86 = .ok (.return_, 1) := dk_177 (dk_at dksX2_getsOff_3 14 rfl rfl)
abbrev cX2_leavesAt : ByteArray := prog_15_method_44_code
def yX2_leavesAt : MethodName := ⟨RX2, "leavesAt", "(II)I"⟩
def dkwX2_leavesAt_1 : List UInt8 := [17, 5, 160, 21, 4, 104, 96, 42, 42, 180, 0, 198, 21, 4, 96, 29, 28, 182, 0, 195, 96, 172]
abbrev dktX2_leavesAt_1 : List UInt8 := dkwX2_leavesAt_1 ++ []
def dkwX2_leavesAt_0 : List UInt8 := [27, 16, 24, 112, 62, 27, 16, 24, 108, 4, 100, 54, 4, 42, 180, 0, 39, 16, 8, 29, 104, 28, 96, 46]
abbrev dktX2_leavesAt_0 : List UInt8 := dkwX2_leavesAt_0 ++ dktX2_leavesAt_1
theorem dksX2_leavesAt_0 : cX2_leavesAt.data.toList.drop 0 = dktX2_leavesAt_0 := by decide +kernel
theorem dksX2_leavesAt_1 : cX2_leavesAt.data.toList.drop 24 = dktX2_leavesAt_1 := dk_seg dksX2_leavesAt_0 24 rfl rfl
theorem dX2_leavesAt_0 : decode cX2_leavesAt 0 = .ok (.iload_n 1, 1) := dk_27 (dk_at dksX2_leavesAt_0 0 rfl rfl)
theorem dX2_leavesAt_1 : decode cX2_leavesAt 1 = .ok (.bipush 24, 2) := dk_16 24 (dk_at dksX2_leavesAt_0 1 rfl rfl)
theorem dX2_leavesAt_3 : decode cX2_leavesAt 3 = .ok (.irem, 1) := dk_112 (dk_at dksX2_leavesAt_0 3 rfl rfl)
theorem dX2_leavesAt_4 : decode cX2_leavesAt 4 = .ok (.istore_n 3, 1) := dk_62 (dk_at dksX2_leavesAt_0 4 rfl rfl)
theorem dX2_leavesAt_5 : decode cX2_leavesAt 5 = .ok (.iload_n 1, 1) := dk_27 (dk_at dksX2_leavesAt_0 5 rfl rfl)
theorem dX2_leavesAt_6 : decode cX2_leavesAt 6 = .ok (.bipush 24, 2) := dk_16 24 (dk_at dksX2_leavesAt_0 6 rfl rfl)
theorem dX2_leavesAt_8 : decode cX2_leavesAt 8 = .ok (.idiv, 1) := dk_108 (dk_at dksX2_leavesAt_0 8 rfl rfl)
theorem dX2_leavesAt_9 : decode cX2_leavesAt 9 = .ok (.iconst 1, 1) := dk_4 (dk_at dksX2_leavesAt_0 9 rfl rfl)
theorem dX2_leavesAt_10 : decode cX2_leavesAt 10 = .ok (.isub, 1) := dk_100 (dk_at dksX2_leavesAt_0 10 rfl rfl)
theorem dX2_leavesAt_11 : decode cX2_leavesAt 11 = .ok (.istore 4, 2) := dk_54 4 (dk_at dksX2_leavesAt_0 11 rfl rfl)
theorem dX2_leavesAt_13 : decode cX2_leavesAt 13 = .ok (.aload_n 0, 1) := dk_42 (dk_at dksX2_leavesAt_0 13 rfl rfl)
theorem dX2_leavesAt_14 : decode cX2_leavesAt 14 = .ok (.getfield 39, 3) := dk_180 0 39 (dk_at dksX2_leavesAt_0 14 rfl rfl)
theorem dX2_leavesAt_17 : decode cX2_leavesAt 17 = .ok (.bipush 8, 2) := dk_16 8 (dk_at dksX2_leavesAt_0 17 rfl rfl)
theorem dX2_leavesAt_19 : decode cX2_leavesAt 19 = .ok (.iload_n 3, 1) := dk_29 (dk_at dksX2_leavesAt_0 19 rfl rfl)
theorem dX2_leavesAt_20 : decode cX2_leavesAt 20 = .ok (.imul, 1) := dk_104 (dk_at dksX2_leavesAt_0 20 rfl rfl)
theorem dX2_leavesAt_21 : decode cX2_leavesAt 21 = .ok (.iload_n 2, 1) := dk_28 (dk_at dksX2_leavesAt_0 21 rfl rfl)
theorem dX2_leavesAt_22 : decode cX2_leavesAt 22 = .ok (.iadd, 1) := dk_96 (dk_at dksX2_leavesAt_0 22 rfl rfl)
theorem dX2_leavesAt_23 : decode cX2_leavesAt 23 = .ok (.iaload, 1) := dk_46 (dk_at dksX2_leavesAt_0 23 rfl rfl)
theorem dX2_leavesAt_24 : decode cX2_leavesAt 24 = .ok (.sipush 1440, 3) := dk_17 5 160 (dk_at dksX2_leavesAt_1 0 rfl rfl)
theorem dX2_leavesAt_27 : decode cX2_leavesAt 27 = .ok (.iload 4, 2) := dk_21 4 (dk_at dksX2_leavesAt_1 3 rfl rfl)
theorem dX2_leavesAt_29 : decode cX2_leavesAt 29 = .ok (.imul, 1) := dk_104 (dk_at dksX2_leavesAt_1 5 rfl rfl)
theorem dX2_leavesAt_30 : decode cX2_leavesAt 30 = .ok (.iadd, 1) := dk_96 (dk_at dksX2_leavesAt_1 6 rfl rfl)
theorem dX2_leavesAt_31 : decode cX2_leavesAt 31 = .ok (.aload_n 0, 1) := dk_42 (dk_at dksX2_leavesAt_1 7 rfl rfl)
theorem dX2_leavesAt_32 : decode cX2_leavesAt 32 = .ok (.aload_n 0, 1) := dk_42 (dk_at dksX2_leavesAt_1 8 rfl rfl)
theorem dX2_leavesAt_33 : decode cX2_leavesAt 33 = .ok (.getfield 198, 3) := dk_180 0 198 (dk_at dksX2_leavesAt_1 9 rfl rfl)
theorem dX2_leavesAt_36 : decode cX2_leavesAt 36 = .ok (.iload 4, 2) := dk_21 4 (dk_at dksX2_leavesAt_1 12 rfl rfl)
theorem dX2_leavesAt_38 : decode cX2_leavesAt 38 = .ok (.iadd, 1) := dk_96 (dk_at dksX2_leavesAt_1 14 rfl rfl)
theorem dX2_leavesAt_39 : decode cX2_leavesAt 39 = .ok (.iload_n 3, 1) := dk_29 (dk_at dksX2_leavesAt_1 15 rfl rfl)
theorem dX2_leavesAt_40 : decode cX2_leavesAt 40 = .ok (.iload_n 2, 1) := dk_28 (dk_at dksX2_leavesAt_1 16 rfl rfl)
theorem dX2_leavesAt_41 : decode cX2_leavesAt 41 = .ok (.invokevirtual 195, 3) := dk_182 0 195 (dk_at dksX2_leavesAt_1 17 rfl rfl)
theorem dX2_leavesAt_44 : decode cX2_leavesAt 44 = .ok (.iadd, 1) := dk_96 (dk_at dksX2_leavesAt_1 20 rfl rfl)
theorem dX2_leavesAt_45 : decode cX2_leavesAt 45 = .ok (.ireturn, 1) := dk_172 (dk_at dksX2_leavesAt_1 21 rfl rfl)
abbrev cX2_getsOn : ByteArray := prog_15_method_49_code
def yX2_getsOn : MethodName := ⟨RX2, "getsOn", "(II)Z"⟩
def dkwX2_getsOn_1 : List UInt8 := [180, 0, 63, 27, 46, 42, 180, 0, 9, 27, 46, 96, 28, 163, 0, 7, 4, 167, 0, 4, 3, 172]
abbrev dktX2_getsOn_1 : List UInt8 := dkwX2_getsOn_1 ++ []
def dkwX2_getsOn_0 : List UInt8 := [28, 155, 0, 42, 27, 42, 180, 0, 19, 159, 0, 34, 42, 180, 0, 60, 27, 46, 28, 164, 0, 20, 42]
abbrev dktX2_getsOn_0 : List UInt8 := dkwX2_getsOn_0 ++ dktX2_getsOn_1
theorem dksX2_getsOn_0 : cX2_getsOn.data.toList.drop 0 = dktX2_getsOn_0 := by decide +kernel
theorem dksX2_getsOn_1 : cX2_getsOn.data.toList.drop 23 = dktX2_getsOn_1 := dk_seg dksX2_getsOn_0 23 rfl rfl
theorem dX2_getsOn_0 : decode cX2_getsOn 0 = .ok (.iload_n 2, 1) := dk_28 (dk_at dksX2_getsOn_0 0 rfl rfl)
theorem dX2_getsOn_1 : decode cX2_getsOn 1 = .ok (.ifCond .lt 42, 3) := dk_155 0 42 (dk_at dksX2_getsOn_0 1 rfl rfl)
theorem dX2_getsOn_4 : decode cX2_getsOn 4 = .ok (.iload_n 1, 1) := dk_27 (dk_at dksX2_getsOn_0 4 rfl rfl)
theorem dX2_getsOn_5 : decode cX2_getsOn 5 = .ok (.aload_n 0, 1) := dk_42 (dk_at dksX2_getsOn_0 5 rfl rfl)
theorem dX2_getsOn_6 : decode cX2_getsOn 6 = .ok (.getfield 19, 3) := dk_180 0 19 (dk_at dksX2_getsOn_0 6 rfl rfl)
theorem dX2_getsOn_9 : decode cX2_getsOn 9 = .ok (.if_icmp .eq 34, 3) := dk_159 0 34 (dk_at dksX2_getsOn_0 9 rfl rfl)
theorem dX2_getsOn_12 : decode cX2_getsOn 12 = .ok (.aload_n 0, 1) := dk_42 (dk_at dksX2_getsOn_0 12 rfl rfl)
theorem dX2_getsOn_13 : decode cX2_getsOn 13 = .ok (.getfield 60, 3) := dk_180 0 60 (dk_at dksX2_getsOn_0 13 rfl rfl)
theorem dX2_getsOn_16 : decode cX2_getsOn 16 = .ok (.iload_n 1, 1) := dk_27 (dk_at dksX2_getsOn_0 16 rfl rfl)
theorem dX2_getsOn_17 : decode cX2_getsOn 17 = .ok (.iaload, 1) := dk_46 (dk_at dksX2_getsOn_0 17 rfl rfl)
theorem dX2_getsOn_18 : decode cX2_getsOn 18 = .ok (.iload_n 2, 1) := dk_28 (dk_at dksX2_getsOn_0 18 rfl rfl)
theorem dX2_getsOn_19 : decode cX2_getsOn 19 = .ok (.if_icmp .le 20, 3) := dk_164 0 20 (dk_at dksX2_getsOn_0 19 rfl rfl)
theorem dX2_getsOn_22 : decode cX2_getsOn 22 = .ok (.aload_n 0, 1) := dk_42 (dk_at dksX2_getsOn_0 22 rfl rfl)
theorem dX2_getsOn_23 : decode cX2_getsOn 23 = .ok (.getfield 63, 3) := dk_180 0 63 (dk_at dksX2_getsOn_1 0 rfl rfl)
theorem dX2_getsOn_26 : decode cX2_getsOn 26 = .ok (.iload_n 1, 1) := dk_27 (dk_at dksX2_getsOn_1 3 rfl rfl)
theorem dX2_getsOn_27 : decode cX2_getsOn 27 = .ok (.iaload, 1) := dk_46 (dk_at dksX2_getsOn_1 4 rfl rfl)
theorem dX2_getsOn_28 : decode cX2_getsOn 28 = .ok (.aload_n 0, 1) := dk_42 (dk_at dksX2_getsOn_1 5 rfl rfl)
theorem dX2_getsOn_29 : decode cX2_getsOn 29 = .ok (.getfield 9, 3) := dk_180 0 9 (dk_at dksX2_getsOn_1 6 rfl rfl)
theorem dX2_getsOn_32 : decode cX2_getsOn 32 = .ok (.iload_n 1, 1) := dk_27 (dk_at dksX2_getsOn_1 9 rfl rfl)
theorem dX2_getsOn_33 : decode cX2_getsOn 33 = .ok (.iaload, 1) := dk_46 (dk_at dksX2_getsOn_1 10 rfl rfl)
theorem dX2_getsOn_34 : decode cX2_getsOn 34 = .ok (.iadd, 1) := dk_96 (dk_at dksX2_getsOn_1 11 rfl rfl)
theorem dX2_getsOn_35 : decode cX2_getsOn 35 = .ok (.iload_n 2, 1) := dk_28 (dk_at dksX2_getsOn_1 12 rfl rfl)
theorem dX2_getsOn_36 : decode cX2_getsOn 36 = .ok (.if_icmp .gt 7, 3) := dk_163 0 7 (dk_at dksX2_getsOn_1 13 rfl rfl)
theorem dX2_getsOn_39 : decode cX2_getsOn 39 = .ok (.iconst 1, 1) := dk_4 (dk_at dksX2_getsOn_1 16 rfl rfl)
theorem dX2_getsOn_40 : decode cX2_getsOn 40 = .ok (.goto 4, 3) := dk_167 0 4 (dk_at dksX2_getsOn_1 17 rfl rfl)
theorem dX2_getsOn_43 : decode cX2_getsOn 43 = .ok (.iconst 0, 1) := dk_3 (dk_at dksX2_getsOn_1 20 rfl rfl)
theorem dX2_getsOn_44 : decode cX2_getsOn 44 = .ok (.ireturn, 1) := dk_172 (dk_at dksX2_getsOn_1 21 rfl rfl)
abbrev cX2_at : ByteArray := prog_15_method_53_code
def yX2_at : MethodName := ⟨RX2, "at", "(I)I"⟩
def dkwX2_at_1 : List UInt8 := [42, 180, 0, 63, 27, 46, 172]
abbrev dktX2_at_1 : List UInt8 := dkwX2_at_1 ++ []
def dkwX2_at_0 : List UInt8 := [42, 180, 0, 60, 27, 46, 42, 180, 0, 63, 27, 46, 162, 0, 12, 42, 180, 0, 60, 27, 46, 167, 0, 9]
abbrev dktX2_at_0 : List UInt8 := dkwX2_at_0 ++ dktX2_at_1
theorem dksX2_at_0 : cX2_at.data.toList.drop 0 = dktX2_at_0 := by decide +kernel
theorem dksX2_at_1 : cX2_at.data.toList.drop 24 = dktX2_at_1 := dk_seg dksX2_at_0 24 rfl rfl
theorem dX2_at_0 : decode cX2_at 0 = .ok (.aload_n 0, 1) := dk_42 (dk_at dksX2_at_0 0 rfl rfl)
theorem dX2_at_1 : decode cX2_at 1 = .ok (.getfield 60, 3) := dk_180 0 60 (dk_at dksX2_at_0 1 rfl rfl)
theorem dX2_at_4 : decode cX2_at 4 = .ok (.iload_n 1, 1) := dk_27 (dk_at dksX2_at_0 4 rfl rfl)
theorem dX2_at_5 : decode cX2_at 5 = .ok (.iaload, 1) := dk_46 (dk_at dksX2_at_0 5 rfl rfl)
theorem dX2_at_6 : decode cX2_at 6 = .ok (.aload_n 0, 1) := dk_42 (dk_at dksX2_at_0 6 rfl rfl)
theorem dX2_at_7 : decode cX2_at 7 = .ok (.getfield 63, 3) := dk_180 0 63 (dk_at dksX2_at_0 7 rfl rfl)
theorem dX2_at_10 : decode cX2_at 10 = .ok (.iload_n 1, 1) := dk_27 (dk_at dksX2_at_0 10 rfl rfl)
theorem dX2_at_11 : decode cX2_at 11 = .ok (.iaload, 1) := dk_46 (dk_at dksX2_at_0 11 rfl rfl)
theorem dX2_at_12 : decode cX2_at 12 = .ok (.if_icmp .ge 12, 3) := dk_162 0 12 (dk_at dksX2_at_0 12 rfl rfl)
theorem dX2_at_15 : decode cX2_at 15 = .ok (.aload_n 0, 1) := dk_42 (dk_at dksX2_at_0 15 rfl rfl)
theorem dX2_at_16 : decode cX2_at 16 = .ok (.getfield 60, 3) := dk_180 0 60 (dk_at dksX2_at_0 16 rfl rfl)
theorem dX2_at_19 : decode cX2_at 19 = .ok (.iload_n 1, 1) := dk_27 (dk_at dksX2_at_0 19 rfl rfl)
theorem dX2_at_20 : decode cX2_at 20 = .ok (.iaload, 1) := dk_46 (dk_at dksX2_at_0 20 rfl rfl)
theorem dX2_at_21 : decode cX2_at 21 = .ok (.goto 9, 3) := dk_167 0 9 (dk_at dksX2_at_0 21 rfl rfl)
theorem dX2_at_24 : decode cX2_at 24 = .ok (.aload_n 0, 1) := dk_42 (dk_at dksX2_at_1 0 rfl rfl)
theorem dX2_at_25 : decode cX2_at 25 = .ok (.getfield 63, 3) := dk_180 0 63 (dk_at dksX2_at_1 1 rfl rfl)
theorem dX2_at_28 : decode cX2_at 28 = .ok (.iload_n 1, 1) := dk_27 (dk_at dksX2_at_1 4 rfl rfl)
theorem dX2_at_29 : decode cX2_at 29 = .ok (.iaload, 1) := dk_46 (dk_at dksX2_at_1 5 rfl rfl)
theorem dX2_at_30 : decode cX2_at 30 = .ok (.ireturn, 1) := dk_172 (dk_at dksX2_at_1 6 rfl rfl)
abbrev cX2_earliestByQueue : ByteArray := prog_15_method_58_code
def yX2_earliestByQueue : MethodName := ⟨RX2, "earliestByQueue", "(IIII)I"⟩
def dkwX2_earliestByQueue_0 : List UInt8 := [42, 27, 28, 29, 21, 4, 182, 0, 247, 172]
abbrev dktX2_earliestByQueue_0 : List UInt8 := dkwX2_earliestByQueue_0 ++ []
theorem dksX2_earliestByQueue_0 : cX2_earliestByQueue.data.toList.drop 0 = dktX2_earliestByQueue_0 := by decide +kernel
theorem dX2_earliestByQueue_0 : decode cX2_earliestByQueue 0 = .ok (.aload_n 0, 1) := dk_42 (dk_at dksX2_earliestByQueue_0 0 rfl rfl)
theorem dX2_earliestByQueue_1 : decode cX2_earliestByQueue 1 = .ok (.iload_n 1, 1) := dk_27 (dk_at dksX2_earliestByQueue_0 1 rfl rfl)
theorem dX2_earliestByQueue_2 : decode cX2_earliestByQueue 2 = .ok (.iload_n 2, 1) := dk_28 (dk_at dksX2_earliestByQueue_0 2 rfl rfl)
theorem dX2_earliestByQueue_3 : decode cX2_earliestByQueue 3 = .ok (.iload_n 3, 1) := dk_29 (dk_at dksX2_earliestByQueue_0 3 rfl rfl)
theorem dX2_earliestByQueue_4 : decode cX2_earliestByQueue 4 = .ok (.iload 4, 2) := dk_21 4 (dk_at dksX2_earliestByQueue_0 4 rfl rfl)
theorem dX2_earliestByQueue_6 : decode cX2_earliestByQueue 6 = .ok (.invokevirtual 247, 3) := dk_182 0 247 (dk_at dksX2_earliestByQueue_0 6 rfl rfl)
theorem dX2_earliestByQueue_9 : decode cX2_earliestByQueue 9 = .ok (.ireturn, 1) := dk_172 (dk_at dksX2_earliestByQueue_0 9 rfl rfl)
abbrev cX2_earliestByRounds : ByteArray := prog_15_method_59_code
def yX2_earliestByRounds : MethodName := ⟨RX2, "earliestByRounds", "(IIII)I"⟩
def dkwX2_earliestByRounds_0 : List UInt8 := [42, 27, 28, 29, 21, 4, 182, 0, 247, 172]
abbrev dktX2_earliestByRounds_0 : List UInt8 := dkwX2_earliestByRounds_0 ++ []
theorem dksX2_earliestByRounds_0 : cX2_earliestByRounds.data.toList.drop 0 = dktX2_earliestByRounds_0 := by decide +kernel
theorem dX2_earliestByRounds_0 : decode cX2_earliestByRounds 0 = .ok (.aload_n 0, 1) := dk_42 (dk_at dksX2_earliestByRounds_0 0 rfl rfl)
theorem dX2_earliestByRounds_1 : decode cX2_earliestByRounds 1 = .ok (.iload_n 1, 1) := dk_27 (dk_at dksX2_earliestByRounds_0 1 rfl rfl)
theorem dX2_earliestByRounds_2 : decode cX2_earliestByRounds 2 = .ok (.iload_n 2, 1) := dk_28 (dk_at dksX2_earliestByRounds_0 2 rfl rfl)
theorem dX2_earliestByRounds_3 : decode cX2_earliestByRounds 3 = .ok (.iload_n 3, 1) := dk_29 (dk_at dksX2_earliestByRounds_0 3 rfl rfl)
theorem dX2_earliestByRounds_4 : decode cX2_earliestByRounds 4 = .ok (.iload 4, 2) := dk_21 4 (dk_at dksX2_earliestByRounds_0 4 rfl rfl)
theorem dX2_earliestByRounds_6 : decode cX2_earliestByRounds 6 = .ok (.invokevirtual 247, 3) := dk_182 0 247 (dk_at dksX2_earliestByRounds_0 6 rfl rfl)
theorem dX2_earliestByRounds_9 : decode cX2_earliestByRounds 9 = .ok (.ireturn, 1) := dk_172 (dk_at dksX2_earliestByRounds_0 9 rfl rfl)
abbrev cX2_byPairs : ByteArray := prog_15_method_60_code
def yX2_byPairs : MethodName := ⟨RX2, "byPairs", "(IIII)I"⟩
def dkwX2_byPairs_0 : List UInt8 := [42, 27, 28, 29, 21, 4, 182, 0, 247, 172]
abbrev dktX2_byPairs_0 : List UInt8 := dkwX2_byPairs_0 ++ []
theorem dksX2_byPairs_0 : cX2_byPairs.data.toList.drop 0 = dktX2_byPairs_0 := by decide +kernel
theorem dX2_byPairs_0 : decode cX2_byPairs 0 = .ok (.aload_n 0, 1) := dk_42 (dk_at dksX2_byPairs_0 0 rfl rfl)
theorem dX2_byPairs_1 : decode cX2_byPairs 1 = .ok (.iload_n 1, 1) := dk_27 (dk_at dksX2_byPairs_0 1 rfl rfl)
theorem dX2_byPairs_2 : decode cX2_byPairs 2 = .ok (.iload_n 2, 1) := dk_28 (dk_at dksX2_byPairs_0 2 rfl rfl)
theorem dX2_byPairs_3 : decode cX2_byPairs 3 = .ok (.iload_n 3, 1) := dk_29 (dk_at dksX2_byPairs_0 3 rfl rfl)
theorem dX2_byPairs_4 : decode cX2_byPairs 4 = .ok (.iload 4, 2) := dk_21 4 (dk_at dksX2_byPairs_0 4 rfl rfl)
theorem dX2_byPairs_6 : decode cX2_byPairs 6 = .ok (.invokevirtual 247, 3) := dk_182 0 247 (dk_at dksX2_byPairs_0 6 rfl rfl)
theorem dX2_byPairs_9 : decode cX2_byPairs 9 = .ok (.ireturn, 1) := dk_172 (dk_at dksX2_byPairs_0 9 rfl rfl)
abbrev cX2_wall : ByteArray := prog_15_method_61_code
def yX2_wall : MethodName := ⟨RX2, "wall", "(IIII)I"⟩
def dkwX2_wall_4 : List UInt8 := [21, 7, 120, 167, 0, 4, 3, 128, 54, 6, 132, 7, 1, 167, 255, 220, 21, 6, 172]
abbrev dktX2_wall_4 : List UInt8 := dkwX2_wall_4 ++ []
def dkwX2_wall_3 : List UInt8 := [21, 7, 42, 180, 0, 123, 162, 0, 33, 21, 6, 42, 21, 7, 182, 0, 235, 21, 4, 162, 0, 10, 4]
abbrev dktX2_wall_3 : List UInt8 := dkwX2_wall_3 ++ dktX2_wall_4
def dkwX2_wall_2 : List UInt8 := [182, 0, 130, 153, 0, 5, 3, 172, 42, 27, 27, 28, 29, 182, 0, 243, 54, 5, 3, 54, 6, 3, 54, 7]
abbrev dktX2_wall_2 : List UInt8 := dkwX2_wall_2 ++ dktX2_wall_3
def dkwX2_wall_1 : List UInt8 := [184, 0, 126, 153, 0, 15, 21, 4, 3, 17, 16, 223, 184, 0, 126, 154, 0, 7, 4, 167, 0, 4, 3, 5]
abbrev dktX2_wall_1 : List UInt8 := dkwX2_wall_1 ++ dktX2_wall_2
def dkwX2_wall_0 : List UInt8 := [42, 27, 182, 0, 147, 154, 0, 49, 42, 28, 3, 16, 27, 184, 0, 126, 153, 0, 26, 29, 3, 17, 5, 159]
abbrev dktX2_wall_0 : List UInt8 := dkwX2_wall_0 ++ dktX2_wall_1
theorem dksX2_wall_0 : cX2_wall.data.toList.drop 0 = dktX2_wall_0 := by decide +kernel
theorem dksX2_wall_1 : cX2_wall.data.toList.drop 24 = dktX2_wall_1 := dk_seg dksX2_wall_0 24 rfl rfl
theorem dksX2_wall_2 : cX2_wall.data.toList.drop 48 = dktX2_wall_2 := dk_seg dksX2_wall_1 24 rfl rfl
theorem dksX2_wall_3 : cX2_wall.data.toList.drop 72 = dktX2_wall_3 := dk_seg dksX2_wall_2 24 rfl rfl
theorem dksX2_wall_4 : cX2_wall.data.toList.drop 95 = dktX2_wall_4 := dk_seg dksX2_wall_3 23 rfl rfl
theorem dX2_wall_0 : decode cX2_wall 0 = .ok (.aload_n 0, 1) := dk_42 (dk_at dksX2_wall_0 0 rfl rfl)
theorem dX2_wall_1 : decode cX2_wall 1 = .ok (.iload_n 1, 1) := dk_27 (dk_at dksX2_wall_0 1 rfl rfl)
theorem dX2_wall_2 : decode cX2_wall 2 = .ok (.invokevirtual 147, 3) := dk_182 0 147 (dk_at dksX2_wall_0 2 rfl rfl)
theorem dX2_wall_5 : decode cX2_wall 5 = .ok (.ifCond .ne 49, 3) := dk_154 0 49 (dk_at dksX2_wall_0 5 rfl rfl)
theorem dX2_wall_8 : decode cX2_wall 8 = .ok (.aload_n 0, 1) := dk_42 (dk_at dksX2_wall_0 8 rfl rfl)
theorem dX2_wall_9 : decode cX2_wall 9 = .ok (.iload_n 2, 1) := dk_28 (dk_at dksX2_wall_0 9 rfl rfl)
theorem dX2_wall_10 : decode cX2_wall 10 = .ok (.iconst 0, 1) := dk_3 (dk_at dksX2_wall_0 10 rfl rfl)
theorem dX2_wall_11 : decode cX2_wall 11 = .ok (.bipush 27, 2) := dk_16 27 (dk_at dksX2_wall_0 11 rfl rfl)
theorem dX2_wall_13 : decode cX2_wall 13 = .ok (.invokestatic 126, 3) := dk_184 0 126 (dk_at dksX2_wall_0 13 rfl rfl)
theorem dX2_wall_16 : decode cX2_wall 16 = .ok (.ifCond .eq 26, 3) := dk_153 0 26 (dk_at dksX2_wall_0 16 rfl rfl)
theorem dX2_wall_19 : decode cX2_wall 19 = .ok (.iload_n 3, 1) := dk_29 (dk_at dksX2_wall_0 19 rfl rfl)
theorem dX2_wall_20 : decode cX2_wall 20 = .ok (.iconst 0, 1) := dk_3 (dk_at dksX2_wall_0 20 rfl rfl)
theorem dX2_wall_21 : decode cX2_wall 21 = .ok (.sipush 1439, 3) := dk_17 5 159 (dk_at dksX2_wall_0 21 rfl rfl)
theorem dX2_wall_24 : decode cX2_wall 24 = .ok (.invokestatic 126, 3) := dk_184 0 126 (dk_at dksX2_wall_1 0 rfl rfl)
theorem dX2_wall_27 : decode cX2_wall 27 = .ok (.ifCond .eq 15, 3) := dk_153 0 15 (dk_at dksX2_wall_1 3 rfl rfl)
theorem dX2_wall_30 : decode cX2_wall 30 = .ok (.iload 4, 2) := dk_21 4 (dk_at dksX2_wall_1 6 rfl rfl)
theorem dX2_wall_32 : decode cX2_wall 32 = .ok (.iconst 0, 1) := dk_3 (dk_at dksX2_wall_1 8 rfl rfl)
theorem dX2_wall_33 : decode cX2_wall 33 = .ok (.sipush 4319, 3) := dk_17 16 223 (dk_at dksX2_wall_1 9 rfl rfl)
theorem dX2_wall_36 : decode cX2_wall 36 = .ok (.invokestatic 126, 3) := dk_184 0 126 (dk_at dksX2_wall_1 12 rfl rfl)
theorem dX2_wall_39 : decode cX2_wall 39 = .ok (.ifCond .ne 7, 3) := dk_154 0 7 (dk_at dksX2_wall_1 15 rfl rfl)
theorem dX2_wall_42 : decode cX2_wall 42 = .ok (.iconst 1, 1) := dk_4 (dk_at dksX2_wall_1 18 rfl rfl)
theorem dX2_wall_43 : decode cX2_wall 43 = .ok (.goto 4, 3) := dk_167 0 4 (dk_at dksX2_wall_1 19 rfl rfl)
theorem dX2_wall_46 : decode cX2_wall 46 = .ok (.iconst 0, 1) := dk_3 (dk_at dksX2_wall_1 22 rfl rfl)
theorem dX2_wall_47 : decode cX2_wall 47 = .ok (.iconst 2, 1) := dk_5 (dk_at dksX2_wall_1 23 rfl rfl)
theorem dX2_wall_48 : decode cX2_wall 48 = .ok (.invokevirtual 130, 3) := dk_182 0 130 (dk_at dksX2_wall_2 0 rfl rfl)
theorem dX2_wall_51 : decode cX2_wall 51 = .ok (.ifCond .eq 5, 3) := dk_153 0 5 (dk_at dksX2_wall_2 3 rfl rfl)
theorem dX2_wall_54 : decode cX2_wall 54 = .ok (.iconst 0, 1) := dk_3 (dk_at dksX2_wall_2 6 rfl rfl)
theorem dX2_wall_55 : decode cX2_wall 55 = .ok (.ireturn, 1) := dk_172 (dk_at dksX2_wall_2 7 rfl rfl)
theorem dX2_wall_56 : decode cX2_wall 56 = .ok (.aload_n 0, 1) := dk_42 (dk_at dksX2_wall_2 8 rfl rfl)
theorem dX2_wall_57 : decode cX2_wall 57 = .ok (.iload_n 1, 1) := dk_27 (dk_at dksX2_wall_2 9 rfl rfl)
theorem dX2_wall_58 : decode cX2_wall 58 = .ok (.iload_n 1, 1) := dk_27 (dk_at dksX2_wall_2 10 rfl rfl)
theorem dX2_wall_59 : decode cX2_wall 59 = .ok (.iload_n 2, 1) := dk_28 (dk_at dksX2_wall_2 11 rfl rfl)
theorem dX2_wall_60 : decode cX2_wall 60 = .ok (.iload_n 3, 1) := dk_29 (dk_at dksX2_wall_2 12 rfl rfl)
theorem dX2_wall_61 : decode cX2_wall 61 = .ok (.invokevirtual 243, 3) := dk_182 0 243 (dk_at dksX2_wall_2 13 rfl rfl)
theorem dX2_wall_64 : decode cX2_wall 64 = .ok (.istore 5, 2) := dk_54 5 (dk_at dksX2_wall_2 16 rfl rfl)
theorem dX2_wall_66 : decode cX2_wall 66 = .ok (.iconst 0, 1) := dk_3 (dk_at dksX2_wall_2 18 rfl rfl)
theorem dX2_wall_67 : decode cX2_wall 67 = .ok (.istore 6, 2) := dk_54 6 (dk_at dksX2_wall_2 19 rfl rfl)
theorem dX2_wall_69 : decode cX2_wall 69 = .ok (.iconst 0, 1) := dk_3 (dk_at dksX2_wall_2 21 rfl rfl)
theorem dX2_wall_70 : decode cX2_wall 70 = .ok (.istore 7, 2) := dk_54 7 (dk_at dksX2_wall_2 22 rfl rfl)
theorem dX2_wall_72 : decode cX2_wall 72 = .ok (.iload 7, 2) := dk_21 7 (dk_at dksX2_wall_3 0 rfl rfl)
theorem dX2_wall_74 : decode cX2_wall 74 = .ok (.aload_n 0, 1) := dk_42 (dk_at dksX2_wall_3 2 rfl rfl)
theorem dX2_wall_75 : decode cX2_wall 75 = .ok (.getfield 123, 3) := dk_180 0 123 (dk_at dksX2_wall_3 3 rfl rfl)
theorem dX2_wall_78 : decode cX2_wall 78 = .ok (.if_icmp .ge 33, 3) := dk_162 0 33 (dk_at dksX2_wall_3 6 rfl rfl)
theorem dX2_wall_81 : decode cX2_wall 81 = .ok (.iload 6, 2) := dk_21 6 (dk_at dksX2_wall_3 9 rfl rfl)
theorem dX2_wall_83 : decode cX2_wall 83 = .ok (.aload_n 0, 1) := dk_42 (dk_at dksX2_wall_3 11 rfl rfl)
theorem dX2_wall_84 : decode cX2_wall 84 = .ok (.iload 7, 2) := dk_21 7 (dk_at dksX2_wall_3 12 rfl rfl)
theorem dX2_wall_86 : decode cX2_wall 86 = .ok (.invokevirtual 235, 3) := dk_182 0 235 (dk_at dksX2_wall_3 14 rfl rfl)
theorem dX2_wall_89 : decode cX2_wall 89 = .ok (.iload 4, 2) := dk_21 4 (dk_at dksX2_wall_3 17 rfl rfl)
theorem dX2_wall_91 : decode cX2_wall 91 = .ok (.if_icmp .ge 10, 3) := dk_162 0 10 (dk_at dksX2_wall_3 19 rfl rfl)
theorem dX2_wall_94 : decode cX2_wall 94 = .ok (.iconst 1, 1) := dk_4 (dk_at dksX2_wall_3 22 rfl rfl)
theorem dX2_wall_95 : decode cX2_wall 95 = .ok (.iload 7, 2) := dk_21 7 (dk_at dksX2_wall_4 0 rfl rfl)
theorem dX2_wall_97 : decode cX2_wall 97 = .ok (.ishl, 1) := dk_120 (dk_at dksX2_wall_4 2 rfl rfl)
theorem dX2_wall_98 : decode cX2_wall 98 = .ok (.goto 4, 3) := dk_167 0 4 (dk_at dksX2_wall_4 3 rfl rfl)
theorem dX2_wall_101 : decode cX2_wall 101 = .ok (.iconst 0, 1) := dk_3 (dk_at dksX2_wall_4 6 rfl rfl)
theorem dX2_wall_102 : decode cX2_wall 102 = .ok (.ior, 1) := dk_128 (dk_at dksX2_wall_4 7 rfl rfl)
theorem dX2_wall_103 : decode cX2_wall 103 = .ok (.istore 6, 2) := dk_54 6 (dk_at dksX2_wall_4 8 rfl rfl)
theorem dX2_wall_105 : decode cX2_wall 105 = .ok (.iinc 7 1, 3) := dk_132 7 1 (dk_at dksX2_wall_4 10 rfl rfl)
theorem dX2_wall_108 : decode cX2_wall 108 = .ok (.goto (-36), 3) := dk_167 255 220 (dk_at dksX2_wall_4 13 rfl rfl)
theorem dX2_wall_111 : decode cX2_wall 111 = .ok (.iload 6, 2) := dk_21 6 (dk_at dksX2_wall_4 16 rfl rfl)
theorem dX2_wall_113 : decode cX2_wall 113 = .ok (.ireturn, 1) := dk_172 (dk_at dksX2_wall_4 18 rfl rfl)
abbrev cX2_last : ByteArray := prog_15_method_62_code
def yX2_last : MethodName := ⟨RX2, "last", "(IIII)I"⟩
def dkwX2_last_5 : List UInt8 := [163, 0, 10, 21, 7, 54, 5, 167, 0, 9, 21, 7, 4, 100, 54, 6, 167, 255, 211, 21, 5, 172]
abbrev dktX2_last_5 : List UInt8 := dkwX2_last_5 ++ []
def dkwX2_last_4 : List UInt8 := [21, 5, 21, 6, 96, 4, 96, 5, 108, 54, 7, 42, 27, 28, 29, 21, 7, 182, 0, 243, 21, 4]
abbrev dktX2_last_4 : List UInt8 := dkwX2_last_4 ++ dktX2_last_5
def dkwX2_last_3 : List UInt8 := [6, 182, 0, 130, 153, 0, 5, 3, 172, 3, 54, 5, 21, 4, 54, 6, 21, 5, 21, 6, 162, 0, 44]
abbrev dktX2_last_3 : List UInt8 := dkwX2_last_3 ++ dktX2_last_4
def dkwX2_last_2 : List UInt8 := [153, 0, 5, 3, 172, 42, 42, 27, 28, 29, 3, 182, 0, 243, 21, 4, 164, 0, 7, 4, 167, 0, 4, 3]
abbrev dktX2_last_2 : List UInt8 := dkwX2_last_2 ++ dktX2_last_3
def dkwX2_last_1 : List UInt8 := [153, 0, 15, 21, 4, 3, 17, 11, 63, 184, 0, 126, 154, 0, 7, 4, 167, 0, 4, 3, 5, 182, 0, 130]
abbrev dktX2_last_1 : List UInt8 := dkwX2_last_1 ++ dktX2_last_2
def dkwX2_last_0 : List UInt8 := [42, 27, 182, 0, 147, 154, 0, 46, 42, 28, 182, 0, 147, 154, 0, 38, 42, 29, 3, 16, 27, 184, 0, 126]
abbrev dktX2_last_0 : List UInt8 := dkwX2_last_0 ++ dktX2_last_1
theorem dksX2_last_0 : cX2_last.data.toList.drop 0 = dktX2_last_0 := by decide +kernel
theorem dksX2_last_1 : cX2_last.data.toList.drop 24 = dktX2_last_1 := dk_seg dksX2_last_0 24 rfl rfl
theorem dksX2_last_2 : cX2_last.data.toList.drop 48 = dktX2_last_2 := dk_seg dksX2_last_1 24 rfl rfl
theorem dksX2_last_3 : cX2_last.data.toList.drop 72 = dktX2_last_3 := dk_seg dksX2_last_2 24 rfl rfl
theorem dksX2_last_4 : cX2_last.data.toList.drop 95 = dktX2_last_4 := dk_seg dksX2_last_3 23 rfl rfl
theorem dksX2_last_5 : cX2_last.data.toList.drop 117 = dktX2_last_5 := dk_seg dksX2_last_4 22 rfl rfl
theorem dX2_last_0 : decode cX2_last 0 = .ok (.aload_n 0, 1) := dk_42 (dk_at dksX2_last_0 0 rfl rfl)
theorem dX2_last_1 : decode cX2_last 1 = .ok (.iload_n 1, 1) := dk_27 (dk_at dksX2_last_0 1 rfl rfl)
theorem dX2_last_2 : decode cX2_last 2 = .ok (.invokevirtual 147, 3) := dk_182 0 147 (dk_at dksX2_last_0 2 rfl rfl)
theorem dX2_last_5 : decode cX2_last 5 = .ok (.ifCond .ne 46, 3) := dk_154 0 46 (dk_at dksX2_last_0 5 rfl rfl)
theorem dX2_last_8 : decode cX2_last 8 = .ok (.aload_n 0, 1) := dk_42 (dk_at dksX2_last_0 8 rfl rfl)
theorem dX2_last_9 : decode cX2_last 9 = .ok (.iload_n 2, 1) := dk_28 (dk_at dksX2_last_0 9 rfl rfl)
theorem dX2_last_10 : decode cX2_last 10 = .ok (.invokevirtual 147, 3) := dk_182 0 147 (dk_at dksX2_last_0 10 rfl rfl)
theorem dX2_last_13 : decode cX2_last 13 = .ok (.ifCond .ne 38, 3) := dk_154 0 38 (dk_at dksX2_last_0 13 rfl rfl)
theorem dX2_last_16 : decode cX2_last 16 = .ok (.aload_n 0, 1) := dk_42 (dk_at dksX2_last_0 16 rfl rfl)
theorem dX2_last_17 : decode cX2_last 17 = .ok (.iload_n 3, 1) := dk_29 (dk_at dksX2_last_0 17 rfl rfl)
theorem dX2_last_18 : decode cX2_last 18 = .ok (.iconst 0, 1) := dk_3 (dk_at dksX2_last_0 18 rfl rfl)
theorem dX2_last_19 : decode cX2_last 19 = .ok (.bipush 27, 2) := dk_16 27 (dk_at dksX2_last_0 19 rfl rfl)
theorem dX2_last_21 : decode cX2_last 21 = .ok (.invokestatic 126, 3) := dk_184 0 126 (dk_at dksX2_last_0 21 rfl rfl)
theorem dX2_last_24 : decode cX2_last 24 = .ok (.ifCond .eq 15, 3) := dk_153 0 15 (dk_at dksX2_last_1 0 rfl rfl)
theorem dX2_last_27 : decode cX2_last 27 = .ok (.iload 4, 2) := dk_21 4 (dk_at dksX2_last_1 3 rfl rfl)
theorem dX2_last_29 : decode cX2_last 29 = .ok (.iconst 0, 1) := dk_3 (dk_at dksX2_last_1 5 rfl rfl)
theorem dX2_last_30 : decode cX2_last 30 = .ok (.sipush 2879, 3) := dk_17 11 63 (dk_at dksX2_last_1 6 rfl rfl)
theorem dX2_last_33 : decode cX2_last 33 = .ok (.invokestatic 126, 3) := dk_184 0 126 (dk_at dksX2_last_1 9 rfl rfl)
theorem dX2_last_36 : decode cX2_last 36 = .ok (.ifCond .ne 7, 3) := dk_154 0 7 (dk_at dksX2_last_1 12 rfl rfl)
theorem dX2_last_39 : decode cX2_last 39 = .ok (.iconst 1, 1) := dk_4 (dk_at dksX2_last_1 15 rfl rfl)
theorem dX2_last_40 : decode cX2_last 40 = .ok (.goto 4, 3) := dk_167 0 4 (dk_at dksX2_last_1 16 rfl rfl)
theorem dX2_last_43 : decode cX2_last 43 = .ok (.iconst 0, 1) := dk_3 (dk_at dksX2_last_1 19 rfl rfl)
theorem dX2_last_44 : decode cX2_last 44 = .ok (.iconst 2, 1) := dk_5 (dk_at dksX2_last_1 20 rfl rfl)
theorem dX2_last_45 : decode cX2_last 45 = .ok (.invokevirtual 130, 3) := dk_182 0 130 (dk_at dksX2_last_1 21 rfl rfl)
theorem dX2_last_48 : decode cX2_last 48 = .ok (.ifCond .eq 5, 3) := dk_153 0 5 (dk_at dksX2_last_2 0 rfl rfl)
theorem dX2_last_51 : decode cX2_last 51 = .ok (.iconst 0, 1) := dk_3 (dk_at dksX2_last_2 3 rfl rfl)
theorem dX2_last_52 : decode cX2_last 52 = .ok (.ireturn, 1) := dk_172 (dk_at dksX2_last_2 4 rfl rfl)
theorem dX2_last_53 : decode cX2_last 53 = .ok (.aload_n 0, 1) := dk_42 (dk_at dksX2_last_2 5 rfl rfl)
theorem dX2_last_54 : decode cX2_last 54 = .ok (.aload_n 0, 1) := dk_42 (dk_at dksX2_last_2 6 rfl rfl)
theorem dX2_last_55 : decode cX2_last 55 = .ok (.iload_n 1, 1) := dk_27 (dk_at dksX2_last_2 7 rfl rfl)
theorem dX2_last_56 : decode cX2_last 56 = .ok (.iload_n 2, 1) := dk_28 (dk_at dksX2_last_2 8 rfl rfl)
theorem dX2_last_57 : decode cX2_last 57 = .ok (.iload_n 3, 1) := dk_29 (dk_at dksX2_last_2 9 rfl rfl)
theorem dX2_last_58 : decode cX2_last 58 = .ok (.iconst 0, 1) := dk_3 (dk_at dksX2_last_2 10 rfl rfl)
theorem dX2_last_59 : decode cX2_last 59 = .ok (.invokevirtual 243, 3) := dk_182 0 243 (dk_at dksX2_last_2 11 rfl rfl)
theorem dX2_last_62 : decode cX2_last 62 = .ok (.iload 4, 2) := dk_21 4 (dk_at dksX2_last_2 14 rfl rfl)
theorem dX2_last_64 : decode cX2_last 64 = .ok (.if_icmp .le 7, 3) := dk_164 0 7 (dk_at dksX2_last_2 16 rfl rfl)
theorem dX2_last_67 : decode cX2_last 67 = .ok (.iconst 1, 1) := dk_4 (dk_at dksX2_last_2 19 rfl rfl)
theorem dX2_last_68 : decode cX2_last 68 = .ok (.goto 4, 3) := dk_167 0 4 (dk_at dksX2_last_2 20 rfl rfl)
theorem dX2_last_71 : decode cX2_last 71 = .ok (.iconst 0, 1) := dk_3 (dk_at dksX2_last_2 23 rfl rfl)
theorem dX2_last_72 : decode cX2_last 72 = .ok (.iconst 3, 1) := dk_6 (dk_at dksX2_last_3 0 rfl rfl)
theorem dX2_last_73 : decode cX2_last 73 = .ok (.invokevirtual 130, 3) := dk_182 0 130 (dk_at dksX2_last_3 1 rfl rfl)
theorem dX2_last_76 : decode cX2_last 76 = .ok (.ifCond .eq 5, 3) := dk_153 0 5 (dk_at dksX2_last_3 4 rfl rfl)
theorem dX2_last_79 : decode cX2_last 79 = .ok (.iconst 0, 1) := dk_3 (dk_at dksX2_last_3 7 rfl rfl)
theorem dX2_last_80 : decode cX2_last 80 = .ok (.ireturn, 1) := dk_172 (dk_at dksX2_last_3 8 rfl rfl)
theorem dX2_last_81 : decode cX2_last 81 = .ok (.iconst 0, 1) := dk_3 (dk_at dksX2_last_3 9 rfl rfl)
theorem dX2_last_82 : decode cX2_last 82 = .ok (.istore 5, 2) := dk_54 5 (dk_at dksX2_last_3 10 rfl rfl)
theorem dX2_last_84 : decode cX2_last 84 = .ok (.iload 4, 2) := dk_21 4 (dk_at dksX2_last_3 12 rfl rfl)
theorem dX2_last_86 : decode cX2_last 86 = .ok (.istore 6, 2) := dk_54 6 (dk_at dksX2_last_3 14 rfl rfl)
theorem dX2_last_88 : decode cX2_last 88 = .ok (.iload 5, 2) := dk_21 5 (dk_at dksX2_last_3 16 rfl rfl)
theorem dX2_last_90 : decode cX2_last 90 = .ok (.iload 6, 2) := dk_21 6 (dk_at dksX2_last_3 18 rfl rfl)
theorem dX2_last_92 : decode cX2_last 92 = .ok (.if_icmp .ge 44, 3) := dk_162 0 44 (dk_at dksX2_last_3 20 rfl rfl)
theorem dX2_last_95 : decode cX2_last 95 = .ok (.iload 5, 2) := dk_21 5 (dk_at dksX2_last_4 0 rfl rfl)
theorem dX2_last_97 : decode cX2_last 97 = .ok (.iload 6, 2) := dk_21 6 (dk_at dksX2_last_4 2 rfl rfl)
theorem dX2_last_99 : decode cX2_last 99 = .ok (.iadd, 1) := dk_96 (dk_at dksX2_last_4 4 rfl rfl)
theorem dX2_last_100 : decode cX2_last 100 = .ok (.iconst 1, 1) := dk_4 (dk_at dksX2_last_4 5 rfl rfl)
theorem dX2_last_101 : decode cX2_last 101 = .ok (.iadd, 1) := dk_96 (dk_at dksX2_last_4 6 rfl rfl)
theorem dX2_last_102 : decode cX2_last 102 = .ok (.iconst 2, 1) := dk_5 (dk_at dksX2_last_4 7 rfl rfl)
theorem dX2_last_103 : decode cX2_last 103 = .ok (.idiv, 1) := dk_108 (dk_at dksX2_last_4 8 rfl rfl)
theorem dX2_last_104 : decode cX2_last 104 = .ok (.istore 7, 2) := dk_54 7 (dk_at dksX2_last_4 9 rfl rfl)
theorem dX2_last_106 : decode cX2_last 106 = .ok (.aload_n 0, 1) := dk_42 (dk_at dksX2_last_4 11 rfl rfl)
theorem dX2_last_107 : decode cX2_last 107 = .ok (.iload_n 1, 1) := dk_27 (dk_at dksX2_last_4 12 rfl rfl)
theorem dX2_last_108 : decode cX2_last 108 = .ok (.iload_n 2, 1) := dk_28 (dk_at dksX2_last_4 13 rfl rfl)
theorem dX2_last_109 : decode cX2_last 109 = .ok (.iload_n 3, 1) := dk_29 (dk_at dksX2_last_4 14 rfl rfl)
theorem dX2_last_110 : decode cX2_last 110 = .ok (.iload 7, 2) := dk_21 7 (dk_at dksX2_last_4 15 rfl rfl)
theorem dX2_last_112 : decode cX2_last 112 = .ok (.invokevirtual 243, 3) := dk_182 0 243 (dk_at dksX2_last_4 17 rfl rfl)
theorem dX2_last_115 : decode cX2_last 115 = .ok (.iload 4, 2) := dk_21 4 (dk_at dksX2_last_4 20 rfl rfl)
theorem dX2_last_117 : decode cX2_last 117 = .ok (.if_icmp .gt 10, 3) := dk_163 0 10 (dk_at dksX2_last_5 0 rfl rfl)
theorem dX2_last_120 : decode cX2_last 120 = .ok (.iload 7, 2) := dk_21 7 (dk_at dksX2_last_5 3 rfl rfl)
theorem dX2_last_122 : decode cX2_last 122 = .ok (.istore 5, 2) := dk_54 5 (dk_at dksX2_last_5 5 rfl rfl)
theorem dX2_last_124 : decode cX2_last 124 = .ok (.goto 9, 3) := dk_167 0 9 (dk_at dksX2_last_5 7 rfl rfl)
theorem dX2_last_127 : decode cX2_last 127 = .ok (.iload 7, 2) := dk_21 7 (dk_at dksX2_last_5 10 rfl rfl)
theorem dX2_last_129 : decode cX2_last 129 = .ok (.iconst 1, 1) := dk_4 (dk_at dksX2_last_5 12 rfl rfl)
theorem dX2_last_130 : decode cX2_last 130 = .ok (.isub, 1) := dk_100 (dk_at dksX2_last_5 13 rfl rfl)
theorem dX2_last_131 : decode cX2_last 131 = .ok (.istore 6, 2) := dk_54 6 (dk_at dksX2_last_5 14 rfl rfl)
theorem dX2_last_133 : decode cX2_last 133 = .ok (.goto (-45), 3) := dk_167 255 211 (dk_at dksX2_last_5 16 rfl rfl)
theorem dX2_last_136 : decode cX2_last 136 = .ok (.iload 5, 2) := dk_21 5 (dk_at dksX2_last_5 19 rfl rfl)
theorem dX2_last_138 : decode cX2_last 138 = .ok (.ireturn, 1) := dk_172 (dk_at dksX2_last_5 21 rfl rfl)
abbrev cX2_onBoard : ByteArray := prog_15_method_63_code
def yX2_onBoard : MethodName := ⟨RX2, "onBoard", "(IIII)I"⟩
def dkwX2_onBoard_7 : List UInt8 := [182, 0, 235, 172]
abbrev dktX2_onBoard_7 : List UInt8 := dkwX2_onBoard_7 ++ []
def dkwX2_onBoard_6 : List UInt8 := [161, 0, 7, 4, 167, 0, 4, 3, 7, 182, 0, 130, 153, 0, 7, 3, 167, 0, 9, 42, 21, 4]
abbrev dktX2_onBoard_6 : List UInt8 := dkwX2_onBoard_6 ++ dktX2_onBoard_7
def dkwX2_onBoard_5 : List UInt8 := [182, 0, 220, 132, 5, 1, 167, 255, 218, 42, 182, 0, 232, 42, 42, 21, 4, 182, 0, 235, 18, 150]
abbrev dktX2_onBoard_5 : List UInt8 := dkwX2_onBoard_5 ++ dktX2_onBoard_6
def dkwX2_onBoard_4 : List UInt8 := [162, 0, 33, 42, 42, 16, 24, 28, 96, 21, 5, 182, 0, 214, 42, 16, 24, 28, 96, 21, 5, 182, 0, 217]
abbrev dktX2_onBoard_4 : List UInt8 := dkwX2_onBoard_4 ++ dktX2_onBoard_5
def dkwX2_onBoard_3 : List UInt8 := [172, 42, 27, 181, 0, 198, 42, 182, 0, 201, 29, 4, 96, 54, 5, 21, 5, 42, 180, 0, 30, 28, 46]
abbrev dktX2_onBoard_3 : List UInt8 := dkwX2_onBoard_3 ++ dktX2_onBoard_4
def dkwX2_onBoard_2 : List UInt8 := [42, 180, 0, 30, 28, 46, 4, 100, 160, 0, 7, 4, 167, 0, 4, 3, 6, 182, 0, 130, 153, 0, 5, 3]
abbrev dktX2_onBoard_2 : List UInt8 := dkwX2_onBoard_2 ++ dktX2_onBoard_3
def dkwX2_onBoard_1 : List UInt8 := [154, 0, 47, 42, 42, 180, 0, 23, 16, 28, 42, 180, 0, 27, 28, 46, 104, 27, 96, 51, 153, 0, 15, 29]
abbrev dktX2_onBoard_1 : List UInt8 := dkwX2_onBoard_1 ++ dktX2_onBoard_2
def dkwX2_onBoard_0 : List UInt8 := [42, 28, 29, 182, 0, 162, 154, 0, 65, 42, 21, 4, 182, 0, 147, 154, 0, 56, 42, 27, 5, 182, 0, 154]
abbrev dktX2_onBoard_0 : List UInt8 := dkwX2_onBoard_0 ++ dktX2_onBoard_1
theorem dksX2_onBoard_0 : cX2_onBoard.data.toList.drop 0 = dktX2_onBoard_0 := by decide +kernel
theorem dksX2_onBoard_1 : cX2_onBoard.data.toList.drop 24 = dktX2_onBoard_1 := dk_seg dksX2_onBoard_0 24 rfl rfl
theorem dksX2_onBoard_2 : cX2_onBoard.data.toList.drop 48 = dktX2_onBoard_2 := dk_seg dksX2_onBoard_1 24 rfl rfl
theorem dksX2_onBoard_3 : cX2_onBoard.data.toList.drop 72 = dktX2_onBoard_3 := dk_seg dksX2_onBoard_2 24 rfl rfl
theorem dksX2_onBoard_4 : cX2_onBoard.data.toList.drop 95 = dktX2_onBoard_4 := dk_seg dksX2_onBoard_3 23 rfl rfl
theorem dksX2_onBoard_5 : cX2_onBoard.data.toList.drop 119 = dktX2_onBoard_5 := dk_seg dksX2_onBoard_4 24 rfl rfl
theorem dksX2_onBoard_6 : cX2_onBoard.data.toList.drop 141 = dktX2_onBoard_6 := dk_seg dksX2_onBoard_5 22 rfl rfl
theorem dksX2_onBoard_7 : cX2_onBoard.data.toList.drop 163 = dktX2_onBoard_7 := dk_seg dksX2_onBoard_6 22 rfl rfl
theorem dX2_onBoard_0 : decode cX2_onBoard 0 = .ok (.aload_n 0, 1) := dk_42 (dk_at dksX2_onBoard_0 0 rfl rfl)
theorem dX2_onBoard_1 : decode cX2_onBoard 1 = .ok (.iload_n 2, 1) := dk_28 (dk_at dksX2_onBoard_0 1 rfl rfl)
theorem dX2_onBoard_2 : decode cX2_onBoard 2 = .ok (.iload_n 3, 1) := dk_29 (dk_at dksX2_onBoard_0 2 rfl rfl)
theorem dX2_onBoard_3 : decode cX2_onBoard 3 = .ok (.invokevirtual 162, 3) := dk_182 0 162 (dk_at dksX2_onBoard_0 3 rfl rfl)
theorem dX2_onBoard_6 : decode cX2_onBoard 6 = .ok (.ifCond .ne 65, 3) := dk_154 0 65 (dk_at dksX2_onBoard_0 6 rfl rfl)
theorem dX2_onBoard_9 : decode cX2_onBoard 9 = .ok (.aload_n 0, 1) := dk_42 (dk_at dksX2_onBoard_0 9 rfl rfl)
theorem dX2_onBoard_10 : decode cX2_onBoard 10 = .ok (.iload 4, 2) := dk_21 4 (dk_at dksX2_onBoard_0 10 rfl rfl)
theorem dX2_onBoard_12 : decode cX2_onBoard 12 = .ok (.invokevirtual 147, 3) := dk_182 0 147 (dk_at dksX2_onBoard_0 12 rfl rfl)
theorem dX2_onBoard_15 : decode cX2_onBoard 15 = .ok (.ifCond .ne 56, 3) := dk_154 0 56 (dk_at dksX2_onBoard_0 15 rfl rfl)
theorem dX2_onBoard_18 : decode cX2_onBoard 18 = .ok (.aload_n 0, 1) := dk_42 (dk_at dksX2_onBoard_0 18 rfl rfl)
theorem dX2_onBoard_19 : decode cX2_onBoard 19 = .ok (.iload_n 1, 1) := dk_27 (dk_at dksX2_onBoard_0 19 rfl rfl)
theorem dX2_onBoard_20 : decode cX2_onBoard 20 = .ok (.iconst 2, 1) := dk_5 (dk_at dksX2_onBoard_0 20 rfl rfl)
theorem dX2_onBoard_21 : decode cX2_onBoard 21 = .ok (.invokevirtual 154, 3) := dk_182 0 154 (dk_at dksX2_onBoard_0 21 rfl rfl)
theorem dX2_onBoard_24 : decode cX2_onBoard 24 = .ok (.ifCond .ne 47, 3) := dk_154 0 47 (dk_at dksX2_onBoard_1 0 rfl rfl)
theorem dX2_onBoard_27 : decode cX2_onBoard 27 = .ok (.aload_n 0, 1) := dk_42 (dk_at dksX2_onBoard_1 3 rfl rfl)
theorem dX2_onBoard_28 : decode cX2_onBoard 28 = .ok (.aload_n 0, 1) := dk_42 (dk_at dksX2_onBoard_1 4 rfl rfl)
theorem dX2_onBoard_29 : decode cX2_onBoard 29 = .ok (.getfield 23, 3) := dk_180 0 23 (dk_at dksX2_onBoard_1 5 rfl rfl)
theorem dX2_onBoard_32 : decode cX2_onBoard 32 = .ok (.bipush 28, 2) := dk_16 28 (dk_at dksX2_onBoard_1 8 rfl rfl)
theorem dX2_onBoard_34 : decode cX2_onBoard 34 = .ok (.aload_n 0, 1) := dk_42 (dk_at dksX2_onBoard_1 10 rfl rfl)
theorem dX2_onBoard_35 : decode cX2_onBoard 35 = .ok (.getfield 27, 3) := dk_180 0 27 (dk_at dksX2_onBoard_1 11 rfl rfl)
theorem dX2_onBoard_38 : decode cX2_onBoard 38 = .ok (.iload_n 2, 1) := dk_28 (dk_at dksX2_onBoard_1 14 rfl rfl)
theorem dX2_onBoard_39 : decode cX2_onBoard 39 = .ok (.iaload, 1) := dk_46 (dk_at dksX2_onBoard_1 15 rfl rfl)
theorem dX2_onBoard_40 : decode cX2_onBoard 40 = .ok (.imul, 1) := dk_104 (dk_at dksX2_onBoard_1 16 rfl rfl)
theorem dX2_onBoard_41 : decode cX2_onBoard 41 = .ok (.iload_n 1, 1) := dk_27 (dk_at dksX2_onBoard_1 17 rfl rfl)
theorem dX2_onBoard_42 : decode cX2_onBoard 42 = .ok (.iadd, 1) := dk_96 (dk_at dksX2_onBoard_1 18 rfl rfl)
theorem dX2_onBoard_43 : decode cX2_onBoard 43 = .ok (.baload, 1) := dk_51 (dk_at dksX2_onBoard_1 19 rfl rfl)
theorem dX2_onBoard_44 : decode cX2_onBoard 44 = .ok (.ifCond .eq 15, 3) := dk_153 0 15 (dk_at dksX2_onBoard_1 20 rfl rfl)
theorem dX2_onBoard_47 : decode cX2_onBoard 47 = .ok (.iload_n 3, 1) := dk_29 (dk_at dksX2_onBoard_1 23 rfl rfl)
theorem dX2_onBoard_48 : decode cX2_onBoard 48 = .ok (.aload_n 0, 1) := dk_42 (dk_at dksX2_onBoard_2 0 rfl rfl)
theorem dX2_onBoard_49 : decode cX2_onBoard 49 = .ok (.getfield 30, 3) := dk_180 0 30 (dk_at dksX2_onBoard_2 1 rfl rfl)
theorem dX2_onBoard_52 : decode cX2_onBoard 52 = .ok (.iload_n 2, 1) := dk_28 (dk_at dksX2_onBoard_2 4 rfl rfl)
theorem dX2_onBoard_53 : decode cX2_onBoard 53 = .ok (.iaload, 1) := dk_46 (dk_at dksX2_onBoard_2 5 rfl rfl)
theorem dX2_onBoard_54 : decode cX2_onBoard 54 = .ok (.iconst 1, 1) := dk_4 (dk_at dksX2_onBoard_2 6 rfl rfl)
theorem dX2_onBoard_55 : decode cX2_onBoard 55 = .ok (.isub, 1) := dk_100 (dk_at dksX2_onBoard_2 7 rfl rfl)
theorem dX2_onBoard_56 : decode cX2_onBoard 56 = .ok (.if_icmp .ne 7, 3) := dk_160 0 7 (dk_at dksX2_onBoard_2 8 rfl rfl)
theorem dX2_onBoard_59 : decode cX2_onBoard 59 = .ok (.iconst 1, 1) := dk_4 (dk_at dksX2_onBoard_2 11 rfl rfl)
theorem dX2_onBoard_60 : decode cX2_onBoard 60 = .ok (.goto 4, 3) := dk_167 0 4 (dk_at dksX2_onBoard_2 12 rfl rfl)
theorem dX2_onBoard_63 : decode cX2_onBoard 63 = .ok (.iconst 0, 1) := dk_3 (dk_at dksX2_onBoard_2 15 rfl rfl)
theorem dX2_onBoard_64 : decode cX2_onBoard 64 = .ok (.iconst 3, 1) := dk_6 (dk_at dksX2_onBoard_2 16 rfl rfl)
theorem dX2_onBoard_65 : decode cX2_onBoard 65 = .ok (.invokevirtual 130, 3) := dk_182 0 130 (dk_at dksX2_onBoard_2 17 rfl rfl)
theorem dX2_onBoard_68 : decode cX2_onBoard 68 = .ok (.ifCond .eq 5, 3) := dk_153 0 5 (dk_at dksX2_onBoard_2 20 rfl rfl)
theorem dX2_onBoard_71 : decode cX2_onBoard 71 = .ok (.iconst 0, 1) := dk_3 (dk_at dksX2_onBoard_2 23 rfl rfl)
theorem dX2_onBoard_72 : decode cX2_onBoard 72 = .ok (.ireturn, 1) := dk_172 (dk_at dksX2_onBoard_3 0 rfl rfl)
theorem dX2_onBoard_73 : decode cX2_onBoard 73 = .ok (.aload_n 0, 1) := dk_42 (dk_at dksX2_onBoard_3 1 rfl rfl)
theorem dX2_onBoard_74 : decode cX2_onBoard 74 = .ok (.iload_n 1, 1) := dk_27 (dk_at dksX2_onBoard_3 2 rfl rfl)
theorem dX2_onBoard_75 : decode cX2_onBoard 75 = .ok (.putfield 198, 3) := dk_181 0 198 (dk_at dksX2_onBoard_3 3 rfl rfl)
theorem dX2_onBoard_78 : decode cX2_onBoard 78 = .ok (.aload_n 0, 1) := dk_42 (dk_at dksX2_onBoard_3 6 rfl rfl)
theorem dX2_onBoard_79 : decode cX2_onBoard 79 = .ok (.invokevirtual 201, 3) := dk_182 0 201 (dk_at dksX2_onBoard_3 7 rfl rfl)
theorem dX2_onBoard_82 : decode cX2_onBoard 82 = .ok (.iload_n 3, 1) := dk_29 (dk_at dksX2_onBoard_3 10 rfl rfl)
theorem dX2_onBoard_83 : decode cX2_onBoard 83 = .ok (.iconst 1, 1) := dk_4 (dk_at dksX2_onBoard_3 11 rfl rfl)
theorem dX2_onBoard_84 : decode cX2_onBoard 84 = .ok (.iadd, 1) := dk_96 (dk_at dksX2_onBoard_3 12 rfl rfl)
theorem dX2_onBoard_85 : decode cX2_onBoard 85 = .ok (.istore 5, 2) := dk_54 5 (dk_at dksX2_onBoard_3 13 rfl rfl)
theorem dX2_onBoard_87 : decode cX2_onBoard 87 = .ok (.iload 5, 2) := dk_21 5 (dk_at dksX2_onBoard_3 15 rfl rfl)
theorem dX2_onBoard_89 : decode cX2_onBoard 89 = .ok (.aload_n 0, 1) := dk_42 (dk_at dksX2_onBoard_3 17 rfl rfl)
theorem dX2_onBoard_90 : decode cX2_onBoard 90 = .ok (.getfield 30, 3) := dk_180 0 30 (dk_at dksX2_onBoard_3 18 rfl rfl)
theorem dX2_onBoard_93 : decode cX2_onBoard 93 = .ok (.iload_n 2, 1) := dk_28 (dk_at dksX2_onBoard_3 21 rfl rfl)
theorem dX2_onBoard_94 : decode cX2_onBoard 94 = .ok (.iaload, 1) := dk_46 (dk_at dksX2_onBoard_3 22 rfl rfl)
theorem dX2_onBoard_95 : decode cX2_onBoard 95 = .ok (.if_icmp .ge 33, 3) := dk_162 0 33 (dk_at dksX2_onBoard_4 0 rfl rfl)
theorem dX2_onBoard_98 : decode cX2_onBoard 98 = .ok (.aload_n 0, 1) := dk_42 (dk_at dksX2_onBoard_4 3 rfl rfl)
theorem dX2_onBoard_99 : decode cX2_onBoard 99 = .ok (.aload_n 0, 1) := dk_42 (dk_at dksX2_onBoard_4 4 rfl rfl)
theorem dX2_onBoard_100 : decode cX2_onBoard 100 = .ok (.bipush 24, 2) := dk_16 24 (dk_at dksX2_onBoard_4 5 rfl rfl)
theorem dX2_onBoard_102 : decode cX2_onBoard 102 = .ok (.iload_n 2, 1) := dk_28 (dk_at dksX2_onBoard_4 7 rfl rfl)
theorem dX2_onBoard_103 : decode cX2_onBoard 103 = .ok (.iadd, 1) := dk_96 (dk_at dksX2_onBoard_4 8 rfl rfl)
theorem dX2_onBoard_104 : decode cX2_onBoard 104 = .ok (.iload 5, 2) := dk_21 5 (dk_at dksX2_onBoard_4 9 rfl rfl)
theorem dX2_onBoard_106 : decode cX2_onBoard 106 = .ok (.invokevirtual 214, 3) := dk_182 0 214 (dk_at dksX2_onBoard_4 11 rfl rfl)
theorem dX2_onBoard_109 : decode cX2_onBoard 109 = .ok (.aload_n 0, 1) := dk_42 (dk_at dksX2_onBoard_4 14 rfl rfl)
theorem dX2_onBoard_110 : decode cX2_onBoard 110 = .ok (.bipush 24, 2) := dk_16 24 (dk_at dksX2_onBoard_4 15 rfl rfl)
theorem dX2_onBoard_112 : decode cX2_onBoard 112 = .ok (.iload_n 2, 1) := dk_28 (dk_at dksX2_onBoard_4 17 rfl rfl)
theorem dX2_onBoard_113 : decode cX2_onBoard 113 = .ok (.iadd, 1) := dk_96 (dk_at dksX2_onBoard_4 18 rfl rfl)
theorem dX2_onBoard_114 : decode cX2_onBoard 114 = .ok (.iload 5, 2) := dk_21 5 (dk_at dksX2_onBoard_4 19 rfl rfl)
theorem dX2_onBoard_116 : decode cX2_onBoard 116 = .ok (.invokevirtual 217, 3) := dk_182 0 217 (dk_at dksX2_onBoard_4 21 rfl rfl)
theorem dX2_onBoard_119 : decode cX2_onBoard 119 = .ok (.invokevirtual 220, 3) := dk_182 0 220 (dk_at dksX2_onBoard_5 0 rfl rfl)
theorem dX2_onBoard_122 : decode cX2_onBoard 122 = .ok (.iinc 5 1, 3) := dk_132 5 1 (dk_at dksX2_onBoard_5 3 rfl rfl)
theorem dX2_onBoard_125 : decode cX2_onBoard 125 = .ok (.goto (-38), 3) := dk_167 255 218 (dk_at dksX2_onBoard_5 6 rfl rfl)
theorem dX2_onBoard_128 : decode cX2_onBoard 128 = .ok (.aload_n 0, 1) := dk_42 (dk_at dksX2_onBoard_5 9 rfl rfl)
theorem dX2_onBoard_129 : decode cX2_onBoard 129 = .ok (.invokevirtual 232, 3) := dk_182 0 232 (dk_at dksX2_onBoard_5 10 rfl rfl)
theorem dX2_onBoard_132 : decode cX2_onBoard 132 = .ok (.aload_n 0, 1) := dk_42 (dk_at dksX2_onBoard_5 13 rfl rfl)
theorem dX2_onBoard_133 : decode cX2_onBoard 133 = .ok (.aload_n 0, 1) := dk_42 (dk_at dksX2_onBoard_5 14 rfl rfl)
theorem dX2_onBoard_134 : decode cX2_onBoard 134 = .ok (.iload 4, 2) := dk_21 4 (dk_at dksX2_onBoard_5 15 rfl rfl)
theorem dX2_onBoard_136 : decode cX2_onBoard 136 = .ok (.invokevirtual 235, 3) := dk_182 0 235 (dk_at dksX2_onBoard_5 17 rfl rfl)
theorem dX2_onBoard_139 : decode cX2_onBoard 139 = .ok (.ldc 150, 2) := dk_18 150 (dk_at dksX2_onBoard_5 20 rfl rfl)
theorem dX2_onBoard_141 : decode cX2_onBoard 141 = .ok (.if_icmp .lt 7, 3) := dk_161 0 7 (dk_at dksX2_onBoard_6 0 rfl rfl)
theorem dX2_onBoard_144 : decode cX2_onBoard 144 = .ok (.iconst 1, 1) := dk_4 (dk_at dksX2_onBoard_6 3 rfl rfl)
theorem dX2_onBoard_145 : decode cX2_onBoard 145 = .ok (.goto 4, 3) := dk_167 0 4 (dk_at dksX2_onBoard_6 4 rfl rfl)
theorem dX2_onBoard_148 : decode cX2_onBoard 148 = .ok (.iconst 0, 1) := dk_3 (dk_at dksX2_onBoard_6 7 rfl rfl)
theorem dX2_onBoard_149 : decode cX2_onBoard 149 = .ok (.iconst 4, 1) := dk_7 (dk_at dksX2_onBoard_6 8 rfl rfl)
theorem dX2_onBoard_150 : decode cX2_onBoard 150 = .ok (.invokevirtual 130, 3) := dk_182 0 130 (dk_at dksX2_onBoard_6 9 rfl rfl)
theorem dX2_onBoard_153 : decode cX2_onBoard 153 = .ok (.ifCond .eq 7, 3) := dk_153 0 7 (dk_at dksX2_onBoard_6 12 rfl rfl)
theorem dX2_onBoard_156 : decode cX2_onBoard 156 = .ok (.iconst 0, 1) := dk_3 (dk_at dksX2_onBoard_6 15 rfl rfl)
theorem dX2_onBoard_157 : decode cX2_onBoard 157 = .ok (.goto 9, 3) := dk_167 0 9 (dk_at dksX2_onBoard_6 16 rfl rfl)
theorem dX2_onBoard_160 : decode cX2_onBoard 160 = .ok (.aload_n 0, 1) := dk_42 (dk_at dksX2_onBoard_6 19 rfl rfl)
theorem dX2_onBoard_161 : decode cX2_onBoard 161 = .ok (.iload 4, 2) := dk_21 4 (dk_at dksX2_onBoard_6 20 rfl rfl)
theorem dX2_onBoard_163 : decode cX2_onBoard 163 = .ok (.invokevirtual 235, 3) := dk_182 0 235 (dk_at dksX2_onBoard_7 0 rfl rfl)
theorem dX2_onBoard_166 : decode cX2_onBoard 166 = .ok (.ireturn, 1) := dk_172 (dk_at dksX2_onBoard_7 3 rfl rfl)
abbrev cX2_choices : ByteArray := prog_15_method_69_code
def yX2_choices : MethodName := ⟨RX2, "choices", "(IIII)I"⟩
def dkwX2_choices_1 : List UInt8 := [2, 182, 1, 16, 172]
abbrev dktX2_choices_1 : List UInt8 := dkwX2_choices_1 ++ []
def dkwX2_choices_0 : List UInt8 := [42, 27, 28, 29, 21, 4, 182, 0, 239, 153, 0, 5, 3, 172, 42, 27, 29, 21, 4, 182, 1, 12, 42, 28]
abbrev dktX2_choices_0 : List UInt8 := dkwX2_choices_0 ++ dktX2_choices_1
theorem dksX2_choices_0 : cX2_choices.data.toList.drop 0 = dktX2_choices_0 := by decide +kernel
theorem dksX2_choices_1 : cX2_choices.data.toList.drop 24 = dktX2_choices_1 := dk_seg dksX2_choices_0 24 rfl rfl
theorem dX2_choices_0 : decode cX2_choices 0 = .ok (.aload_n 0, 1) := dk_42 (dk_at dksX2_choices_0 0 rfl rfl)
theorem dX2_choices_1 : decode cX2_choices 1 = .ok (.iload_n 1, 1) := dk_27 (dk_at dksX2_choices_0 1 rfl rfl)
theorem dX2_choices_2 : decode cX2_choices 2 = .ok (.iload_n 2, 1) := dk_28 (dk_at dksX2_choices_0 2 rfl rfl)
theorem dX2_choices_3 : decode cX2_choices 3 = .ok (.iload_n 3, 1) := dk_29 (dk_at dksX2_choices_0 3 rfl rfl)
theorem dX2_choices_4 : decode cX2_choices 4 = .ok (.iload 4, 2) := dk_21 4 (dk_at dksX2_choices_0 4 rfl rfl)
theorem dX2_choices_6 : decode cX2_choices 6 = .ok (.invokevirtual 239, 3) := dk_182 0 239 (dk_at dksX2_choices_0 6 rfl rfl)
theorem dX2_choices_9 : decode cX2_choices 9 = .ok (.ifCond .eq 5, 3) := dk_153 0 5 (dk_at dksX2_choices_0 9 rfl rfl)
theorem dX2_choices_12 : decode cX2_choices 12 = .ok (.iconst 0, 1) := dk_3 (dk_at dksX2_choices_0 12 rfl rfl)
theorem dX2_choices_13 : decode cX2_choices 13 = .ok (.ireturn, 1) := dk_172 (dk_at dksX2_choices_0 13 rfl rfl)
theorem dX2_choices_14 : decode cX2_choices 14 = .ok (.aload_n 0, 1) := dk_42 (dk_at dksX2_choices_0 14 rfl rfl)
theorem dX2_choices_15 : decode cX2_choices 15 = .ok (.iload_n 1, 1) := dk_27 (dk_at dksX2_choices_0 15 rfl rfl)
theorem dX2_choices_16 : decode cX2_choices 16 = .ok (.iload_n 3, 1) := dk_29 (dk_at dksX2_choices_0 16 rfl rfl)
theorem dX2_choices_17 : decode cX2_choices 17 = .ok (.iload 4, 2) := dk_21 4 (dk_at dksX2_choices_0 17 rfl rfl)
theorem dX2_choices_19 : decode cX2_choices 19 = .ok (.invokevirtual 268, 3) := dk_182 1 12 (dk_at dksX2_choices_0 19 rfl rfl)
theorem dX2_choices_22 : decode cX2_choices 22 = .ok (.aload_n 0, 1) := dk_42 (dk_at dksX2_choices_0 22 rfl rfl)
theorem dX2_choices_23 : decode cX2_choices 23 = .ok (.iload_n 2, 1) := dk_28 (dk_at dksX2_choices_0 23 rfl rfl)
theorem dX2_choices_24 : decode cX2_choices 24 = .ok (.iconst (-1), 1) := dk_2 (dk_at dksX2_choices_1 0 rfl rfl)
theorem dX2_choices_25 : decode cX2_choices 25 = .ok (.invokevirtual 272, 3) := dk_182 1 16 (dk_at dksX2_choices_1 1 rfl rfl)
theorem dX2_choices_28 : decode cX2_choices 28 = .ok (.ireturn, 1) := dk_172 (dk_at dksX2_choices_1 4 rfl rfl)
abbrev cX2_tellRounds : ByteArray := prog_15_method_66_code
def yX2_tellRounds : MethodName := ⟨RX2, "tellRounds", "(III)V"⟩
def dkwX2_tellRounds_7 : List UInt8 := [167, 255, 144, 42, 182, 0, 253, 167, 255, 113, 177]
abbrev dktX2_tellRounds_7 : List UInt8 := dkwX2_tellRounds_7 ++ []
def dkwX2_tellRounds_6 : List UInt8 := [182, 1, 0, 153, 0, 7, 4, 167, 0, 4, 3, 54, 5, 132, 6, 1, 167, 255, 163, 132, 4, 1]
abbrev dktX2_tellRounds_6 : List UInt8 := dkwX2_tellRounds_6 ++ dktX2_tellRounds_7
def dkwX2_tellRounds_5 : List UInt8 := [42, 42, 180, 0, 250, 4, 100, 42, 21, 4, 21, 6, 182, 0, 214, 42, 21, 4, 21, 6, 182, 0, 223]
abbrev dktX2_tellRounds_5 : List UInt8 := dkwX2_tellRounds_5 ++ dktX2_tellRounds_6
def dkwX2_tellRounds_4 : List UInt8 := [42, 21, 4, 21, 6, 182, 0, 214, 42, 21, 4, 21, 6, 182, 0, 217, 182, 0, 220, 21, 5, 154, 0, 32]
abbrev dktX2_tellRounds_4 : List UInt8 := dkwX2_tellRounds_4 ++ dktX2_tellRounds_5
def dkwX2_tellRounds_3 : List UInt8 := [153, 0, 90, 21, 6, 42, 180, 0, 30, 21, 4, 16, 24, 112, 46, 162, 0, 75, 21, 5, 153, 0, 23, 42]
abbrev dktX2_tellRounds_3 : List UInt8 := dkwX2_tellRounds_3 ++ dktX2_tellRounds_4
def dkwX2_tellRounds_2 : List UInt8 := [3, 54, 4, 21, 4, 16, 72, 162, 0, 111, 3, 54, 5, 3, 54, 6, 42, 21, 4, 182, 0, 208]
abbrev dktX2_tellRounds_2 : List UInt8 := dkwX2_tellRounds_2 ++ dktX2_tellRounds_3
def dkwX2_tellRounds_1 : List UInt8 := [181, 0, 204, 42, 180, 0, 204, 153, 0, 142, 42, 180, 0, 250, 16, 74, 162, 0, 133, 42, 3, 181, 0, 204]
abbrev dktX2_tellRounds_1 : List UInt8 := dkwX2_tellRounds_1 ++ dktX2_tellRounds_2
def dkwX2_tellRounds_0 : List UInt8 := [42, 28, 181, 0, 198, 42, 27, 29, 182, 0, 229, 42, 3, 181, 0, 250, 42, 182, 0, 253, 42, 4]
abbrev dktX2_tellRounds_0 : List UInt8 := dkwX2_tellRounds_0 ++ dktX2_tellRounds_1
theorem dksX2_tellRounds_0 : cX2_tellRounds.data.toList.drop 0 = dktX2_tellRounds_0 := by decide +kernel
theorem dksX2_tellRounds_1 : cX2_tellRounds.data.toList.drop 22 = dktX2_tellRounds_1 := dk_seg dksX2_tellRounds_0 22 rfl rfl
theorem dksX2_tellRounds_2 : cX2_tellRounds.data.toList.drop 46 = dktX2_tellRounds_2 := dk_seg dksX2_tellRounds_1 24 rfl rfl
theorem dksX2_tellRounds_3 : cX2_tellRounds.data.toList.drop 68 = dktX2_tellRounds_3 := dk_seg dksX2_tellRounds_2 22 rfl rfl
theorem dksX2_tellRounds_4 : cX2_tellRounds.data.toList.drop 92 = dktX2_tellRounds_4 := dk_seg dksX2_tellRounds_3 24 rfl rfl
theorem dksX2_tellRounds_5 : cX2_tellRounds.data.toList.drop 116 = dktX2_tellRounds_5 := dk_seg dksX2_tellRounds_4 24 rfl rfl
theorem dksX2_tellRounds_6 : cX2_tellRounds.data.toList.drop 139 = dktX2_tellRounds_6 := dk_seg dksX2_tellRounds_5 23 rfl rfl
theorem dksX2_tellRounds_7 : cX2_tellRounds.data.toList.drop 161 = dktX2_tellRounds_7 := dk_seg dksX2_tellRounds_6 22 rfl rfl
theorem dX2_tellRounds_0 : decode cX2_tellRounds 0 = .ok (.aload_n 0, 1) := dk_42 (dk_at dksX2_tellRounds_0 0 rfl rfl)
theorem dX2_tellRounds_1 : decode cX2_tellRounds 1 = .ok (.iload_n 2, 1) := dk_28 (dk_at dksX2_tellRounds_0 1 rfl rfl)
theorem dX2_tellRounds_2 : decode cX2_tellRounds 2 = .ok (.putfield 198, 3) := dk_181 0 198 (dk_at dksX2_tellRounds_0 2 rfl rfl)
theorem dX2_tellRounds_5 : decode cX2_tellRounds 5 = .ok (.aload_n 0, 1) := dk_42 (dk_at dksX2_tellRounds_0 5 rfl rfl)
theorem dX2_tellRounds_6 : decode cX2_tellRounds 6 = .ok (.iload_n 1, 1) := dk_27 (dk_at dksX2_tellRounds_0 6 rfl rfl)
theorem dX2_tellRounds_7 : decode cX2_tellRounds 7 = .ok (.iload_n 3, 1) := dk_29 (dk_at dksX2_tellRounds_0 7 rfl rfl)
theorem dX2_tellRounds_8 : decode cX2_tellRounds 8 = .ok (.invokevirtual 229, 3) := dk_182 0 229 (dk_at dksX2_tellRounds_0 8 rfl rfl)
theorem dX2_tellRounds_11 : decode cX2_tellRounds 11 = .ok (.aload_n 0, 1) := dk_42 (dk_at dksX2_tellRounds_0 11 rfl rfl)
theorem dX2_tellRounds_12 : decode cX2_tellRounds 12 = .ok (.iconst 0, 1) := dk_3 (dk_at dksX2_tellRounds_0 12 rfl rfl)
theorem dX2_tellRounds_13 : decode cX2_tellRounds 13 = .ok (.putfield 250, 3) := dk_181 0 250 (dk_at dksX2_tellRounds_0 13 rfl rfl)
theorem dX2_tellRounds_16 : decode cX2_tellRounds 16 = .ok (.aload_n 0, 1) := dk_42 (dk_at dksX2_tellRounds_0 16 rfl rfl)
theorem dX2_tellRounds_17 : decode cX2_tellRounds 17 = .ok (.invokevirtual 253, 3) := dk_182 0 253 (dk_at dksX2_tellRounds_0 17 rfl rfl)
theorem dX2_tellRounds_20 : decode cX2_tellRounds 20 = .ok (.aload_n 0, 1) := dk_42 (dk_at dksX2_tellRounds_0 20 rfl rfl)
theorem dX2_tellRounds_21 : decode cX2_tellRounds 21 = .ok (.iconst 1, 1) := dk_4 (dk_at dksX2_tellRounds_0 21 rfl rfl)
theorem dX2_tellRounds_22 : decode cX2_tellRounds 22 = .ok (.putfield 204, 3) := dk_181 0 204 (dk_at dksX2_tellRounds_1 0 rfl rfl)
theorem dX2_tellRounds_25 : decode cX2_tellRounds 25 = .ok (.aload_n 0, 1) := dk_42 (dk_at dksX2_tellRounds_1 3 rfl rfl)
theorem dX2_tellRounds_26 : decode cX2_tellRounds 26 = .ok (.getfield 204, 3) := dk_180 0 204 (dk_at dksX2_tellRounds_1 4 rfl rfl)
theorem dX2_tellRounds_29 : decode cX2_tellRounds 29 = .ok (.ifCond .eq 142, 3) := dk_153 0 142 (dk_at dksX2_tellRounds_1 7 rfl rfl)
theorem dX2_tellRounds_32 : decode cX2_tellRounds 32 = .ok (.aload_n 0, 1) := dk_42 (dk_at dksX2_tellRounds_1 10 rfl rfl)
theorem dX2_tellRounds_33 : decode cX2_tellRounds 33 = .ok (.getfield 250, 3) := dk_180 0 250 (dk_at dksX2_tellRounds_1 11 rfl rfl)
theorem dX2_tellRounds_36 : decode cX2_tellRounds 36 = .ok (.bipush 74, 2) := dk_16 74 (dk_at dksX2_tellRounds_1 14 rfl rfl)
theorem dX2_tellRounds_38 : decode cX2_tellRounds 38 = .ok (.if_icmp .ge 133, 3) := dk_162 0 133 (dk_at dksX2_tellRounds_1 16 rfl rfl)
theorem dX2_tellRounds_41 : decode cX2_tellRounds 41 = .ok (.aload_n 0, 1) := dk_42 (dk_at dksX2_tellRounds_1 19 rfl rfl)
theorem dX2_tellRounds_42 : decode cX2_tellRounds 42 = .ok (.iconst 0, 1) := dk_3 (dk_at dksX2_tellRounds_1 20 rfl rfl)
theorem dX2_tellRounds_43 : decode cX2_tellRounds 43 = .ok (.putfield 204, 3) := dk_181 0 204 (dk_at dksX2_tellRounds_1 21 rfl rfl)
theorem dX2_tellRounds_46 : decode cX2_tellRounds 46 = .ok (.iconst 0, 1) := dk_3 (dk_at dksX2_tellRounds_2 0 rfl rfl)
theorem dX2_tellRounds_47 : decode cX2_tellRounds 47 = .ok (.istore 4, 2) := dk_54 4 (dk_at dksX2_tellRounds_2 1 rfl rfl)
theorem dX2_tellRounds_49 : decode cX2_tellRounds 49 = .ok (.iload 4, 2) := dk_21 4 (dk_at dksX2_tellRounds_2 3 rfl rfl)
theorem dX2_tellRounds_51 : decode cX2_tellRounds 51 = .ok (.bipush 72, 2) := dk_16 72 (dk_at dksX2_tellRounds_2 5 rfl rfl)
theorem dX2_tellRounds_53 : decode cX2_tellRounds 53 = .ok (.if_icmp .ge 111, 3) := dk_162 0 111 (dk_at dksX2_tellRounds_2 7 rfl rfl)
theorem dX2_tellRounds_56 : decode cX2_tellRounds 56 = .ok (.iconst 0, 1) := dk_3 (dk_at dksX2_tellRounds_2 10 rfl rfl)
theorem dX2_tellRounds_57 : decode cX2_tellRounds 57 = .ok (.istore 5, 2) := dk_54 5 (dk_at dksX2_tellRounds_2 11 rfl rfl)
theorem dX2_tellRounds_59 : decode cX2_tellRounds 59 = .ok (.iconst 0, 1) := dk_3 (dk_at dksX2_tellRounds_2 13 rfl rfl)
theorem dX2_tellRounds_60 : decode cX2_tellRounds 60 = .ok (.istore 6, 2) := dk_54 6 (dk_at dksX2_tellRounds_2 14 rfl rfl)
theorem dX2_tellRounds_62 : decode cX2_tellRounds 62 = .ok (.aload_n 0, 1) := dk_42 (dk_at dksX2_tellRounds_2 16 rfl rfl)
theorem dX2_tellRounds_63 : decode cX2_tellRounds 63 = .ok (.iload 4, 2) := dk_21 4 (dk_at dksX2_tellRounds_2 17 rfl rfl)
theorem dX2_tellRounds_65 : decode cX2_tellRounds 65 = .ok (.invokevirtual 208, 3) := dk_182 0 208 (dk_at dksX2_tellRounds_2 19 rfl rfl)
theorem dX2_tellRounds_68 : decode cX2_tellRounds 68 = .ok (.ifCond .eq 90, 3) := dk_153 0 90 (dk_at dksX2_tellRounds_3 0 rfl rfl)
theorem dX2_tellRounds_71 : decode cX2_tellRounds 71 = .ok (.iload 6, 2) := dk_21 6 (dk_at dksX2_tellRounds_3 3 rfl rfl)
theorem dX2_tellRounds_73 : decode cX2_tellRounds 73 = .ok (.aload_n 0, 1) := dk_42 (dk_at dksX2_tellRounds_3 5 rfl rfl)
theorem dX2_tellRounds_74 : decode cX2_tellRounds 74 = .ok (.getfield 30, 3) := dk_180 0 30 (dk_at dksX2_tellRounds_3 6 rfl rfl)
theorem dX2_tellRounds_77 : decode cX2_tellRounds 77 = .ok (.iload 4, 2) := dk_21 4 (dk_at dksX2_tellRounds_3 9 rfl rfl)
theorem dX2_tellRounds_79 : decode cX2_tellRounds 79 = .ok (.bipush 24, 2) := dk_16 24 (dk_at dksX2_tellRounds_3 11 rfl rfl)
theorem dX2_tellRounds_81 : decode cX2_tellRounds 81 = .ok (.irem, 1) := dk_112 (dk_at dksX2_tellRounds_3 13 rfl rfl)
theorem dX2_tellRounds_82 : decode cX2_tellRounds 82 = .ok (.iaload, 1) := dk_46 (dk_at dksX2_tellRounds_3 14 rfl rfl)
theorem dX2_tellRounds_83 : decode cX2_tellRounds 83 = .ok (.if_icmp .ge 75, 3) := dk_162 0 75 (dk_at dksX2_tellRounds_3 15 rfl rfl)
theorem dX2_tellRounds_86 : decode cX2_tellRounds 86 = .ok (.iload 5, 2) := dk_21 5 (dk_at dksX2_tellRounds_3 18 rfl rfl)
theorem dX2_tellRounds_88 : decode cX2_tellRounds 88 = .ok (.ifCond .eq 23, 3) := dk_153 0 23 (dk_at dksX2_tellRounds_3 20 rfl rfl)
theorem dX2_tellRounds_91 : decode cX2_tellRounds 91 = .ok (.aload_n 0, 1) := dk_42 (dk_at dksX2_tellRounds_3 23 rfl rfl)
theorem dX2_tellRounds_92 : decode cX2_tellRounds 92 = .ok (.aload_n 0, 1) := dk_42 (dk_at dksX2_tellRounds_4 0 rfl rfl)
theorem dX2_tellRounds_93 : decode cX2_tellRounds 93 = .ok (.iload 4, 2) := dk_21 4 (dk_at dksX2_tellRounds_4 1 rfl rfl)
theorem dX2_tellRounds_95 : decode cX2_tellRounds 95 = .ok (.iload 6, 2) := dk_21 6 (dk_at dksX2_tellRounds_4 3 rfl rfl)
theorem dX2_tellRounds_97 : decode cX2_tellRounds 97 = .ok (.invokevirtual 214, 3) := dk_182 0 214 (dk_at dksX2_tellRounds_4 5 rfl rfl)
theorem dX2_tellRounds_100 : decode cX2_tellRounds 100 = .ok (.aload_n 0, 1) := dk_42 (dk_at dksX2_tellRounds_4 8 rfl rfl)
theorem dX2_tellRounds_101 : decode cX2_tellRounds 101 = .ok (.iload 4, 2) := dk_21 4 (dk_at dksX2_tellRounds_4 9 rfl rfl)
theorem dX2_tellRounds_103 : decode cX2_tellRounds 103 = .ok (.iload 6, 2) := dk_21 6 (dk_at dksX2_tellRounds_4 11 rfl rfl)
theorem dX2_tellRounds_105 : decode cX2_tellRounds 105 = .ok (.invokevirtual 217, 3) := dk_182 0 217 (dk_at dksX2_tellRounds_4 13 rfl rfl)
theorem dX2_tellRounds_108 : decode cX2_tellRounds 108 = .ok (.invokevirtual 220, 3) := dk_182 0 220 (dk_at dksX2_tellRounds_4 16 rfl rfl)
theorem dX2_tellRounds_111 : decode cX2_tellRounds 111 = .ok (.iload 5, 2) := dk_21 5 (dk_at dksX2_tellRounds_4 19 rfl rfl)
theorem dX2_tellRounds_113 : decode cX2_tellRounds 113 = .ok (.ifCond .ne 32, 3) := dk_154 0 32 (dk_at dksX2_tellRounds_4 21 rfl rfl)
theorem dX2_tellRounds_116 : decode cX2_tellRounds 116 = .ok (.aload_n 0, 1) := dk_42 (dk_at dksX2_tellRounds_5 0 rfl rfl)
theorem dX2_tellRounds_117 : decode cX2_tellRounds 117 = .ok (.aload_n 0, 1) := dk_42 (dk_at dksX2_tellRounds_5 1 rfl rfl)
theorem dX2_tellRounds_118 : decode cX2_tellRounds 118 = .ok (.getfield 250, 3) := dk_180 0 250 (dk_at dksX2_tellRounds_5 2 rfl rfl)
theorem dX2_tellRounds_121 : decode cX2_tellRounds 121 = .ok (.iconst 1, 1) := dk_4 (dk_at dksX2_tellRounds_5 5 rfl rfl)
theorem dX2_tellRounds_122 : decode cX2_tellRounds 122 = .ok (.isub, 1) := dk_100 (dk_at dksX2_tellRounds_5 6 rfl rfl)
theorem dX2_tellRounds_123 : decode cX2_tellRounds 123 = .ok (.aload_n 0, 1) := dk_42 (dk_at dksX2_tellRounds_5 7 rfl rfl)
theorem dX2_tellRounds_124 : decode cX2_tellRounds 124 = .ok (.iload 4, 2) := dk_21 4 (dk_at dksX2_tellRounds_5 8 rfl rfl)
theorem dX2_tellRounds_126 : decode cX2_tellRounds 126 = .ok (.iload 6, 2) := dk_21 6 (dk_at dksX2_tellRounds_5 10 rfl rfl)
theorem dX2_tellRounds_128 : decode cX2_tellRounds 128 = .ok (.invokevirtual 214, 3) := dk_182 0 214 (dk_at dksX2_tellRounds_5 12 rfl rfl)
theorem dX2_tellRounds_131 : decode cX2_tellRounds 131 = .ok (.aload_n 0, 1) := dk_42 (dk_at dksX2_tellRounds_5 15 rfl rfl)
theorem dX2_tellRounds_132 : decode cX2_tellRounds 132 = .ok (.iload 4, 2) := dk_21 4 (dk_at dksX2_tellRounds_5 16 rfl rfl)
theorem dX2_tellRounds_134 : decode cX2_tellRounds 134 = .ok (.iload 6, 2) := dk_21 6 (dk_at dksX2_tellRounds_5 18 rfl rfl)
theorem dX2_tellRounds_136 : decode cX2_tellRounds 136 = .ok (.invokevirtual 223, 3) := dk_182 0 223 (dk_at dksX2_tellRounds_5 20 rfl rfl)
theorem dX2_tellRounds_139 : decode cX2_tellRounds 139 = .ok (.invokevirtual 256, 3) := dk_182 1 0 (dk_at dksX2_tellRounds_6 0 rfl rfl)
theorem dX2_tellRounds_142 : decode cX2_tellRounds 142 = .ok (.ifCond .eq 7, 3) := dk_153 0 7 (dk_at dksX2_tellRounds_6 3 rfl rfl)
theorem dX2_tellRounds_145 : decode cX2_tellRounds 145 = .ok (.iconst 1, 1) := dk_4 (dk_at dksX2_tellRounds_6 6 rfl rfl)
theorem dX2_tellRounds_146 : decode cX2_tellRounds 146 = .ok (.goto 4, 3) := dk_167 0 4 (dk_at dksX2_tellRounds_6 7 rfl rfl)
theorem dX2_tellRounds_149 : decode cX2_tellRounds 149 = .ok (.iconst 0, 1) := dk_3 (dk_at dksX2_tellRounds_6 10 rfl rfl)
theorem dX2_tellRounds_150 : decode cX2_tellRounds 150 = .ok (.istore 5, 2) := dk_54 5 (dk_at dksX2_tellRounds_6 11 rfl rfl)
theorem dX2_tellRounds_152 : decode cX2_tellRounds 152 = .ok (.iinc 6 1, 3) := dk_132 6 1 (dk_at dksX2_tellRounds_6 13 rfl rfl)
theorem dX2_tellRounds_155 : decode cX2_tellRounds 155 = .ok (.goto (-93), 3) := dk_167 255 163 (dk_at dksX2_tellRounds_6 16 rfl rfl)
theorem dX2_tellRounds_158 : decode cX2_tellRounds 158 = .ok (.iinc 4 1, 3) := dk_132 4 1 (dk_at dksX2_tellRounds_6 19 rfl rfl)
theorem dX2_tellRounds_161 : decode cX2_tellRounds 161 = .ok (.goto (-112), 3) := dk_167 255 144 (dk_at dksX2_tellRounds_7 0 rfl rfl)
theorem dX2_tellRounds_164 : decode cX2_tellRounds 164 = .ok (.aload_n 0, 1) := dk_42 (dk_at dksX2_tellRounds_7 3 rfl rfl)
theorem dX2_tellRounds_165 : decode cX2_tellRounds 165 = .ok (.invokevirtual 253, 3) := dk_182 0 253 (dk_at dksX2_tellRounds_7 4 rfl rfl)
theorem dX2_tellRounds_168 : decode cX2_tellRounds 168 = .ok (.goto (-143), 3) := dk_167 255 113 (dk_at dksX2_tellRounds_7 7 rfl rfl)
theorem dX2_tellRounds_171 : decode cX2_tellRounds 171 = .ok (.return_, 1) := dk_177 (dk_at dksX2_tellRounds_7 10 rfl rfl)
abbrev cX2_keepRound : ByteArray := prog_15_method_64_code
def yX2_keepRound : MethodName := ⟨RX2, "keepRound", "()V"⟩
def dkwX2_keepRound_2 : List UInt8 := [46, 79, 132, 1, 1, 167, 255, 207, 42, 89, 180, 0, 250, 4, 96, 181, 0, 250, 177]
abbrev dktX2_keepRound_2 : List UInt8 := dkwX2_keepRound_2 ++ []
def dkwX2_keepRound_1 : List UInt8 := [180, 0, 60, 27, 46, 79, 42, 180, 0, 69, 16, 12, 42, 180, 0, 250, 104, 27, 96, 42, 180, 0, 63, 27]
abbrev dktX2_keepRound_1 : List UInt8 := dkwX2_keepRound_1 ++ dktX2_keepRound_2
def dkwX2_keepRound_0 : List UInt8 := [3, 60, 27, 16, 12, 162, 0, 49, 42, 180, 0, 66, 16, 12, 42, 180, 0, 250, 104, 27, 96, 42]
abbrev dktX2_keepRound_0 : List UInt8 := dkwX2_keepRound_0 ++ dktX2_keepRound_1
theorem dksX2_keepRound_0 : cX2_keepRound.data.toList.drop 0 = dktX2_keepRound_0 := by decide +kernel
theorem dksX2_keepRound_1 : cX2_keepRound.data.toList.drop 22 = dktX2_keepRound_1 := dk_seg dksX2_keepRound_0 22 rfl rfl
theorem dksX2_keepRound_2 : cX2_keepRound.data.toList.drop 46 = dktX2_keepRound_2 := dk_seg dksX2_keepRound_1 24 rfl rfl
theorem dX2_keepRound_0 : decode cX2_keepRound 0 = .ok (.iconst 0, 1) := dk_3 (dk_at dksX2_keepRound_0 0 rfl rfl)
theorem dX2_keepRound_1 : decode cX2_keepRound 1 = .ok (.istore_n 1, 1) := dk_60 (dk_at dksX2_keepRound_0 1 rfl rfl)
theorem dX2_keepRound_2 : decode cX2_keepRound 2 = .ok (.iload_n 1, 1) := dk_27 (dk_at dksX2_keepRound_0 2 rfl rfl)
theorem dX2_keepRound_3 : decode cX2_keepRound 3 = .ok (.bipush 12, 2) := dk_16 12 (dk_at dksX2_keepRound_0 3 rfl rfl)
theorem dX2_keepRound_5 : decode cX2_keepRound 5 = .ok (.if_icmp .ge 49, 3) := dk_162 0 49 (dk_at dksX2_keepRound_0 5 rfl rfl)
theorem dX2_keepRound_8 : decode cX2_keepRound 8 = .ok (.aload_n 0, 1) := dk_42 (dk_at dksX2_keepRound_0 8 rfl rfl)
theorem dX2_keepRound_9 : decode cX2_keepRound 9 = .ok (.getfield 66, 3) := dk_180 0 66 (dk_at dksX2_keepRound_0 9 rfl rfl)
theorem dX2_keepRound_12 : decode cX2_keepRound 12 = .ok (.bipush 12, 2) := dk_16 12 (dk_at dksX2_keepRound_0 12 rfl rfl)
theorem dX2_keepRound_14 : decode cX2_keepRound 14 = .ok (.aload_n 0, 1) := dk_42 (dk_at dksX2_keepRound_0 14 rfl rfl)
theorem dX2_keepRound_15 : decode cX2_keepRound 15 = .ok (.getfield 250, 3) := dk_180 0 250 (dk_at dksX2_keepRound_0 15 rfl rfl)
theorem dX2_keepRound_18 : decode cX2_keepRound 18 = .ok (.imul, 1) := dk_104 (dk_at dksX2_keepRound_0 18 rfl rfl)
theorem dX2_keepRound_19 : decode cX2_keepRound 19 = .ok (.iload_n 1, 1) := dk_27 (dk_at dksX2_keepRound_0 19 rfl rfl)
theorem dX2_keepRound_20 : decode cX2_keepRound 20 = .ok (.iadd, 1) := dk_96 (dk_at dksX2_keepRound_0 20 rfl rfl)
theorem dX2_keepRound_21 : decode cX2_keepRound 21 = .ok (.aload_n 0, 1) := dk_42 (dk_at dksX2_keepRound_0 21 rfl rfl)
theorem dX2_keepRound_22 : decode cX2_keepRound 22 = .ok (.getfield 60, 3) := dk_180 0 60 (dk_at dksX2_keepRound_1 0 rfl rfl)
theorem dX2_keepRound_25 : decode cX2_keepRound 25 = .ok (.iload_n 1, 1) := dk_27 (dk_at dksX2_keepRound_1 3 rfl rfl)
theorem dX2_keepRound_26 : decode cX2_keepRound 26 = .ok (.iaload, 1) := dk_46 (dk_at dksX2_keepRound_1 4 rfl rfl)
theorem dX2_keepRound_27 : decode cX2_keepRound 27 = .ok (.iastore, 1) := dk_79 (dk_at dksX2_keepRound_1 5 rfl rfl)
theorem dX2_keepRound_28 : decode cX2_keepRound 28 = .ok (.aload_n 0, 1) := dk_42 (dk_at dksX2_keepRound_1 6 rfl rfl)
theorem dX2_keepRound_29 : decode cX2_keepRound 29 = .ok (.getfield 69, 3) := dk_180 0 69 (dk_at dksX2_keepRound_1 7 rfl rfl)
theorem dX2_keepRound_32 : decode cX2_keepRound 32 = .ok (.bipush 12, 2) := dk_16 12 (dk_at dksX2_keepRound_1 10 rfl rfl)
theorem dX2_keepRound_34 : decode cX2_keepRound 34 = .ok (.aload_n 0, 1) := dk_42 (dk_at dksX2_keepRound_1 12 rfl rfl)
theorem dX2_keepRound_35 : decode cX2_keepRound 35 = .ok (.getfield 250, 3) := dk_180 0 250 (dk_at dksX2_keepRound_1 13 rfl rfl)
theorem dX2_keepRound_38 : decode cX2_keepRound 38 = .ok (.imul, 1) := dk_104 (dk_at dksX2_keepRound_1 16 rfl rfl)
theorem dX2_keepRound_39 : decode cX2_keepRound 39 = .ok (.iload_n 1, 1) := dk_27 (dk_at dksX2_keepRound_1 17 rfl rfl)
theorem dX2_keepRound_40 : decode cX2_keepRound 40 = .ok (.iadd, 1) := dk_96 (dk_at dksX2_keepRound_1 18 rfl rfl)
theorem dX2_keepRound_41 : decode cX2_keepRound 41 = .ok (.aload_n 0, 1) := dk_42 (dk_at dksX2_keepRound_1 19 rfl rfl)
theorem dX2_keepRound_42 : decode cX2_keepRound 42 = .ok (.getfield 63, 3) := dk_180 0 63 (dk_at dksX2_keepRound_1 20 rfl rfl)
theorem dX2_keepRound_45 : decode cX2_keepRound 45 = .ok (.iload_n 1, 1) := dk_27 (dk_at dksX2_keepRound_1 23 rfl rfl)
theorem dX2_keepRound_46 : decode cX2_keepRound 46 = .ok (.iaload, 1) := dk_46 (dk_at dksX2_keepRound_2 0 rfl rfl)
theorem dX2_keepRound_47 : decode cX2_keepRound 47 = .ok (.iastore, 1) := dk_79 (dk_at dksX2_keepRound_2 1 rfl rfl)
theorem dX2_keepRound_48 : decode cX2_keepRound 48 = .ok (.iinc 1 1, 3) := dk_132 1 1 (dk_at dksX2_keepRound_2 2 rfl rfl)
theorem dX2_keepRound_51 : decode cX2_keepRound 51 = .ok (.goto (-49), 3) := dk_167 255 207 (dk_at dksX2_keepRound_2 5 rfl rfl)
theorem dX2_keepRound_54 : decode cX2_keepRound 54 = .ok (.aload_n 0, 1) := dk_42 (dk_at dksX2_keepRound_2 8 rfl rfl)
theorem dX2_keepRound_55 : decode cX2_keepRound 55 = .ok (.dup, 1) := dk_89 (dk_at dksX2_keepRound_2 9 rfl rfl)
theorem dX2_keepRound_56 : decode cX2_keepRound 56 = .ok (.getfield 250, 3) := dk_180 0 250 (dk_at dksX2_keepRound_2 10 rfl rfl)
theorem dX2_keepRound_59 : decode cX2_keepRound 59 = .ok (.iconst 1, 1) := dk_4 (dk_at dksX2_keepRound_2 13 rfl rfl)
theorem dX2_keepRound_60 : decode cX2_keepRound 60 = .ok (.iadd, 1) := dk_96 (dk_at dksX2_keepRound_2 14 rfl rfl)
theorem dX2_keepRound_61 : decode cX2_keepRound 61 = .ok (.putfield 250, 3) := dk_181 0 250 (dk_at dksX2_keepRound_2 15 rfl rfl)
theorem dX2_keepRound_64 : decode cX2_keepRound 64 = .ok (.return_, 1) := dk_177 (dk_at dksX2_keepRound_2 18 rfl rfl)
abbrev cX2_getsOnBy : ByteArray := prog_15_method_65_code
def yX2_getsOnBy : MethodName := ⟨RX2, "getsOnBy", "(III)Z"⟩
def dkwX2_getsOnBy_1 : List UInt8 := [16, 12, 27, 104, 28, 96, 46, 42, 180, 0, 9, 28, 46, 96, 29, 163, 0, 7, 4, 167, 0, 4, 3, 172]
abbrev dktX2_getsOnBy_1 : List UInt8 := dkwX2_getsOnBy_1 ++ []
def dkwX2_getsOnBy_0 : List UInt8 := [29, 155, 0, 44, 42, 180, 0, 66, 16, 12, 27, 104, 28, 96, 46, 29, 164, 0, 25, 42, 180, 0, 69]
abbrev dktX2_getsOnBy_0 : List UInt8 := dkwX2_getsOnBy_0 ++ dktX2_getsOnBy_1
theorem dksX2_getsOnBy_0 : cX2_getsOnBy.data.toList.drop 0 = dktX2_getsOnBy_0 := by decide +kernel
theorem dksX2_getsOnBy_1 : cX2_getsOnBy.data.toList.drop 23 = dktX2_getsOnBy_1 := dk_seg dksX2_getsOnBy_0 23 rfl rfl
theorem dX2_getsOnBy_0 : decode cX2_getsOnBy 0 = .ok (.iload_n 3, 1) := dk_29 (dk_at dksX2_getsOnBy_0 0 rfl rfl)
theorem dX2_getsOnBy_1 : decode cX2_getsOnBy 1 = .ok (.ifCond .lt 44, 3) := dk_155 0 44 (dk_at dksX2_getsOnBy_0 1 rfl rfl)
theorem dX2_getsOnBy_4 : decode cX2_getsOnBy 4 = .ok (.aload_n 0, 1) := dk_42 (dk_at dksX2_getsOnBy_0 4 rfl rfl)
theorem dX2_getsOnBy_5 : decode cX2_getsOnBy 5 = .ok (.getfield 66, 3) := dk_180 0 66 (dk_at dksX2_getsOnBy_0 5 rfl rfl)
theorem dX2_getsOnBy_8 : decode cX2_getsOnBy 8 = .ok (.bipush 12, 2) := dk_16 12 (dk_at dksX2_getsOnBy_0 8 rfl rfl)
theorem dX2_getsOnBy_10 : decode cX2_getsOnBy 10 = .ok (.iload_n 1, 1) := dk_27 (dk_at dksX2_getsOnBy_0 10 rfl rfl)
theorem dX2_getsOnBy_11 : decode cX2_getsOnBy 11 = .ok (.imul, 1) := dk_104 (dk_at dksX2_getsOnBy_0 11 rfl rfl)
theorem dX2_getsOnBy_12 : decode cX2_getsOnBy 12 = .ok (.iload_n 2, 1) := dk_28 (dk_at dksX2_getsOnBy_0 12 rfl rfl)
theorem dX2_getsOnBy_13 : decode cX2_getsOnBy 13 = .ok (.iadd, 1) := dk_96 (dk_at dksX2_getsOnBy_0 13 rfl rfl)
theorem dX2_getsOnBy_14 : decode cX2_getsOnBy 14 = .ok (.iaload, 1) := dk_46 (dk_at dksX2_getsOnBy_0 14 rfl rfl)
theorem dX2_getsOnBy_15 : decode cX2_getsOnBy 15 = .ok (.iload_n 3, 1) := dk_29 (dk_at dksX2_getsOnBy_0 15 rfl rfl)
theorem dX2_getsOnBy_16 : decode cX2_getsOnBy 16 = .ok (.if_icmp .le 25, 3) := dk_164 0 25 (dk_at dksX2_getsOnBy_0 16 rfl rfl)
theorem dX2_getsOnBy_19 : decode cX2_getsOnBy 19 = .ok (.aload_n 0, 1) := dk_42 (dk_at dksX2_getsOnBy_0 19 rfl rfl)
theorem dX2_getsOnBy_20 : decode cX2_getsOnBy 20 = .ok (.getfield 69, 3) := dk_180 0 69 (dk_at dksX2_getsOnBy_0 20 rfl rfl)
theorem dX2_getsOnBy_23 : decode cX2_getsOnBy 23 = .ok (.bipush 12, 2) := dk_16 12 (dk_at dksX2_getsOnBy_1 0 rfl rfl)
theorem dX2_getsOnBy_25 : decode cX2_getsOnBy 25 = .ok (.iload_n 1, 1) := dk_27 (dk_at dksX2_getsOnBy_1 2 rfl rfl)
theorem dX2_getsOnBy_26 : decode cX2_getsOnBy 26 = .ok (.imul, 1) := dk_104 (dk_at dksX2_getsOnBy_1 3 rfl rfl)
theorem dX2_getsOnBy_27 : decode cX2_getsOnBy 27 = .ok (.iload_n 2, 1) := dk_28 (dk_at dksX2_getsOnBy_1 4 rfl rfl)
theorem dX2_getsOnBy_28 : decode cX2_getsOnBy 28 = .ok (.iadd, 1) := dk_96 (dk_at dksX2_getsOnBy_1 5 rfl rfl)
theorem dX2_getsOnBy_29 : decode cX2_getsOnBy 29 = .ok (.iaload, 1) := dk_46 (dk_at dksX2_getsOnBy_1 6 rfl rfl)
theorem dX2_getsOnBy_30 : decode cX2_getsOnBy 30 = .ok (.aload_n 0, 1) := dk_42 (dk_at dksX2_getsOnBy_1 7 rfl rfl)
theorem dX2_getsOnBy_31 : decode cX2_getsOnBy 31 = .ok (.getfield 9, 3) := dk_180 0 9 (dk_at dksX2_getsOnBy_1 8 rfl rfl)
theorem dX2_getsOnBy_34 : decode cX2_getsOnBy 34 = .ok (.iload_n 2, 1) := dk_28 (dk_at dksX2_getsOnBy_1 11 rfl rfl)
theorem dX2_getsOnBy_35 : decode cX2_getsOnBy 35 = .ok (.iaload, 1) := dk_46 (dk_at dksX2_getsOnBy_1 12 rfl rfl)
theorem dX2_getsOnBy_36 : decode cX2_getsOnBy 36 = .ok (.iadd, 1) := dk_96 (dk_at dksX2_getsOnBy_1 13 rfl rfl)
theorem dX2_getsOnBy_37 : decode cX2_getsOnBy 37 = .ok (.iload_n 3, 1) := dk_29 (dk_at dksX2_getsOnBy_1 14 rfl rfl)
theorem dX2_getsOnBy_38 : decode cX2_getsOnBy 38 = .ok (.if_icmp .gt 7, 3) := dk_163 0 7 (dk_at dksX2_getsOnBy_1 15 rfl rfl)
theorem dX2_getsOnBy_41 : decode cX2_getsOnBy 41 = .ok (.iconst 1, 1) := dk_4 (dk_at dksX2_getsOnBy_1 18 rfl rfl)
theorem dX2_getsOnBy_42 : decode cX2_getsOnBy 42 = .ok (.goto 4, 3) := dk_167 0 4 (dk_at dksX2_getsOnBy_1 19 rfl rfl)
theorem dX2_getsOnBy_45 : decode cX2_getsOnBy 45 = .ok (.iconst 0, 1) := dk_3 (dk_at dksX2_getsOnBy_1 22 rfl rfl)
theorem dX2_getsOnBy_46 : decode cX2_getsOnBy 46 = .ok (.ireturn, 1) := dk_172 (dk_at dksX2_getsOnBy_1 23 rfl rfl)
abbrev cX2_choicesOf : ByteArray := prog_15_method_68_code
def yX2_choicesOf : MethodName := ⟨RX2, "choicesOf", "(II)I"⟩
def dkwX2_choicesOf_2 : List UInt8 := [21, 6, 181, 1, 9, 21, 6, 54, 4, 132, 3, 1, 132, 5, 1, 167, 255, 204, 29, 172]
abbrev dktX2_choicesOf_2 : List UInt8 := dkwX2_choicesOf_2 ++ []
def dkwX2_choicesOf_1 : List UInt8 := [182, 1, 3, 54, 6, 21, 6, 21, 4, 162, 0, 27, 29, 28, 160, 0, 15, 42, 21, 5, 181, 1, 6, 42]
abbrev dktX2_choicesOf_1 : List UInt8 := dkwX2_choicesOf_1 ++ dktX2_choicesOf_2
def dkwX2_choicesOf_0 : List UInt8 := [3, 62, 18, 150, 54, 4, 3, 54, 5, 21, 5, 42, 180, 0, 250, 162, 0, 49, 42, 21, 5, 27]
abbrev dktX2_choicesOf_0 : List UInt8 := dkwX2_choicesOf_0 ++ dktX2_choicesOf_1
theorem dksX2_choicesOf_0 : cX2_choicesOf.data.toList.drop 0 = dktX2_choicesOf_0 := by decide +kernel
theorem dksX2_choicesOf_1 : cX2_choicesOf.data.toList.drop 22 = dktX2_choicesOf_1 := dk_seg dksX2_choicesOf_0 22 rfl rfl
theorem dksX2_choicesOf_2 : cX2_choicesOf.data.toList.drop 46 = dktX2_choicesOf_2 := dk_seg dksX2_choicesOf_1 24 rfl rfl
theorem dX2_choicesOf_0 : decode cX2_choicesOf 0 = .ok (.iconst 0, 1) := dk_3 (dk_at dksX2_choicesOf_0 0 rfl rfl)
theorem dX2_choicesOf_1 : decode cX2_choicesOf 1 = .ok (.istore_n 3, 1) := dk_62 (dk_at dksX2_choicesOf_0 1 rfl rfl)
theorem dX2_choicesOf_2 : decode cX2_choicesOf 2 = .ok (.ldc 150, 2) := dk_18 150 (dk_at dksX2_choicesOf_0 2 rfl rfl)
theorem dX2_choicesOf_4 : decode cX2_choicesOf 4 = .ok (.istore 4, 2) := dk_54 4 (dk_at dksX2_choicesOf_0 4 rfl rfl)
theorem dX2_choicesOf_6 : decode cX2_choicesOf 6 = .ok (.iconst 0, 1) := dk_3 (dk_at dksX2_choicesOf_0 6 rfl rfl)
theorem dX2_choicesOf_7 : decode cX2_choicesOf 7 = .ok (.istore 5, 2) := dk_54 5 (dk_at dksX2_choicesOf_0 7 rfl rfl)
theorem dX2_choicesOf_9 : decode cX2_choicesOf 9 = .ok (.iload 5, 2) := dk_21 5 (dk_at dksX2_choicesOf_0 9 rfl rfl)
theorem dX2_choicesOf_11 : decode cX2_choicesOf 11 = .ok (.aload_n 0, 1) := dk_42 (dk_at dksX2_choicesOf_0 11 rfl rfl)
theorem dX2_choicesOf_12 : decode cX2_choicesOf 12 = .ok (.getfield 250, 3) := dk_180 0 250 (dk_at dksX2_choicesOf_0 12 rfl rfl)
theorem dX2_choicesOf_15 : decode cX2_choicesOf 15 = .ok (.if_icmp .ge 49, 3) := dk_162 0 49 (dk_at dksX2_choicesOf_0 15 rfl rfl)
theorem dX2_choicesOf_18 : decode cX2_choicesOf 18 = .ok (.aload_n 0, 1) := dk_42 (dk_at dksX2_choicesOf_0 18 rfl rfl)
theorem dX2_choicesOf_19 : decode cX2_choicesOf 19 = .ok (.iload 5, 2) := dk_21 5 (dk_at dksX2_choicesOf_0 19 rfl rfl)
theorem dX2_choicesOf_21 : decode cX2_choicesOf 21 = .ok (.iload_n 1, 1) := dk_27 (dk_at dksX2_choicesOf_0 21 rfl rfl)
theorem dX2_choicesOf_22 : decode cX2_choicesOf 22 = .ok (.invokevirtual 259, 3) := dk_182 1 3 (dk_at dksX2_choicesOf_1 0 rfl rfl)
theorem dX2_choicesOf_25 : decode cX2_choicesOf 25 = .ok (.istore 6, 2) := dk_54 6 (dk_at dksX2_choicesOf_1 3 rfl rfl)
theorem dX2_choicesOf_27 : decode cX2_choicesOf 27 = .ok (.iload 6, 2) := dk_21 6 (dk_at dksX2_choicesOf_1 5 rfl rfl)
theorem dX2_choicesOf_29 : decode cX2_choicesOf 29 = .ok (.iload 4, 2) := dk_21 4 (dk_at dksX2_choicesOf_1 7 rfl rfl)
theorem dX2_choicesOf_31 : decode cX2_choicesOf 31 = .ok (.if_icmp .ge 27, 3) := dk_162 0 27 (dk_at dksX2_choicesOf_1 9 rfl rfl)
theorem dX2_choicesOf_34 : decode cX2_choicesOf 34 = .ok (.iload_n 3, 1) := dk_29 (dk_at dksX2_choicesOf_1 12 rfl rfl)
theorem dX2_choicesOf_35 : decode cX2_choicesOf 35 = .ok (.iload_n 2, 1) := dk_28 (dk_at dksX2_choicesOf_1 13 rfl rfl)
theorem dX2_choicesOf_36 : decode cX2_choicesOf 36 = .ok (.if_icmp .ne 15, 3) := dk_160 0 15 (dk_at dksX2_choicesOf_1 14 rfl rfl)
theorem dX2_choicesOf_39 : decode cX2_choicesOf 39 = .ok (.aload_n 0, 1) := dk_42 (dk_at dksX2_choicesOf_1 17 rfl rfl)
theorem dX2_choicesOf_40 : decode cX2_choicesOf 40 = .ok (.iload 5, 2) := dk_21 5 (dk_at dksX2_choicesOf_1 18 rfl rfl)
theorem dX2_choicesOf_42 : decode cX2_choicesOf 42 = .ok (.putfield 262, 3) := dk_181 1 6 (dk_at dksX2_choicesOf_1 20 rfl rfl)
theorem dX2_choicesOf_45 : decode cX2_choicesOf 45 = .ok (.aload_n 0, 1) := dk_42 (dk_at dksX2_choicesOf_1 23 rfl rfl)
theorem dX2_choicesOf_46 : decode cX2_choicesOf 46 = .ok (.iload 6, 2) := dk_21 6 (dk_at dksX2_choicesOf_2 0 rfl rfl)
theorem dX2_choicesOf_48 : decode cX2_choicesOf 48 = .ok (.putfield 265, 3) := dk_181 1 9 (dk_at dksX2_choicesOf_2 2 rfl rfl)
theorem dX2_choicesOf_51 : decode cX2_choicesOf 51 = .ok (.iload 6, 2) := dk_21 6 (dk_at dksX2_choicesOf_2 5 rfl rfl)
theorem dX2_choicesOf_53 : decode cX2_choicesOf 53 = .ok (.istore 4, 2) := dk_54 4 (dk_at dksX2_choicesOf_2 7 rfl rfl)
theorem dX2_choicesOf_55 : decode cX2_choicesOf 55 = .ok (.iinc 3 1, 3) := dk_132 3 1 (dk_at dksX2_choicesOf_2 9 rfl rfl)
theorem dX2_choicesOf_58 : decode cX2_choicesOf 58 = .ok (.iinc 5 1, 3) := dk_132 5 1 (dk_at dksX2_choicesOf_2 12 rfl rfl)
theorem dX2_choicesOf_61 : decode cX2_choicesOf 61 = .ok (.goto (-52), 3) := dk_167 255 204 (dk_at dksX2_choicesOf_2 15 rfl rfl)
theorem dX2_choicesOf_64 : decode cX2_choicesOf 64 = .ok (.iload_n 3, 1) := dk_29 (dk_at dksX2_choicesOf_2 18 rfl rfl)
theorem dX2_choicesOf_65 : decode cX2_choicesOf 65 = .ok (.ireturn, 1) := dk_172 (dk_at dksX2_choicesOf_2 19 rfl rfl)
abbrev cX2_atBy : ByteArray := prog_15_method_67_code
def yX2_atBy : MethodName := ⟨RX2, "atBy", "(II)I"⟩
def dkwX2_atBy_1 : List UInt8 := [54, 4, 29, 21, 4, 162, 0, 7, 29, 167, 0, 5, 21, 4, 172]
abbrev dktX2_atBy_1 : List UInt8 := dkwX2_atBy_1 ++ []
def dkwX2_atBy_0 : List UInt8 := [42, 180, 0, 66, 16, 12, 27, 104, 28, 96, 46, 62, 42, 180, 0, 69, 16, 12, 27, 104, 28, 96, 46]
abbrev dktX2_atBy_0 : List UInt8 := dkwX2_atBy_0 ++ dktX2_atBy_1
theorem dksX2_atBy_0 : cX2_atBy.data.toList.drop 0 = dktX2_atBy_0 := by decide +kernel
theorem dksX2_atBy_1 : cX2_atBy.data.toList.drop 23 = dktX2_atBy_1 := dk_seg dksX2_atBy_0 23 rfl rfl
theorem dX2_atBy_0 : decode cX2_atBy 0 = .ok (.aload_n 0, 1) := dk_42 (dk_at dksX2_atBy_0 0 rfl rfl)
theorem dX2_atBy_1 : decode cX2_atBy 1 = .ok (.getfield 66, 3) := dk_180 0 66 (dk_at dksX2_atBy_0 1 rfl rfl)
theorem dX2_atBy_4 : decode cX2_atBy 4 = .ok (.bipush 12, 2) := dk_16 12 (dk_at dksX2_atBy_0 4 rfl rfl)
theorem dX2_atBy_6 : decode cX2_atBy 6 = .ok (.iload_n 1, 1) := dk_27 (dk_at dksX2_atBy_0 6 rfl rfl)
theorem dX2_atBy_7 : decode cX2_atBy 7 = .ok (.imul, 1) := dk_104 (dk_at dksX2_atBy_0 7 rfl rfl)
theorem dX2_atBy_8 : decode cX2_atBy 8 = .ok (.iload_n 2, 1) := dk_28 (dk_at dksX2_atBy_0 8 rfl rfl)
theorem dX2_atBy_9 : decode cX2_atBy 9 = .ok (.iadd, 1) := dk_96 (dk_at dksX2_atBy_0 9 rfl rfl)
theorem dX2_atBy_10 : decode cX2_atBy 10 = .ok (.iaload, 1) := dk_46 (dk_at dksX2_atBy_0 10 rfl rfl)
theorem dX2_atBy_11 : decode cX2_atBy 11 = .ok (.istore_n 3, 1) := dk_62 (dk_at dksX2_atBy_0 11 rfl rfl)
theorem dX2_atBy_12 : decode cX2_atBy 12 = .ok (.aload_n 0, 1) := dk_42 (dk_at dksX2_atBy_0 12 rfl rfl)
theorem dX2_atBy_13 : decode cX2_atBy 13 = .ok (.getfield 69, 3) := dk_180 0 69 (dk_at dksX2_atBy_0 13 rfl rfl)
theorem dX2_atBy_16 : decode cX2_atBy 16 = .ok (.bipush 12, 2) := dk_16 12 (dk_at dksX2_atBy_0 16 rfl rfl)
theorem dX2_atBy_18 : decode cX2_atBy 18 = .ok (.iload_n 1, 1) := dk_27 (dk_at dksX2_atBy_0 18 rfl rfl)
theorem dX2_atBy_19 : decode cX2_atBy 19 = .ok (.imul, 1) := dk_104 (dk_at dksX2_atBy_0 19 rfl rfl)
theorem dX2_atBy_20 : decode cX2_atBy 20 = .ok (.iload_n 2, 1) := dk_28 (dk_at dksX2_atBy_0 20 rfl rfl)
theorem dX2_atBy_21 : decode cX2_atBy 21 = .ok (.iadd, 1) := dk_96 (dk_at dksX2_atBy_0 21 rfl rfl)
theorem dX2_atBy_22 : decode cX2_atBy 22 = .ok (.iaload, 1) := dk_46 (dk_at dksX2_atBy_0 22 rfl rfl)
theorem dX2_atBy_23 : decode cX2_atBy 23 = .ok (.istore 4, 2) := dk_54 4 (dk_at dksX2_atBy_1 0 rfl rfl)
theorem dX2_atBy_25 : decode cX2_atBy 25 = .ok (.iload_n 3, 1) := dk_29 (dk_at dksX2_atBy_1 2 rfl rfl)
theorem dX2_atBy_26 : decode cX2_atBy 26 = .ok (.iload 4, 2) := dk_21 4 (dk_at dksX2_atBy_1 3 rfl rfl)
theorem dX2_atBy_28 : decode cX2_atBy 28 = .ok (.if_icmp .ge 7, 3) := dk_162 0 7 (dk_at dksX2_atBy_1 5 rfl rfl)
theorem dX2_atBy_31 : decode cX2_atBy 31 = .ok (.iload_n 3, 1) := dk_29 (dk_at dksX2_atBy_1 8 rfl rfl)
theorem dX2_atBy_32 : decode cX2_atBy 32 = .ok (.goto 5, 3) := dk_167 0 5 (dk_at dksX2_atBy_1 9 rfl rfl)
theorem dX2_atBy_35 : decode cX2_atBy 35 = .ok (.iload 4, 2) := dk_21 4 (dk_at dksX2_atBy_1 12 rfl rfl)
theorem dX2_atBy_37 : decode cX2_atBy 37 = .ok (.ireturn, 1) := dk_172 (dk_at dksX2_atBy_1 14 rfl rfl)
abbrev cX2_choice : ByteArray := prog_15_method_70_code
def yX2_choice : MethodName := ⟨RX2, "choice", "(IIIII)I"⟩
def dkwX2_choice_2 : List UInt8 := [182, 0, 130, 153, 0, 7, 3, 167, 0, 16, 17, 19, 136, 42, 180, 1, 6, 104, 42, 180, 1, 9, 96, 172]
abbrev dktX2_choice_2 : List UInt8 := dkwX2_choice_2 ++ []
def dkwX2_choice_1 : List UInt8 := [21, 5, 3, 42, 28, 21, 5, 182, 1, 16, 4, 100, 184, 0, 126, 154, 0, 7, 4, 167, 0, 4, 3, 6]
abbrev dktX2_choice_1 : List UInt8 := dkwX2_choice_1 ++ dktX2_choice_2
def dkwX2_choice_0 : List UInt8 := [42, 27, 28, 29, 21, 4, 182, 0, 239, 153, 0, 5, 3, 172, 42, 27, 29, 21, 4, 182, 1, 12, 42]
abbrev dktX2_choice_0 : List UInt8 := dkwX2_choice_0 ++ dktX2_choice_1
theorem dksX2_choice_0 : cX2_choice.data.toList.drop 0 = dktX2_choice_0 := by decide +kernel
theorem dksX2_choice_1 : cX2_choice.data.toList.drop 23 = dktX2_choice_1 := dk_seg dksX2_choice_0 23 rfl rfl
theorem dksX2_choice_2 : cX2_choice.data.toList.drop 47 = dktX2_choice_2 := dk_seg dksX2_choice_1 24 rfl rfl
theorem dX2_choice_0 : decode cX2_choice 0 = .ok (.aload_n 0, 1) := dk_42 (dk_at dksX2_choice_0 0 rfl rfl)
theorem dX2_choice_1 : decode cX2_choice 1 = .ok (.iload_n 1, 1) := dk_27 (dk_at dksX2_choice_0 1 rfl rfl)
theorem dX2_choice_2 : decode cX2_choice 2 = .ok (.iload_n 2, 1) := dk_28 (dk_at dksX2_choice_0 2 rfl rfl)
theorem dX2_choice_3 : decode cX2_choice 3 = .ok (.iload_n 3, 1) := dk_29 (dk_at dksX2_choice_0 3 rfl rfl)
theorem dX2_choice_4 : decode cX2_choice 4 = .ok (.iload 4, 2) := dk_21 4 (dk_at dksX2_choice_0 4 rfl rfl)
theorem dX2_choice_6 : decode cX2_choice 6 = .ok (.invokevirtual 239, 3) := dk_182 0 239 (dk_at dksX2_choice_0 6 rfl rfl)
theorem dX2_choice_9 : decode cX2_choice 9 = .ok (.ifCond .eq 5, 3) := dk_153 0 5 (dk_at dksX2_choice_0 9 rfl rfl)
theorem dX2_choice_12 : decode cX2_choice 12 = .ok (.iconst 0, 1) := dk_3 (dk_at dksX2_choice_0 12 rfl rfl)
theorem dX2_choice_13 : decode cX2_choice 13 = .ok (.ireturn, 1) := dk_172 (dk_at dksX2_choice_0 13 rfl rfl)
theorem dX2_choice_14 : decode cX2_choice 14 = .ok (.aload_n 0, 1) := dk_42 (dk_at dksX2_choice_0 14 rfl rfl)
theorem dX2_choice_15 : decode cX2_choice 15 = .ok (.iload_n 1, 1) := dk_27 (dk_at dksX2_choice_0 15 rfl rfl)
theorem dX2_choice_16 : decode cX2_choice 16 = .ok (.iload_n 3, 1) := dk_29 (dk_at dksX2_choice_0 16 rfl rfl)
theorem dX2_choice_17 : decode cX2_choice 17 = .ok (.iload 4, 2) := dk_21 4 (dk_at dksX2_choice_0 17 rfl rfl)
theorem dX2_choice_19 : decode cX2_choice 19 = .ok (.invokevirtual 268, 3) := dk_182 1 12 (dk_at dksX2_choice_0 19 rfl rfl)
theorem dX2_choice_22 : decode cX2_choice 22 = .ok (.aload_n 0, 1) := dk_42 (dk_at dksX2_choice_0 22 rfl rfl)
theorem dX2_choice_23 : decode cX2_choice 23 = .ok (.iload 5, 2) := dk_21 5 (dk_at dksX2_choice_1 0 rfl rfl)
theorem dX2_choice_25 : decode cX2_choice 25 = .ok (.iconst 0, 1) := dk_3 (dk_at dksX2_choice_1 2 rfl rfl)
theorem dX2_choice_26 : decode cX2_choice 26 = .ok (.aload_n 0, 1) := dk_42 (dk_at dksX2_choice_1 3 rfl rfl)
theorem dX2_choice_27 : decode cX2_choice 27 = .ok (.iload_n 2, 1) := dk_28 (dk_at dksX2_choice_1 4 rfl rfl)
theorem dX2_choice_28 : decode cX2_choice 28 = .ok (.iload 5, 2) := dk_21 5 (dk_at dksX2_choice_1 5 rfl rfl)
theorem dX2_choice_30 : decode cX2_choice 30 = .ok (.invokevirtual 272, 3) := dk_182 1 16 (dk_at dksX2_choice_1 7 rfl rfl)
theorem dX2_choice_33 : decode cX2_choice 33 = .ok (.iconst 1, 1) := dk_4 (dk_at dksX2_choice_1 10 rfl rfl)
theorem dX2_choice_34 : decode cX2_choice 34 = .ok (.isub, 1) := dk_100 (dk_at dksX2_choice_1 11 rfl rfl)
theorem dX2_choice_35 : decode cX2_choice 35 = .ok (.invokestatic 126, 3) := dk_184 0 126 (dk_at dksX2_choice_1 12 rfl rfl)
theorem dX2_choice_38 : decode cX2_choice 38 = .ok (.ifCond .ne 7, 3) := dk_154 0 7 (dk_at dksX2_choice_1 15 rfl rfl)
theorem dX2_choice_41 : decode cX2_choice 41 = .ok (.iconst 1, 1) := dk_4 (dk_at dksX2_choice_1 18 rfl rfl)
theorem dX2_choice_42 : decode cX2_choice 42 = .ok (.goto 4, 3) := dk_167 0 4 (dk_at dksX2_choice_1 19 rfl rfl)
theorem dX2_choice_45 : decode cX2_choice 45 = .ok (.iconst 0, 1) := dk_3 (dk_at dksX2_choice_1 22 rfl rfl)
theorem dX2_choice_46 : decode cX2_choice 46 = .ok (.iconst 3, 1) := dk_6 (dk_at dksX2_choice_1 23 rfl rfl)
theorem dX2_choice_47 : decode cX2_choice 47 = .ok (.invokevirtual 130, 3) := dk_182 0 130 (dk_at dksX2_choice_2 0 rfl rfl)
theorem dX2_choice_50 : decode cX2_choice 50 = .ok (.ifCond .eq 7, 3) := dk_153 0 7 (dk_at dksX2_choice_2 3 rfl rfl)
theorem dX2_choice_53 : decode cX2_choice 53 = .ok (.iconst 0, 1) := dk_3 (dk_at dksX2_choice_2 6 rfl rfl)
theorem dX2_choice_54 : decode cX2_choice 54 = .ok (.goto 16, 3) := dk_167 0 16 (dk_at dksX2_choice_2 7 rfl rfl)
theorem dX2_choice_57 : decode cX2_choice 57 = .ok (.sipush 5000, 3) := dk_17 19 136 (dk_at dksX2_choice_2 10 rfl rfl)
theorem dX2_choice_60 : decode cX2_choice 60 = .ok (.aload_n 0, 1) := dk_42 (dk_at dksX2_choice_2 13 rfl rfl)
theorem dX2_choice_61 : decode cX2_choice 61 = .ok (.getfield 262, 3) := dk_180 1 6 (dk_at dksX2_choice_2 14 rfl rfl)
theorem dX2_choice_64 : decode cX2_choice 64 = .ok (.imul, 1) := dk_104 (dk_at dksX2_choice_2 17 rfl rfl)
theorem dX2_choice_65 : decode cX2_choice 65 = .ok (.aload_n 0, 1) := dk_42 (dk_at dksX2_choice_2 18 rfl rfl)
theorem dX2_choice_66 : decode cX2_choice 66 = .ok (.getfield 265, 3) := dk_180 1 9 (dk_at dksX2_choice_2 19 rfl rfl)
theorem dX2_choice_69 : decode cX2_choice 69 = .ok (.iadd, 1) := dk_96 (dk_at dksX2_choice_2 22 rfl rfl)
theorem dX2_choice_70 : decode cX2_choice 70 = .ok (.ireturn, 1) := dk_172 (dk_at dksX2_choice_2 23 rfl rfl)
abbrev cX2_chain : ByteArray := prog_15_method_71_code
def yX2_chain : MethodName := ⟨RX2, "chain", "(IIII)I"⟩
def dkwX2_chain_7 : List UInt8 := [172]
abbrev dktX2_chain_7 : List UInt8 := dkwX2_chain_7 ++ []
def dkwX2_chain_6 : List UInt8 := [180, 0, 78, 21, 9, 46, 182, 0, 223, 54, 5, 3, 54, 8, 132, 9, 255, 167, 255, 193, 42, 180, 0, 72]
abbrev dktX2_chain_6 : List UInt8 := dkwX2_chain_6 ++ dktX2_chain_7
def dkwX2_chain_5 : List UInt8 := [46, 42, 180, 0, 78, 21, 9, 46, 182, 0, 214, 54, 7, 42, 42, 180, 0, 75, 21, 9, 46, 42]
abbrev dktX2_chain_5 : List UInt8 := dkwX2_chain_5 ++ dktX2_chain_6
def dkwX2_chain_4 : List UInt8 := [21, 9, 155, 0, 64, 42, 21, 9, 21, 7, 21, 5, 21, 8, 182, 1, 19, 42, 42, 180, 0, 75, 21, 9]
abbrev dktX2_chain_4 : List UInt8 := dkwX2_chain_4 ++ dktX2_chain_5
def dkwX2_chain_3 : List UInt8 := [132, 6, 1, 167, 255, 241, 42, 21, 6, 181, 0, 72, 28, 54, 7, 4, 54, 8, 21, 6, 4, 100, 54, 9]
abbrev dktX2_chain_3 : List UInt8 := dkwX2_chain_3 ++ dktX2_chain_4
def dkwX2_chain_2 : List UInt8 := [6, 182, 0, 130, 153, 0, 5, 3, 172, 3, 54, 6, 42, 21, 6, 28, 182, 1, 3, 21, 5, 164, 0, 9]
abbrev dktX2_chain_2 : List UInt8 := dkwX2_chain_2 ++ dktX2_chain_3
def dkwX2_chain_1 : List UInt8 := [180, 0, 250, 4, 100, 28, 182, 1, 3, 54, 5, 42, 21, 5, 18, 150, 161, 0, 7, 4, 167, 0, 4, 3]
abbrev dktX2_chain_1 : List UInt8 := dkwX2_chain_1 ++ dktX2_chain_2
def dkwX2_chain_0 : List UInt8 := [42, 27, 28, 29, 21, 4, 182, 0, 239, 153, 0, 5, 3, 172, 42, 27, 29, 21, 4, 182, 1, 12, 42, 42]
abbrev dktX2_chain_0 : List UInt8 := dkwX2_chain_0 ++ dktX2_chain_1
theorem dksX2_chain_0 : cX2_chain.data.toList.drop 0 = dktX2_chain_0 := by decide +kernel
theorem dksX2_chain_1 : cX2_chain.data.toList.drop 24 = dktX2_chain_1 := dk_seg dksX2_chain_0 24 rfl rfl
theorem dksX2_chain_2 : cX2_chain.data.toList.drop 48 = dktX2_chain_2 := dk_seg dksX2_chain_1 24 rfl rfl
theorem dksX2_chain_3 : cX2_chain.data.toList.drop 72 = dktX2_chain_3 := dk_seg dksX2_chain_2 24 rfl rfl
theorem dksX2_chain_4 : cX2_chain.data.toList.drop 96 = dktX2_chain_4 := dk_seg dksX2_chain_3 24 rfl rfl
theorem dksX2_chain_5 : cX2_chain.data.toList.drop 120 = dktX2_chain_5 := dk_seg dksX2_chain_4 24 rfl rfl
theorem dksX2_chain_6 : cX2_chain.data.toList.drop 142 = dktX2_chain_6 := dk_seg dksX2_chain_5 22 rfl rfl
theorem dksX2_chain_7 : cX2_chain.data.toList.drop 166 = dktX2_chain_7 := dk_seg dksX2_chain_6 24 rfl rfl
theorem dX2_chain_0 : decode cX2_chain 0 = .ok (.aload_n 0, 1) := dk_42 (dk_at dksX2_chain_0 0 rfl rfl)
theorem dX2_chain_1 : decode cX2_chain 1 = .ok (.iload_n 1, 1) := dk_27 (dk_at dksX2_chain_0 1 rfl rfl)
theorem dX2_chain_2 : decode cX2_chain 2 = .ok (.iload_n 2, 1) := dk_28 (dk_at dksX2_chain_0 2 rfl rfl)
theorem dX2_chain_3 : decode cX2_chain 3 = .ok (.iload_n 3, 1) := dk_29 (dk_at dksX2_chain_0 3 rfl rfl)
theorem dX2_chain_4 : decode cX2_chain 4 = .ok (.iload 4, 2) := dk_21 4 (dk_at dksX2_chain_0 4 rfl rfl)
theorem dX2_chain_6 : decode cX2_chain 6 = .ok (.invokevirtual 239, 3) := dk_182 0 239 (dk_at dksX2_chain_0 6 rfl rfl)
theorem dX2_chain_9 : decode cX2_chain 9 = .ok (.ifCond .eq 5, 3) := dk_153 0 5 (dk_at dksX2_chain_0 9 rfl rfl)
theorem dX2_chain_12 : decode cX2_chain 12 = .ok (.iconst 0, 1) := dk_3 (dk_at dksX2_chain_0 12 rfl rfl)
theorem dX2_chain_13 : decode cX2_chain 13 = .ok (.ireturn, 1) := dk_172 (dk_at dksX2_chain_0 13 rfl rfl)
theorem dX2_chain_14 : decode cX2_chain 14 = .ok (.aload_n 0, 1) := dk_42 (dk_at dksX2_chain_0 14 rfl rfl)
theorem dX2_chain_15 : decode cX2_chain 15 = .ok (.iload_n 1, 1) := dk_27 (dk_at dksX2_chain_0 15 rfl rfl)
theorem dX2_chain_16 : decode cX2_chain 16 = .ok (.iload_n 3, 1) := dk_29 (dk_at dksX2_chain_0 16 rfl rfl)
theorem dX2_chain_17 : decode cX2_chain 17 = .ok (.iload 4, 2) := dk_21 4 (dk_at dksX2_chain_0 17 rfl rfl)
theorem dX2_chain_19 : decode cX2_chain 19 = .ok (.invokevirtual 268, 3) := dk_182 1 12 (dk_at dksX2_chain_0 19 rfl rfl)
theorem dX2_chain_22 : decode cX2_chain 22 = .ok (.aload_n 0, 1) := dk_42 (dk_at dksX2_chain_0 22 rfl rfl)
theorem dX2_chain_23 : decode cX2_chain 23 = .ok (.aload_n 0, 1) := dk_42 (dk_at dksX2_chain_0 23 rfl rfl)
theorem dX2_chain_24 : decode cX2_chain 24 = .ok (.getfield 250, 3) := dk_180 0 250 (dk_at dksX2_chain_1 0 rfl rfl)
theorem dX2_chain_27 : decode cX2_chain 27 = .ok (.iconst 1, 1) := dk_4 (dk_at dksX2_chain_1 3 rfl rfl)
theorem dX2_chain_28 : decode cX2_chain 28 = .ok (.isub, 1) := dk_100 (dk_at dksX2_chain_1 4 rfl rfl)
theorem dX2_chain_29 : decode cX2_chain 29 = .ok (.iload_n 2, 1) := dk_28 (dk_at dksX2_chain_1 5 rfl rfl)
theorem dX2_chain_30 : decode cX2_chain 30 = .ok (.invokevirtual 259, 3) := dk_182 1 3 (dk_at dksX2_chain_1 6 rfl rfl)
theorem dX2_chain_33 : decode cX2_chain 33 = .ok (.istore 5, 2) := dk_54 5 (dk_at dksX2_chain_1 9 rfl rfl)
theorem dX2_chain_35 : decode cX2_chain 35 = .ok (.aload_n 0, 1) := dk_42 (dk_at dksX2_chain_1 11 rfl rfl)
theorem dX2_chain_36 : decode cX2_chain 36 = .ok (.iload 5, 2) := dk_21 5 (dk_at dksX2_chain_1 12 rfl rfl)
theorem dX2_chain_38 : decode cX2_chain 38 = .ok (.ldc 150, 2) := dk_18 150 (dk_at dksX2_chain_1 14 rfl rfl)
theorem dX2_chain_40 : decode cX2_chain 40 = .ok (.if_icmp .lt 7, 3) := dk_161 0 7 (dk_at dksX2_chain_1 16 rfl rfl)
theorem dX2_chain_43 : decode cX2_chain 43 = .ok (.iconst 1, 1) := dk_4 (dk_at dksX2_chain_1 19 rfl rfl)
theorem dX2_chain_44 : decode cX2_chain 44 = .ok (.goto 4, 3) := dk_167 0 4 (dk_at dksX2_chain_1 20 rfl rfl)
theorem dX2_chain_47 : decode cX2_chain 47 = .ok (.iconst 0, 1) := dk_3 (dk_at dksX2_chain_1 23 rfl rfl)
theorem dX2_chain_48 : decode cX2_chain 48 = .ok (.iconst 3, 1) := dk_6 (dk_at dksX2_chain_2 0 rfl rfl)
theorem dX2_chain_49 : decode cX2_chain 49 = .ok (.invokevirtual 130, 3) := dk_182 0 130 (dk_at dksX2_chain_2 1 rfl rfl)
theorem dX2_chain_52 : decode cX2_chain 52 = .ok (.ifCond .eq 5, 3) := dk_153 0 5 (dk_at dksX2_chain_2 4 rfl rfl)
theorem dX2_chain_55 : decode cX2_chain 55 = .ok (.iconst 0, 1) := dk_3 (dk_at dksX2_chain_2 7 rfl rfl)
theorem dX2_chain_56 : decode cX2_chain 56 = .ok (.ireturn, 1) := dk_172 (dk_at dksX2_chain_2 8 rfl rfl)
theorem dX2_chain_57 : decode cX2_chain 57 = .ok (.iconst 0, 1) := dk_3 (dk_at dksX2_chain_2 9 rfl rfl)
theorem dX2_chain_58 : decode cX2_chain 58 = .ok (.istore 6, 2) := dk_54 6 (dk_at dksX2_chain_2 10 rfl rfl)
theorem dX2_chain_60 : decode cX2_chain 60 = .ok (.aload_n 0, 1) := dk_42 (dk_at dksX2_chain_2 12 rfl rfl)
theorem dX2_chain_61 : decode cX2_chain 61 = .ok (.iload 6, 2) := dk_21 6 (dk_at dksX2_chain_2 13 rfl rfl)
theorem dX2_chain_63 : decode cX2_chain 63 = .ok (.iload_n 2, 1) := dk_28 (dk_at dksX2_chain_2 15 rfl rfl)
theorem dX2_chain_64 : decode cX2_chain 64 = .ok (.invokevirtual 259, 3) := dk_182 1 3 (dk_at dksX2_chain_2 16 rfl rfl)
theorem dX2_chain_67 : decode cX2_chain 67 = .ok (.iload 5, 2) := dk_21 5 (dk_at dksX2_chain_2 19 rfl rfl)
theorem dX2_chain_69 : decode cX2_chain 69 = .ok (.if_icmp .le 9, 3) := dk_164 0 9 (dk_at dksX2_chain_2 21 rfl rfl)
theorem dX2_chain_72 : decode cX2_chain 72 = .ok (.iinc 6 1, 3) := dk_132 6 1 (dk_at dksX2_chain_3 0 rfl rfl)
theorem dX2_chain_75 : decode cX2_chain 75 = .ok (.goto (-15), 3) := dk_167 255 241 (dk_at dksX2_chain_3 3 rfl rfl)
theorem dX2_chain_78 : decode cX2_chain 78 = .ok (.aload_n 0, 1) := dk_42 (dk_at dksX2_chain_3 6 rfl rfl)
theorem dX2_chain_79 : decode cX2_chain 79 = .ok (.iload 6, 2) := dk_21 6 (dk_at dksX2_chain_3 7 rfl rfl)
theorem dX2_chain_81 : decode cX2_chain 81 = .ok (.putfield 72, 3) := dk_181 0 72 (dk_at dksX2_chain_3 9 rfl rfl)
theorem dX2_chain_84 : decode cX2_chain 84 = .ok (.iload_n 2, 1) := dk_28 (dk_at dksX2_chain_3 12 rfl rfl)
theorem dX2_chain_85 : decode cX2_chain 85 = .ok (.istore 7, 2) := dk_54 7 (dk_at dksX2_chain_3 13 rfl rfl)
theorem dX2_chain_87 : decode cX2_chain 87 = .ok (.iconst 1, 1) := dk_4 (dk_at dksX2_chain_3 15 rfl rfl)
theorem dX2_chain_88 : decode cX2_chain 88 = .ok (.istore 8, 2) := dk_54 8 (dk_at dksX2_chain_3 16 rfl rfl)
theorem dX2_chain_90 : decode cX2_chain 90 = .ok (.iload 6, 2) := dk_21 6 (dk_at dksX2_chain_3 18 rfl rfl)
theorem dX2_chain_92 : decode cX2_chain 92 = .ok (.iconst 1, 1) := dk_4 (dk_at dksX2_chain_3 20 rfl rfl)
theorem dX2_chain_93 : decode cX2_chain 93 = .ok (.isub, 1) := dk_100 (dk_at dksX2_chain_3 21 rfl rfl)
theorem dX2_chain_94 : decode cX2_chain 94 = .ok (.istore 9, 2) := dk_54 9 (dk_at dksX2_chain_3 22 rfl rfl)
theorem dX2_chain_96 : decode cX2_chain 96 = .ok (.iload 9, 2) := dk_21 9 (dk_at dksX2_chain_4 0 rfl rfl)
theorem dX2_chain_98 : decode cX2_chain 98 = .ok (.ifCond .lt 64, 3) := dk_155 0 64 (dk_at dksX2_chain_4 2 rfl rfl)
theorem dX2_chain_101 : decode cX2_chain 101 = .ok (.aload_n 0, 1) := dk_42 (dk_at dksX2_chain_4 5 rfl rfl)
theorem dX2_chain_102 : decode cX2_chain 102 = .ok (.iload 9, 2) := dk_21 9 (dk_at dksX2_chain_4 6 rfl rfl)
theorem dX2_chain_104 : decode cX2_chain 104 = .ok (.iload 7, 2) := dk_21 7 (dk_at dksX2_chain_4 8 rfl rfl)
theorem dX2_chain_106 : decode cX2_chain 106 = .ok (.iload 5, 2) := dk_21 5 (dk_at dksX2_chain_4 10 rfl rfl)
theorem dX2_chain_108 : decode cX2_chain 108 = .ok (.iload 8, 2) := dk_21 8 (dk_at dksX2_chain_4 12 rfl rfl)
theorem dX2_chain_110 : decode cX2_chain 110 = .ok (.invokevirtual 275, 3) := dk_182 1 19 (dk_at dksX2_chain_4 14 rfl rfl)
theorem dX2_chain_113 : decode cX2_chain 113 = .ok (.aload_n 0, 1) := dk_42 (dk_at dksX2_chain_4 17 rfl rfl)
theorem dX2_chain_114 : decode cX2_chain 114 = .ok (.aload_n 0, 1) := dk_42 (dk_at dksX2_chain_4 18 rfl rfl)
theorem dX2_chain_115 : decode cX2_chain 115 = .ok (.getfield 75, 3) := dk_180 0 75 (dk_at dksX2_chain_4 19 rfl rfl)
theorem dX2_chain_118 : decode cX2_chain 118 = .ok (.iload 9, 2) := dk_21 9 (dk_at dksX2_chain_4 22 rfl rfl)
theorem dX2_chain_120 : decode cX2_chain 120 = .ok (.iaload, 1) := dk_46 (dk_at dksX2_chain_5 0 rfl rfl)
theorem dX2_chain_121 : decode cX2_chain 121 = .ok (.aload_n 0, 1) := dk_42 (dk_at dksX2_chain_5 1 rfl rfl)
theorem dX2_chain_122 : decode cX2_chain 122 = .ok (.getfield 78, 3) := dk_180 0 78 (dk_at dksX2_chain_5 2 rfl rfl)
theorem dX2_chain_125 : decode cX2_chain 125 = .ok (.iload 9, 2) := dk_21 9 (dk_at dksX2_chain_5 5 rfl rfl)
theorem dX2_chain_127 : decode cX2_chain 127 = .ok (.iaload, 1) := dk_46 (dk_at dksX2_chain_5 7 rfl rfl)
theorem dX2_chain_128 : decode cX2_chain 128 = .ok (.invokevirtual 214, 3) := dk_182 0 214 (dk_at dksX2_chain_5 8 rfl rfl)
theorem dX2_chain_131 : decode cX2_chain 131 = .ok (.istore 7, 2) := dk_54 7 (dk_at dksX2_chain_5 11 rfl rfl)
theorem dX2_chain_133 : decode cX2_chain 133 = .ok (.aload_n 0, 1) := dk_42 (dk_at dksX2_chain_5 13 rfl rfl)
theorem dX2_chain_134 : decode cX2_chain 134 = .ok (.aload_n 0, 1) := dk_42 (dk_at dksX2_chain_5 14 rfl rfl)
theorem dX2_chain_135 : decode cX2_chain 135 = .ok (.getfield 75, 3) := dk_180 0 75 (dk_at dksX2_chain_5 15 rfl rfl)
theorem dX2_chain_138 : decode cX2_chain 138 = .ok (.iload 9, 2) := dk_21 9 (dk_at dksX2_chain_5 18 rfl rfl)
theorem dX2_chain_140 : decode cX2_chain 140 = .ok (.iaload, 1) := dk_46 (dk_at dksX2_chain_5 20 rfl rfl)
theorem dX2_chain_141 : decode cX2_chain 141 = .ok (.aload_n 0, 1) := dk_42 (dk_at dksX2_chain_5 21 rfl rfl)
theorem dX2_chain_142 : decode cX2_chain 142 = .ok (.getfield 78, 3) := dk_180 0 78 (dk_at dksX2_chain_6 0 rfl rfl)
theorem dX2_chain_145 : decode cX2_chain 145 = .ok (.iload 9, 2) := dk_21 9 (dk_at dksX2_chain_6 3 rfl rfl)
theorem dX2_chain_147 : decode cX2_chain 147 = .ok (.iaload, 1) := dk_46 (dk_at dksX2_chain_6 5 rfl rfl)
theorem dX2_chain_148 : decode cX2_chain 148 = .ok (.invokevirtual 223, 3) := dk_182 0 223 (dk_at dksX2_chain_6 6 rfl rfl)
theorem dX2_chain_151 : decode cX2_chain 151 = .ok (.istore 5, 2) := dk_54 5 (dk_at dksX2_chain_6 9 rfl rfl)
theorem dX2_chain_153 : decode cX2_chain 153 = .ok (.iconst 0, 1) := dk_3 (dk_at dksX2_chain_6 11 rfl rfl)
theorem dX2_chain_154 : decode cX2_chain 154 = .ok (.istore 8, 2) := dk_54 8 (dk_at dksX2_chain_6 12 rfl rfl)
theorem dX2_chain_156 : decode cX2_chain 156 = .ok (.iinc 9 (-1), 3) := dk_132 9 255 (dk_at dksX2_chain_6 14 rfl rfl)
theorem dX2_chain_159 : decode cX2_chain 159 = .ok (.goto (-63), 3) := dk_167 255 193 (dk_at dksX2_chain_6 17 rfl rfl)
theorem dX2_chain_162 : decode cX2_chain 162 = .ok (.aload_n 0, 1) := dk_42 (dk_at dksX2_chain_6 20 rfl rfl)
theorem dX2_chain_163 : decode cX2_chain 163 = .ok (.getfield 72, 3) := dk_180 0 72 (dk_at dksX2_chain_6 21 rfl rfl)
theorem dX2_chain_166 : decode cX2_chain 166 = .ok (.ireturn, 1) := dk_172 (dk_at dksX2_chain_7 0 rfl rfl)
abbrev cX2_findRide : ByteArray := prog_15_method_72_code
def yX2_findRide : MethodName := ⟨RX2, "findRide", "(IIIZ)V"⟩
def dkwX2_findRide_9 : List UInt8 := [167, 255, 78, 132, 5, 1, 167, 255, 52, 177]
abbrev dktX2_findRide_9 : List UInt8 := dkwX2_findRide_9 ++ []
def dkwX2_findRide_8 : List UInt8 := [180, 0, 78, 27, 21, 9, 79, 42, 180, 0, 81, 27, 21, 6, 79, 132, 9, 255, 167, 255, 190, 132, 6, 1]
abbrev dktX2_findRide_8 : List UInt8 := dkwX2_findRide_8 ++ dktX2_findRide_9
def dkwX2_findRide_7 : List UInt8 := [21, 5, 21, 9, 182, 0, 223, 182, 1, 0, 153, 0, 27, 42, 180, 0, 75, 27, 21, 5, 79, 42]
abbrev dktX2_findRide_7 : List UInt8 := dkwX2_findRide_7 ++ dktX2_findRide_8
def dkwX2_findRide_6 : List UInt8 := [155, 0, 67, 42, 180, 0, 75, 27, 46, 2, 160, 0, 57, 42, 27, 42, 21, 5, 21, 9, 182, 0, 214, 42]
abbrev dktX2_findRide_6 : List UInt8 := dkwX2_findRide_6 ++ dktX2_findRide_7
def dkwX2_findRide_5 : List UInt8 := [21, 6, 182, 0, 217, 21, 8, 96, 29, 164, 0, 6, 167, 0, 78, 21, 6, 4, 100, 54, 9, 21, 9]
abbrev dktX2_findRide_5 : List UInt8 := dkwX2_findRide_5 ++ dktX2_findRide_6
def dkwX2_findRide_4 : List UInt8 := [167, 0, 18, 21, 4, 153, 0, 7, 3, 167, 0, 9, 42, 180, 0, 9, 28, 46, 54, 8, 42, 21, 5]
abbrev dktX2_findRide_4 : List UInt8 := dkwX2_findRide_4 ++ dktX2_findRide_5
def dkwX2_findRide_3 : List UInt8 := [182, 0, 214, 54, 7, 21, 7, 28, 159, 0, 18, 42, 180, 0, 16, 16, 12, 21, 7, 104, 28, 96, 46]
abbrev dktX2_findRide_3 : List UInt8 := dkwX2_findRide_3 ++ dktX2_findRide_4
def dkwX2_findRide_2 : List UInt8 := [16, 24, 112, 46, 162, 0, 160, 42, 180, 0, 75, 27, 46, 2, 160, 0, 150, 42, 21, 5, 21, 6]
abbrev dktX2_findRide_2 : List UInt8 := dkwX2_findRide_2 ++ dktX2_findRide_3
def dkwX2_findRide_1 : List UInt8 := [160, 0, 193, 4, 54, 6, 42, 21, 5, 182, 0, 208, 153, 0, 175, 21, 6, 42, 180, 0, 30, 21, 5]
abbrev dktX2_findRide_1 : List UInt8 := dkwX2_findRide_1 ++ dktX2_findRide_2
def dkwX2_findRide_0 : List UInt8 := [42, 180, 0, 75, 27, 2, 79, 3, 54, 5, 21, 5, 16, 72, 162, 0, 203, 42, 180, 0, 75, 27, 46, 2]
abbrev dktX2_findRide_0 : List UInt8 := dkwX2_findRide_0 ++ dktX2_findRide_1
theorem dksX2_findRide_0 : cX2_findRide.data.toList.drop 0 = dktX2_findRide_0 := by decide +kernel
theorem dksX2_findRide_1 : cX2_findRide.data.toList.drop 24 = dktX2_findRide_1 := dk_seg dksX2_findRide_0 24 rfl rfl
theorem dksX2_findRide_2 : cX2_findRide.data.toList.drop 47 = dktX2_findRide_2 := dk_seg dksX2_findRide_1 23 rfl rfl
theorem dksX2_findRide_3 : cX2_findRide.data.toList.drop 69 = dktX2_findRide_3 := dk_seg dksX2_findRide_2 22 rfl rfl
theorem dksX2_findRide_4 : cX2_findRide.data.toList.drop 92 = dktX2_findRide_4 := dk_seg dksX2_findRide_3 23 rfl rfl
theorem dksX2_findRide_5 : cX2_findRide.data.toList.drop 115 = dktX2_findRide_5 := dk_seg dksX2_findRide_4 23 rfl rfl
theorem dksX2_findRide_6 : cX2_findRide.data.toList.drop 138 = dktX2_findRide_6 := dk_seg dksX2_findRide_5 23 rfl rfl
theorem dksX2_findRide_7 : cX2_findRide.data.toList.drop 162 = dktX2_findRide_7 := dk_seg dksX2_findRide_6 24 rfl rfl
theorem dksX2_findRide_8 : cX2_findRide.data.toList.drop 184 = dktX2_findRide_8 := dk_seg dksX2_findRide_7 22 rfl rfl
theorem dksX2_findRide_9 : cX2_findRide.data.toList.drop 208 = dktX2_findRide_9 := dk_seg dksX2_findRide_8 24 rfl rfl
theorem dX2_findRide_0 : decode cX2_findRide 0 = .ok (.aload_n 0, 1) := dk_42 (dk_at dksX2_findRide_0 0 rfl rfl)
theorem dX2_findRide_1 : decode cX2_findRide 1 = .ok (.getfield 75, 3) := dk_180 0 75 (dk_at dksX2_findRide_0 1 rfl rfl)
theorem dX2_findRide_4 : decode cX2_findRide 4 = .ok (.iload_n 1, 1) := dk_27 (dk_at dksX2_findRide_0 4 rfl rfl)
theorem dX2_findRide_5 : decode cX2_findRide 5 = .ok (.iconst (-1), 1) := dk_2 (dk_at dksX2_findRide_0 5 rfl rfl)
theorem dX2_findRide_6 : decode cX2_findRide 6 = .ok (.iastore, 1) := dk_79 (dk_at dksX2_findRide_0 6 rfl rfl)
theorem dX2_findRide_7 : decode cX2_findRide 7 = .ok (.iconst 0, 1) := dk_3 (dk_at dksX2_findRide_0 7 rfl rfl)
theorem dX2_findRide_8 : decode cX2_findRide 8 = .ok (.istore 5, 2) := dk_54 5 (dk_at dksX2_findRide_0 8 rfl rfl)
theorem dX2_findRide_10 : decode cX2_findRide 10 = .ok (.iload 5, 2) := dk_21 5 (dk_at dksX2_findRide_0 10 rfl rfl)
theorem dX2_findRide_12 : decode cX2_findRide 12 = .ok (.bipush 72, 2) := dk_16 72 (dk_at dksX2_findRide_0 12 rfl rfl)
theorem dX2_findRide_14 : decode cX2_findRide 14 = .ok (.if_icmp .ge 203, 3) := dk_162 0 203 (dk_at dksX2_findRide_0 14 rfl rfl)
theorem dX2_findRide_17 : decode cX2_findRide 17 = .ok (.aload_n 0, 1) := dk_42 (dk_at dksX2_findRide_0 17 rfl rfl)
theorem dX2_findRide_18 : decode cX2_findRide 18 = .ok (.getfield 75, 3) := dk_180 0 75 (dk_at dksX2_findRide_0 18 rfl rfl)
theorem dX2_findRide_21 : decode cX2_findRide 21 = .ok (.iload_n 1, 1) := dk_27 (dk_at dksX2_findRide_0 21 rfl rfl)
theorem dX2_findRide_22 : decode cX2_findRide 22 = .ok (.iaload, 1) := dk_46 (dk_at dksX2_findRide_0 22 rfl rfl)
theorem dX2_findRide_23 : decode cX2_findRide 23 = .ok (.iconst (-1), 1) := dk_2 (dk_at dksX2_findRide_0 23 rfl rfl)
theorem dX2_findRide_24 : decode cX2_findRide 24 = .ok (.if_icmp .ne 193, 3) := dk_160 0 193 (dk_at dksX2_findRide_1 0 rfl rfl)
theorem dX2_findRide_27 : decode cX2_findRide 27 = .ok (.iconst 1, 1) := dk_4 (dk_at dksX2_findRide_1 3 rfl rfl)
theorem dX2_findRide_28 : decode cX2_findRide 28 = .ok (.istore 6, 2) := dk_54 6 (dk_at dksX2_findRide_1 4 rfl rfl)
theorem dX2_findRide_30 : decode cX2_findRide 30 = .ok (.aload_n 0, 1) := dk_42 (dk_at dksX2_findRide_1 6 rfl rfl)
theorem dX2_findRide_31 : decode cX2_findRide 31 = .ok (.iload 5, 2) := dk_21 5 (dk_at dksX2_findRide_1 7 rfl rfl)
theorem dX2_findRide_33 : decode cX2_findRide 33 = .ok (.invokevirtual 208, 3) := dk_182 0 208 (dk_at dksX2_findRide_1 9 rfl rfl)
theorem dX2_findRide_36 : decode cX2_findRide 36 = .ok (.ifCond .eq 175, 3) := dk_153 0 175 (dk_at dksX2_findRide_1 12 rfl rfl)
theorem dX2_findRide_39 : decode cX2_findRide 39 = .ok (.iload 6, 2) := dk_21 6 (dk_at dksX2_findRide_1 15 rfl rfl)
theorem dX2_findRide_41 : decode cX2_findRide 41 = .ok (.aload_n 0, 1) := dk_42 (dk_at dksX2_findRide_1 17 rfl rfl)
theorem dX2_findRide_42 : decode cX2_findRide 42 = .ok (.getfield 30, 3) := dk_180 0 30 (dk_at dksX2_findRide_1 18 rfl rfl)
theorem dX2_findRide_45 : decode cX2_findRide 45 = .ok (.iload 5, 2) := dk_21 5 (dk_at dksX2_findRide_1 21 rfl rfl)
theorem dX2_findRide_47 : decode cX2_findRide 47 = .ok (.bipush 24, 2) := dk_16 24 (dk_at dksX2_findRide_2 0 rfl rfl)
theorem dX2_findRide_49 : decode cX2_findRide 49 = .ok (.irem, 1) := dk_112 (dk_at dksX2_findRide_2 2 rfl rfl)
theorem dX2_findRide_50 : decode cX2_findRide 50 = .ok (.iaload, 1) := dk_46 (dk_at dksX2_findRide_2 3 rfl rfl)
theorem dX2_findRide_51 : decode cX2_findRide 51 = .ok (.if_icmp .ge 160, 3) := dk_162 0 160 (dk_at dksX2_findRide_2 4 rfl rfl)
theorem dX2_findRide_54 : decode cX2_findRide 54 = .ok (.aload_n 0, 1) := dk_42 (dk_at dksX2_findRide_2 7 rfl rfl)
theorem dX2_findRide_55 : decode cX2_findRide 55 = .ok (.getfield 75, 3) := dk_180 0 75 (dk_at dksX2_findRide_2 8 rfl rfl)
theorem dX2_findRide_58 : decode cX2_findRide 58 = .ok (.iload_n 1, 1) := dk_27 (dk_at dksX2_findRide_2 11 rfl rfl)
theorem dX2_findRide_59 : decode cX2_findRide 59 = .ok (.iaload, 1) := dk_46 (dk_at dksX2_findRide_2 12 rfl rfl)
theorem dX2_findRide_60 : decode cX2_findRide 60 = .ok (.iconst (-1), 1) := dk_2 (dk_at dksX2_findRide_2 13 rfl rfl)
theorem dX2_findRide_61 : decode cX2_findRide 61 = .ok (.if_icmp .ne 150, 3) := dk_160 0 150 (dk_at dksX2_findRide_2 14 rfl rfl)
theorem dX2_findRide_64 : decode cX2_findRide 64 = .ok (.aload_n 0, 1) := dk_42 (dk_at dksX2_findRide_2 17 rfl rfl)
theorem dX2_findRide_65 : decode cX2_findRide 65 = .ok (.iload 5, 2) := dk_21 5 (dk_at dksX2_findRide_2 18 rfl rfl)
theorem dX2_findRide_67 : decode cX2_findRide 67 = .ok (.iload 6, 2) := dk_21 6 (dk_at dksX2_findRide_2 20 rfl rfl)
theorem dX2_findRide_69 : decode cX2_findRide 69 = .ok (.invokevirtual 214, 3) := dk_182 0 214 (dk_at dksX2_findRide_3 0 rfl rfl)
theorem dX2_findRide_72 : decode cX2_findRide 72 = .ok (.istore 7, 2) := dk_54 7 (dk_at dksX2_findRide_3 3 rfl rfl)
theorem dX2_findRide_74 : decode cX2_findRide 74 = .ok (.iload 7, 2) := dk_21 7 (dk_at dksX2_findRide_3 5 rfl rfl)
theorem dX2_findRide_76 : decode cX2_findRide 76 = .ok (.iload_n 2, 1) := dk_28 (dk_at dksX2_findRide_3 7 rfl rfl)
theorem dX2_findRide_77 : decode cX2_findRide 77 = .ok (.if_icmp .eq 18, 3) := dk_159 0 18 (dk_at dksX2_findRide_3 8 rfl rfl)
theorem dX2_findRide_80 : decode cX2_findRide 80 = .ok (.aload_n 0, 1) := dk_42 (dk_at dksX2_findRide_3 11 rfl rfl)
theorem dX2_findRide_81 : decode cX2_findRide 81 = .ok (.getfield 16, 3) := dk_180 0 16 (dk_at dksX2_findRide_3 12 rfl rfl)
theorem dX2_findRide_84 : decode cX2_findRide 84 = .ok (.bipush 12, 2) := dk_16 12 (dk_at dksX2_findRide_3 15 rfl rfl)
theorem dX2_findRide_86 : decode cX2_findRide 86 = .ok (.iload 7, 2) := dk_21 7 (dk_at dksX2_findRide_3 17 rfl rfl)
theorem dX2_findRide_88 : decode cX2_findRide 88 = .ok (.imul, 1) := dk_104 (dk_at dksX2_findRide_3 19 rfl rfl)
theorem dX2_findRide_89 : decode cX2_findRide 89 = .ok (.iload_n 2, 1) := dk_28 (dk_at dksX2_findRide_3 20 rfl rfl)
theorem dX2_findRide_90 : decode cX2_findRide 90 = .ok (.iadd, 1) := dk_96 (dk_at dksX2_findRide_3 21 rfl rfl)
theorem dX2_findRide_91 : decode cX2_findRide 91 = .ok (.iaload, 1) := dk_46 (dk_at dksX2_findRide_3 22 rfl rfl)
theorem dX2_findRide_92 : decode cX2_findRide 92 = .ok (.goto 18, 3) := dk_167 0 18 (dk_at dksX2_findRide_4 0 rfl rfl)
theorem dX2_findRide_95 : decode cX2_findRide 95 = .ok (.iload 4, 2) := dk_21 4 (dk_at dksX2_findRide_4 3 rfl rfl)
theorem dX2_findRide_97 : decode cX2_findRide 97 = .ok (.ifCond .eq 7, 3) := dk_153 0 7 (dk_at dksX2_findRide_4 5 rfl rfl)
theorem dX2_findRide_100 : decode cX2_findRide 100 = .ok (.iconst 0, 1) := dk_3 (dk_at dksX2_findRide_4 8 rfl rfl)
theorem dX2_findRide_101 : decode cX2_findRide 101 = .ok (.goto 9, 3) := dk_167 0 9 (dk_at dksX2_findRide_4 9 rfl rfl)
theorem dX2_findRide_104 : decode cX2_findRide 104 = .ok (.aload_n 0, 1) := dk_42 (dk_at dksX2_findRide_4 12 rfl rfl)
theorem dX2_findRide_105 : decode cX2_findRide 105 = .ok (.getfield 9, 3) := dk_180 0 9 (dk_at dksX2_findRide_4 13 rfl rfl)
theorem dX2_findRide_108 : decode cX2_findRide 108 = .ok (.iload_n 2, 1) := dk_28 (dk_at dksX2_findRide_4 16 rfl rfl)
theorem dX2_findRide_109 : decode cX2_findRide 109 = .ok (.iaload, 1) := dk_46 (dk_at dksX2_findRide_4 17 rfl rfl)
theorem dX2_findRide_110 : decode cX2_findRide 110 = .ok (.istore 8, 2) := dk_54 8 (dk_at dksX2_findRide_4 18 rfl rfl)
theorem dX2_findRide_112 : decode cX2_findRide 112 = .ok (.aload_n 0, 1) := dk_42 (dk_at dksX2_findRide_4 20 rfl rfl)
theorem dX2_findRide_113 : decode cX2_findRide 113 = .ok (.iload 5, 2) := dk_21 5 (dk_at dksX2_findRide_4 21 rfl rfl)
theorem dX2_findRide_115 : decode cX2_findRide 115 = .ok (.iload 6, 2) := dk_21 6 (dk_at dksX2_findRide_5 0 rfl rfl)
theorem dX2_findRide_117 : decode cX2_findRide 117 = .ok (.invokevirtual 217, 3) := dk_182 0 217 (dk_at dksX2_findRide_5 2 rfl rfl)
theorem dX2_findRide_120 : decode cX2_findRide 120 = .ok (.iload 8, 2) := dk_21 8 (dk_at dksX2_findRide_5 5 rfl rfl)
theorem dX2_findRide_122 : decode cX2_findRide 122 = .ok (.iadd, 1) := dk_96 (dk_at dksX2_findRide_5 7 rfl rfl)
theorem dX2_findRide_123 : decode cX2_findRide 123 = .ok (.iload_n 3, 1) := dk_29 (dk_at dksX2_findRide_5 8 rfl rfl)
theorem dX2_findRide_124 : decode cX2_findRide 124 = .ok (.if_icmp .le 6, 3) := dk_164 0 6 (dk_at dksX2_findRide_5 9 rfl rfl)
theorem dX2_findRide_127 : decode cX2_findRide 127 = .ok (.goto 78, 3) := dk_167 0 78 (dk_at dksX2_findRide_5 12 rfl rfl)
theorem dX2_findRide_130 : decode cX2_findRide 130 = .ok (.iload 6, 2) := dk_21 6 (dk_at dksX2_findRide_5 15 rfl rfl)
theorem dX2_findRide_132 : decode cX2_findRide 132 = .ok (.iconst 1, 1) := dk_4 (dk_at dksX2_findRide_5 17 rfl rfl)
theorem dX2_findRide_133 : decode cX2_findRide 133 = .ok (.isub, 1) := dk_100 (dk_at dksX2_findRide_5 18 rfl rfl)
theorem dX2_findRide_134 : decode cX2_findRide 134 = .ok (.istore 9, 2) := dk_54 9 (dk_at dksX2_findRide_5 19 rfl rfl)
theorem dX2_findRide_136 : decode cX2_findRide 136 = .ok (.iload 9, 2) := dk_21 9 (dk_at dksX2_findRide_5 21 rfl rfl)
theorem dX2_findRide_138 : decode cX2_findRide 138 = .ok (.ifCond .lt 67, 3) := dk_155 0 67 (dk_at dksX2_findRide_6 0 rfl rfl)
theorem dX2_findRide_141 : decode cX2_findRide 141 = .ok (.aload_n 0, 1) := dk_42 (dk_at dksX2_findRide_6 3 rfl rfl)
theorem dX2_findRide_142 : decode cX2_findRide 142 = .ok (.getfield 75, 3) := dk_180 0 75 (dk_at dksX2_findRide_6 4 rfl rfl)
theorem dX2_findRide_145 : decode cX2_findRide 145 = .ok (.iload_n 1, 1) := dk_27 (dk_at dksX2_findRide_6 7 rfl rfl)
theorem dX2_findRide_146 : decode cX2_findRide 146 = .ok (.iaload, 1) := dk_46 (dk_at dksX2_findRide_6 8 rfl rfl)
theorem dX2_findRide_147 : decode cX2_findRide 147 = .ok (.iconst (-1), 1) := dk_2 (dk_at dksX2_findRide_6 9 rfl rfl)
theorem dX2_findRide_148 : decode cX2_findRide 148 = .ok (.if_icmp .ne 57, 3) := dk_160 0 57 (dk_at dksX2_findRide_6 10 rfl rfl)
theorem dX2_findRide_151 : decode cX2_findRide 151 = .ok (.aload_n 0, 1) := dk_42 (dk_at dksX2_findRide_6 13 rfl rfl)
theorem dX2_findRide_152 : decode cX2_findRide 152 = .ok (.iload_n 1, 1) := dk_27 (dk_at dksX2_findRide_6 14 rfl rfl)
theorem dX2_findRide_153 : decode cX2_findRide 153 = .ok (.aload_n 0, 1) := dk_42 (dk_at dksX2_findRide_6 15 rfl rfl)
theorem dX2_findRide_154 : decode cX2_findRide 154 = .ok (.iload 5, 2) := dk_21 5 (dk_at dksX2_findRide_6 16 rfl rfl)
theorem dX2_findRide_156 : decode cX2_findRide 156 = .ok (.iload 9, 2) := dk_21 9 (dk_at dksX2_findRide_6 18 rfl rfl)
theorem dX2_findRide_158 : decode cX2_findRide 158 = .ok (.invokevirtual 214, 3) := dk_182 0 214 (dk_at dksX2_findRide_6 20 rfl rfl)
theorem dX2_findRide_161 : decode cX2_findRide 161 = .ok (.aload_n 0, 1) := dk_42 (dk_at dksX2_findRide_6 23 rfl rfl)
theorem dX2_findRide_162 : decode cX2_findRide 162 = .ok (.iload 5, 2) := dk_21 5 (dk_at dksX2_findRide_7 0 rfl rfl)
theorem dX2_findRide_164 : decode cX2_findRide 164 = .ok (.iload 9, 2) := dk_21 9 (dk_at dksX2_findRide_7 2 rfl rfl)
theorem dX2_findRide_166 : decode cX2_findRide 166 = .ok (.invokevirtual 223, 3) := dk_182 0 223 (dk_at dksX2_findRide_7 4 rfl rfl)
theorem dX2_findRide_169 : decode cX2_findRide 169 = .ok (.invokevirtual 256, 3) := dk_182 1 0 (dk_at dksX2_findRide_7 7 rfl rfl)
theorem dX2_findRide_172 : decode cX2_findRide 172 = .ok (.ifCond .eq 27, 3) := dk_153 0 27 (dk_at dksX2_findRide_7 10 rfl rfl)
theorem dX2_findRide_175 : decode cX2_findRide 175 = .ok (.aload_n 0, 1) := dk_42 (dk_at dksX2_findRide_7 13 rfl rfl)
theorem dX2_findRide_176 : decode cX2_findRide 176 = .ok (.getfield 75, 3) := dk_180 0 75 (dk_at dksX2_findRide_7 14 rfl rfl)
theorem dX2_findRide_179 : decode cX2_findRide 179 = .ok (.iload_n 1, 1) := dk_27 (dk_at dksX2_findRide_7 17 rfl rfl)
theorem dX2_findRide_180 : decode cX2_findRide 180 = .ok (.iload 5, 2) := dk_21 5 (dk_at dksX2_findRide_7 18 rfl rfl)
theorem dX2_findRide_182 : decode cX2_findRide 182 = .ok (.iastore, 1) := dk_79 (dk_at dksX2_findRide_7 20 rfl rfl)
theorem dX2_findRide_183 : decode cX2_findRide 183 = .ok (.aload_n 0, 1) := dk_42 (dk_at dksX2_findRide_7 21 rfl rfl)
theorem dX2_findRide_184 : decode cX2_findRide 184 = .ok (.getfield 78, 3) := dk_180 0 78 (dk_at dksX2_findRide_8 0 rfl rfl)
theorem dX2_findRide_187 : decode cX2_findRide 187 = .ok (.iload_n 1, 1) := dk_27 (dk_at dksX2_findRide_8 3 rfl rfl)
theorem dX2_findRide_188 : decode cX2_findRide 188 = .ok (.iload 9, 2) := dk_21 9 (dk_at dksX2_findRide_8 4 rfl rfl)
theorem dX2_findRide_190 : decode cX2_findRide 190 = .ok (.iastore, 1) := dk_79 (dk_at dksX2_findRide_8 6 rfl rfl)
theorem dX2_findRide_191 : decode cX2_findRide 191 = .ok (.aload_n 0, 1) := dk_42 (dk_at dksX2_findRide_8 7 rfl rfl)
theorem dX2_findRide_192 : decode cX2_findRide 192 = .ok (.getfield 81, 3) := dk_180 0 81 (dk_at dksX2_findRide_8 8 rfl rfl)
theorem dX2_findRide_195 : decode cX2_findRide 195 = .ok (.iload_n 1, 1) := dk_27 (dk_at dksX2_findRide_8 11 rfl rfl)
theorem dX2_findRide_196 : decode cX2_findRide 196 = .ok (.iload 6, 2) := dk_21 6 (dk_at dksX2_findRide_8 12 rfl rfl)
theorem dX2_findRide_198 : decode cX2_findRide 198 = .ok (.iastore, 1) := dk_79 (dk_at dksX2_findRide_8 14 rfl rfl)
theorem dX2_findRide_199 : decode cX2_findRide 199 = .ok (.iinc 9 (-1), 3) := dk_132 9 255 (dk_at dksX2_findRide_8 15 rfl rfl)
theorem dX2_findRide_202 : decode cX2_findRide 202 = .ok (.goto (-66), 3) := dk_167 255 190 (dk_at dksX2_findRide_8 18 rfl rfl)
theorem dX2_findRide_205 : decode cX2_findRide 205 = .ok (.iinc 6 1, 3) := dk_132 6 1 (dk_at dksX2_findRide_8 21 rfl rfl)
theorem dX2_findRide_208 : decode cX2_findRide 208 = .ok (.goto (-178), 3) := dk_167 255 78 (dk_at dksX2_findRide_9 0 rfl rfl)
theorem dX2_findRide_211 : decode cX2_findRide 211 = .ok (.iinc 5 1, 3) := dk_132 5 1 (dk_at dksX2_findRide_9 3 rfl rfl)
theorem dX2_findRide_214 : decode cX2_findRide 214 = .ok (.goto (-204), 3) := dk_167 255 52 (dk_at dksX2_findRide_9 6 rfl rfl)
theorem dX2_findRide_217 : decode cX2_findRide 217 = .ok (.return_, 1) := dk_177 (dk_at dksX2_findRide_9 9 rfl rfl)
abbrev cX2_ride : ByteArray := prog_15_method_73_code
def yX2_ride : MethodName := ⟨RX2, "ride", "(IC)I"⟩
def dkwX2_ride_5 : List UInt8 := [46, 167, 0, 9, 42, 180, 0, 81, 27, 46, 172]
abbrev dktX2_ride_5 : List UInt8 := dkwX2_ride_5 ++ []
def dkwX2_ride_4 : List UInt8 := [180, 0, 75, 27, 46, 16, 24, 108, 4, 100, 167, 0, 24, 28, 16, 111, 160, 0, 12, 42, 180, 0, 78, 27]
abbrev dktX2_ride_4 : List UInt8 := dkwX2_ride_4 ++ dktX2_ride_5
def dkwX2_ride_3 : List UInt8 := [160, 0, 15, 42, 180, 0, 75, 27, 46, 16, 24, 112, 167, 0, 44, 28, 16, 100, 160, 0, 17, 42]
abbrev dktX2_ride_3 : List UInt8 := dkwX2_ride_3 ++ dktX2_ride_4
def dkwX2_ride_2 : List UInt8 := [184, 0, 126, 154, 0, 7, 4, 167, 0, 4, 3, 5, 182, 0, 130, 153, 0, 5, 3, 172, 28, 16, 116]
abbrev dktX2_ride_2 : List UInt8 := dkwX2_ride_2 ++ dktX2_ride_3
def dkwX2_ride_1 : List UInt8 := [159, 0, 7, 4, 167, 0, 4, 3, 4, 182, 0, 130, 154, 0, 30, 42, 27, 3, 42, 180, 0, 72, 4, 100]
abbrev dktX2_ride_1 : List UInt8 := dkwX2_ride_1 ++ dktX2_ride_2
def dkwX2_ride_0 : List UInt8 := [42, 28, 16, 116, 159, 0, 25, 28, 16, 100, 159, 0, 19, 28, 16, 111, 159, 0, 13, 28, 16, 102]
abbrev dktX2_ride_0 : List UInt8 := dkwX2_ride_0 ++ dktX2_ride_1
theorem dksX2_ride_0 : cX2_ride.data.toList.drop 0 = dktX2_ride_0 := by decide +kernel
theorem dksX2_ride_1 : cX2_ride.data.toList.drop 22 = dktX2_ride_1 := dk_seg dksX2_ride_0 22 rfl rfl
theorem dksX2_ride_2 : cX2_ride.data.toList.drop 46 = dktX2_ride_2 := dk_seg dksX2_ride_1 24 rfl rfl
theorem dksX2_ride_3 : cX2_ride.data.toList.drop 69 = dktX2_ride_3 := dk_seg dksX2_ride_2 23 rfl rfl
theorem dksX2_ride_4 : cX2_ride.data.toList.drop 91 = dktX2_ride_4 := dk_seg dksX2_ride_3 22 rfl rfl
theorem dksX2_ride_5 : cX2_ride.data.toList.drop 115 = dktX2_ride_5 := dk_seg dksX2_ride_4 24 rfl rfl
theorem dX2_ride_0 : decode cX2_ride 0 = .ok (.aload_n 0, 1) := dk_42 (dk_at dksX2_ride_0 0 rfl rfl)
theorem dX2_ride_1 : decode cX2_ride 1 = .ok (.iload_n 2, 1) := dk_28 (dk_at dksX2_ride_0 1 rfl rfl)
theorem dX2_ride_2 : decode cX2_ride 2 = .ok (.bipush 116, 2) := dk_16 116 (dk_at dksX2_ride_0 2 rfl rfl)
theorem dX2_ride_4 : decode cX2_ride 4 = .ok (.if_icmp .eq 25, 3) := dk_159 0 25 (dk_at dksX2_ride_0 4 rfl rfl)
theorem dX2_ride_7 : decode cX2_ride 7 = .ok (.iload_n 2, 1) := dk_28 (dk_at dksX2_ride_0 7 rfl rfl)
theorem dX2_ride_8 : decode cX2_ride 8 = .ok (.bipush 100, 2) := dk_16 100 (dk_at dksX2_ride_0 8 rfl rfl)
theorem dX2_ride_10 : decode cX2_ride 10 = .ok (.if_icmp .eq 19, 3) := dk_159 0 19 (dk_at dksX2_ride_0 10 rfl rfl)
theorem dX2_ride_13 : decode cX2_ride 13 = .ok (.iload_n 2, 1) := dk_28 (dk_at dksX2_ride_0 13 rfl rfl)
theorem dX2_ride_14 : decode cX2_ride 14 = .ok (.bipush 111, 2) := dk_16 111 (dk_at dksX2_ride_0 14 rfl rfl)
theorem dX2_ride_16 : decode cX2_ride 16 = .ok (.if_icmp .eq 13, 3) := dk_159 0 13 (dk_at dksX2_ride_0 16 rfl rfl)
theorem dX2_ride_19 : decode cX2_ride 19 = .ok (.iload_n 2, 1) := dk_28 (dk_at dksX2_ride_0 19 rfl rfl)
theorem dX2_ride_20 : decode cX2_ride 20 = .ok (.bipush 102, 2) := dk_16 102 (dk_at dksX2_ride_0 20 rfl rfl)
theorem dX2_ride_22 : decode cX2_ride 22 = .ok (.if_icmp .eq 7, 3) := dk_159 0 7 (dk_at dksX2_ride_1 0 rfl rfl)
theorem dX2_ride_25 : decode cX2_ride 25 = .ok (.iconst 1, 1) := dk_4 (dk_at dksX2_ride_1 3 rfl rfl)
theorem dX2_ride_26 : decode cX2_ride 26 = .ok (.goto 4, 3) := dk_167 0 4 (dk_at dksX2_ride_1 4 rfl rfl)
theorem dX2_ride_29 : decode cX2_ride 29 = .ok (.iconst 0, 1) := dk_3 (dk_at dksX2_ride_1 7 rfl rfl)
theorem dX2_ride_30 : decode cX2_ride 30 = .ok (.iconst 1, 1) := dk_4 (dk_at dksX2_ride_1 8 rfl rfl)
theorem dX2_ride_31 : decode cX2_ride 31 = .ok (.invokevirtual 130, 3) := dk_182 0 130 (dk_at dksX2_ride_1 9 rfl rfl)
theorem dX2_ride_34 : decode cX2_ride 34 = .ok (.ifCond .ne 30, 3) := dk_154 0 30 (dk_at dksX2_ride_1 12 rfl rfl)
theorem dX2_ride_37 : decode cX2_ride 37 = .ok (.aload_n 0, 1) := dk_42 (dk_at dksX2_ride_1 15 rfl rfl)
theorem dX2_ride_38 : decode cX2_ride 38 = .ok (.iload_n 1, 1) := dk_27 (dk_at dksX2_ride_1 16 rfl rfl)
theorem dX2_ride_39 : decode cX2_ride 39 = .ok (.iconst 0, 1) := dk_3 (dk_at dksX2_ride_1 17 rfl rfl)
theorem dX2_ride_40 : decode cX2_ride 40 = .ok (.aload_n 0, 1) := dk_42 (dk_at dksX2_ride_1 18 rfl rfl)
theorem dX2_ride_41 : decode cX2_ride 41 = .ok (.getfield 72, 3) := dk_180 0 72 (dk_at dksX2_ride_1 19 rfl rfl)
theorem dX2_ride_44 : decode cX2_ride 44 = .ok (.iconst 1, 1) := dk_4 (dk_at dksX2_ride_1 22 rfl rfl)
theorem dX2_ride_45 : decode cX2_ride 45 = .ok (.isub, 1) := dk_100 (dk_at dksX2_ride_1 23 rfl rfl)
theorem dX2_ride_46 : decode cX2_ride 46 = .ok (.invokestatic 126, 3) := dk_184 0 126 (dk_at dksX2_ride_2 0 rfl rfl)
theorem dX2_ride_49 : decode cX2_ride 49 = .ok (.ifCond .ne 7, 3) := dk_154 0 7 (dk_at dksX2_ride_2 3 rfl rfl)
theorem dX2_ride_52 : decode cX2_ride 52 = .ok (.iconst 1, 1) := dk_4 (dk_at dksX2_ride_2 6 rfl rfl)
theorem dX2_ride_53 : decode cX2_ride 53 = .ok (.goto 4, 3) := dk_167 0 4 (dk_at dksX2_ride_2 7 rfl rfl)
theorem dX2_ride_56 : decode cX2_ride 56 = .ok (.iconst 0, 1) := dk_3 (dk_at dksX2_ride_2 10 rfl rfl)
theorem dX2_ride_57 : decode cX2_ride 57 = .ok (.iconst 2, 1) := dk_5 (dk_at dksX2_ride_2 11 rfl rfl)
theorem dX2_ride_58 : decode cX2_ride 58 = .ok (.invokevirtual 130, 3) := dk_182 0 130 (dk_at dksX2_ride_2 12 rfl rfl)
theorem dX2_ride_61 : decode cX2_ride 61 = .ok (.ifCond .eq 5, 3) := dk_153 0 5 (dk_at dksX2_ride_2 15 rfl rfl)
theorem dX2_ride_64 : decode cX2_ride 64 = .ok (.iconst 0, 1) := dk_3 (dk_at dksX2_ride_2 18 rfl rfl)
theorem dX2_ride_65 : decode cX2_ride 65 = .ok (.ireturn, 1) := dk_172 (dk_at dksX2_ride_2 19 rfl rfl)
theorem dX2_ride_66 : decode cX2_ride 66 = .ok (.iload_n 2, 1) := dk_28 (dk_at dksX2_ride_2 20 rfl rfl)
theorem dX2_ride_67 : decode cX2_ride 67 = .ok (.bipush 116, 2) := dk_16 116 (dk_at dksX2_ride_2 21 rfl rfl)
theorem dX2_ride_69 : decode cX2_ride 69 = .ok (.if_icmp .ne 15, 3) := dk_160 0 15 (dk_at dksX2_ride_3 0 rfl rfl)
theorem dX2_ride_72 : decode cX2_ride 72 = .ok (.aload_n 0, 1) := dk_42 (dk_at dksX2_ride_3 3 rfl rfl)
theorem dX2_ride_73 : decode cX2_ride 73 = .ok (.getfield 75, 3) := dk_180 0 75 (dk_at dksX2_ride_3 4 rfl rfl)
theorem dX2_ride_76 : decode cX2_ride 76 = .ok (.iload_n 1, 1) := dk_27 (dk_at dksX2_ride_3 7 rfl rfl)
theorem dX2_ride_77 : decode cX2_ride 77 = .ok (.iaload, 1) := dk_46 (dk_at dksX2_ride_3 8 rfl rfl)
theorem dX2_ride_78 : decode cX2_ride 78 = .ok (.bipush 24, 2) := dk_16 24 (dk_at dksX2_ride_3 9 rfl rfl)
theorem dX2_ride_80 : decode cX2_ride 80 = .ok (.irem, 1) := dk_112 (dk_at dksX2_ride_3 11 rfl rfl)
theorem dX2_ride_81 : decode cX2_ride 81 = .ok (.goto 44, 3) := dk_167 0 44 (dk_at dksX2_ride_3 12 rfl rfl)
theorem dX2_ride_84 : decode cX2_ride 84 = .ok (.iload_n 2, 1) := dk_28 (dk_at dksX2_ride_3 15 rfl rfl)
theorem dX2_ride_85 : decode cX2_ride 85 = .ok (.bipush 100, 2) := dk_16 100 (dk_at dksX2_ride_3 16 rfl rfl)
theorem dX2_ride_87 : decode cX2_ride 87 = .ok (.if_icmp .ne 17, 3) := dk_160 0 17 (dk_at dksX2_ride_3 18 rfl rfl)
theorem dX2_ride_90 : decode cX2_ride 90 = .ok (.aload_n 0, 1) := dk_42 (dk_at dksX2_ride_3 21 rfl rfl)
theorem dX2_ride_91 : decode cX2_ride 91 = .ok (.getfield 75, 3) := dk_180 0 75 (dk_at dksX2_ride_4 0 rfl rfl)
theorem dX2_ride_94 : decode cX2_ride 94 = .ok (.iload_n 1, 1) := dk_27 (dk_at dksX2_ride_4 3 rfl rfl)
theorem dX2_ride_95 : decode cX2_ride 95 = .ok (.iaload, 1) := dk_46 (dk_at dksX2_ride_4 4 rfl rfl)
theorem dX2_ride_96 : decode cX2_ride 96 = .ok (.bipush 24, 2) := dk_16 24 (dk_at dksX2_ride_4 5 rfl rfl)
theorem dX2_ride_98 : decode cX2_ride 98 = .ok (.idiv, 1) := dk_108 (dk_at dksX2_ride_4 7 rfl rfl)
theorem dX2_ride_99 : decode cX2_ride 99 = .ok (.iconst 1, 1) := dk_4 (dk_at dksX2_ride_4 8 rfl rfl)
theorem dX2_ride_100 : decode cX2_ride 100 = .ok (.isub, 1) := dk_100 (dk_at dksX2_ride_4 9 rfl rfl)
theorem dX2_ride_101 : decode cX2_ride 101 = .ok (.goto 24, 3) := dk_167 0 24 (dk_at dksX2_ride_4 10 rfl rfl)
theorem dX2_ride_104 : decode cX2_ride 104 = .ok (.iload_n 2, 1) := dk_28 (dk_at dksX2_ride_4 13 rfl rfl)
theorem dX2_ride_105 : decode cX2_ride 105 = .ok (.bipush 111, 2) := dk_16 111 (dk_at dksX2_ride_4 14 rfl rfl)
theorem dX2_ride_107 : decode cX2_ride 107 = .ok (.if_icmp .ne 12, 3) := dk_160 0 12 (dk_at dksX2_ride_4 16 rfl rfl)
theorem dX2_ride_110 : decode cX2_ride 110 = .ok (.aload_n 0, 1) := dk_42 (dk_at dksX2_ride_4 19 rfl rfl)
theorem dX2_ride_111 : decode cX2_ride 111 = .ok (.getfield 78, 3) := dk_180 0 78 (dk_at dksX2_ride_4 20 rfl rfl)
theorem dX2_ride_114 : decode cX2_ride 114 = .ok (.iload_n 1, 1) := dk_27 (dk_at dksX2_ride_4 23 rfl rfl)
theorem dX2_ride_115 : decode cX2_ride 115 = .ok (.iaload, 1) := dk_46 (dk_at dksX2_ride_5 0 rfl rfl)
theorem dX2_ride_116 : decode cX2_ride 116 = .ok (.goto 9, 3) := dk_167 0 9 (dk_at dksX2_ride_5 1 rfl rfl)
theorem dX2_ride_119 : decode cX2_ride 119 = .ok (.aload_n 0, 1) := dk_42 (dk_at dksX2_ride_5 4 rfl rfl)
theorem dX2_ride_120 : decode cX2_ride 120 = .ok (.getfield 81, 3) := dk_180 0 81 (dk_at dksX2_ride_5 5 rfl rfl)
theorem dX2_ride_123 : decode cX2_ride 123 = .ok (.iload_n 1, 1) := dk_27 (dk_at dksX2_ride_5 8 rfl rfl)
theorem dX2_ride_124 : decode cX2_ride 124 = .ok (.iaload, 1) := dk_46 (dk_at dksX2_ride_5 9 rfl rfl)
theorem dX2_ride_125 : decode cX2_ride 125 = .ok (.ireturn, 1) := dk_172 (dk_at dksX2_ride_5 10 rfl rfl)
abbrev cX2_pairs : ByteArray := prog_15_method_76_code
def yX2_pairs : MethodName := ⟨RX2, "pairs", "(III)I"⟩
def dkwX2_pairs_2 : List UInt8 := [28, 29, 182, 1, 32, 42, 180, 1, 23, 172]
abbrev dktX2_pairs_2 : List UInt8 := dkwX2_pairs_2 ++ []
def dkwX2_pairs_1 : List UInt8 := [16, 27, 184, 0, 126, 154, 0, 7, 4, 167, 0, 4, 3, 5, 182, 0, 130, 153, 0, 5, 3, 172, 42, 27]
abbrev dktX2_pairs_1 : List UInt8 := dkwX2_pairs_1 ++ dktX2_pairs_2
def dkwX2_pairs_0 : List UInt8 := [42, 27, 182, 0, 147, 154, 0, 39, 42, 28, 182, 0, 147, 154, 0, 31, 42, 27, 28, 159, 0, 13, 29, 3]
abbrev dktX2_pairs_0 : List UInt8 := dkwX2_pairs_0 ++ dktX2_pairs_1
theorem dksX2_pairs_0 : cX2_pairs.data.toList.drop 0 = dktX2_pairs_0 := by decide +kernel
theorem dksX2_pairs_1 : cX2_pairs.data.toList.drop 24 = dktX2_pairs_1 := dk_seg dksX2_pairs_0 24 rfl rfl
theorem dksX2_pairs_2 : cX2_pairs.data.toList.drop 48 = dktX2_pairs_2 := dk_seg dksX2_pairs_1 24 rfl rfl
theorem dX2_pairs_0 : decode cX2_pairs 0 = .ok (.aload_n 0, 1) := dk_42 (dk_at dksX2_pairs_0 0 rfl rfl)
theorem dX2_pairs_1 : decode cX2_pairs 1 = .ok (.iload_n 1, 1) := dk_27 (dk_at dksX2_pairs_0 1 rfl rfl)
theorem dX2_pairs_2 : decode cX2_pairs 2 = .ok (.invokevirtual 147, 3) := dk_182 0 147 (dk_at dksX2_pairs_0 2 rfl rfl)
theorem dX2_pairs_5 : decode cX2_pairs 5 = .ok (.ifCond .ne 39, 3) := dk_154 0 39 (dk_at dksX2_pairs_0 5 rfl rfl)
theorem dX2_pairs_8 : decode cX2_pairs 8 = .ok (.aload_n 0, 1) := dk_42 (dk_at dksX2_pairs_0 8 rfl rfl)
theorem dX2_pairs_9 : decode cX2_pairs 9 = .ok (.iload_n 2, 1) := dk_28 (dk_at dksX2_pairs_0 9 rfl rfl)
theorem dX2_pairs_10 : decode cX2_pairs 10 = .ok (.invokevirtual 147, 3) := dk_182 0 147 (dk_at dksX2_pairs_0 10 rfl rfl)
theorem dX2_pairs_13 : decode cX2_pairs 13 = .ok (.ifCond .ne 31, 3) := dk_154 0 31 (dk_at dksX2_pairs_0 13 rfl rfl)
theorem dX2_pairs_16 : decode cX2_pairs 16 = .ok (.aload_n 0, 1) := dk_42 (dk_at dksX2_pairs_0 16 rfl rfl)
theorem dX2_pairs_17 : decode cX2_pairs 17 = .ok (.iload_n 1, 1) := dk_27 (dk_at dksX2_pairs_0 17 rfl rfl)
theorem dX2_pairs_18 : decode cX2_pairs 18 = .ok (.iload_n 2, 1) := dk_28 (dk_at dksX2_pairs_0 18 rfl rfl)
theorem dX2_pairs_19 : decode cX2_pairs 19 = .ok (.if_icmp .eq 13, 3) := dk_159 0 13 (dk_at dksX2_pairs_0 19 rfl rfl)
theorem dX2_pairs_22 : decode cX2_pairs 22 = .ok (.iload_n 3, 1) := dk_29 (dk_at dksX2_pairs_0 22 rfl rfl)
theorem dX2_pairs_23 : decode cX2_pairs 23 = .ok (.iconst 0, 1) := dk_3 (dk_at dksX2_pairs_0 23 rfl rfl)
theorem dX2_pairs_24 : decode cX2_pairs 24 = .ok (.bipush 27, 2) := dk_16 27 (dk_at dksX2_pairs_1 0 rfl rfl)
theorem dX2_pairs_26 : decode cX2_pairs 26 = .ok (.invokestatic 126, 3) := dk_184 0 126 (dk_at dksX2_pairs_1 2 rfl rfl)
theorem dX2_pairs_29 : decode cX2_pairs 29 = .ok (.ifCond .ne 7, 3) := dk_154 0 7 (dk_at dksX2_pairs_1 5 rfl rfl)
theorem dX2_pairs_32 : decode cX2_pairs 32 = .ok (.iconst 1, 1) := dk_4 (dk_at dksX2_pairs_1 8 rfl rfl)
theorem dX2_pairs_33 : decode cX2_pairs 33 = .ok (.goto 4, 3) := dk_167 0 4 (dk_at dksX2_pairs_1 9 rfl rfl)
theorem dX2_pairs_36 : decode cX2_pairs 36 = .ok (.iconst 0, 1) := dk_3 (dk_at dksX2_pairs_1 12 rfl rfl)
theorem dX2_pairs_37 : decode cX2_pairs 37 = .ok (.iconst 2, 1) := dk_5 (dk_at dksX2_pairs_1 13 rfl rfl)
theorem dX2_pairs_38 : decode cX2_pairs 38 = .ok (.invokevirtual 130, 3) := dk_182 0 130 (dk_at dksX2_pairs_1 14 rfl rfl)
theorem dX2_pairs_41 : decode cX2_pairs 41 = .ok (.ifCond .eq 5, 3) := dk_153 0 5 (dk_at dksX2_pairs_1 17 rfl rfl)
theorem dX2_pairs_44 : decode cX2_pairs 44 = .ok (.iconst 0, 1) := dk_3 (dk_at dksX2_pairs_1 20 rfl rfl)
theorem dX2_pairs_45 : decode cX2_pairs 45 = .ok (.ireturn, 1) := dk_172 (dk_at dksX2_pairs_1 21 rfl rfl)
theorem dX2_pairs_46 : decode cX2_pairs 46 = .ok (.aload_n 0, 1) := dk_42 (dk_at dksX2_pairs_1 22 rfl rfl)
theorem dX2_pairs_47 : decode cX2_pairs 47 = .ok (.iload_n 1, 1) := dk_27 (dk_at dksX2_pairs_1 23 rfl rfl)
theorem dX2_pairs_48 : decode cX2_pairs 48 = .ok (.iload_n 2, 1) := dk_28 (dk_at dksX2_pairs_2 0 rfl rfl)
theorem dX2_pairs_49 : decode cX2_pairs 49 = .ok (.iload_n 3, 1) := dk_29 (dk_at dksX2_pairs_2 1 rfl rfl)
theorem dX2_pairs_50 : decode cX2_pairs 50 = .ok (.invokevirtual 288, 3) := dk_182 1 32 (dk_at dksX2_pairs_2 2 rfl rfl)
theorem dX2_pairs_53 : decode cX2_pairs 53 = .ok (.aload_n 0, 1) := dk_42 (dk_at dksX2_pairs_2 5 rfl rfl)
theorem dX2_pairs_54 : decode cX2_pairs 54 = .ok (.getfield 279, 3) := dk_180 1 23 (dk_at dksX2_pairs_2 6 rfl rfl)
theorem dX2_pairs_57 : decode cX2_pairs 57 = .ok (.ireturn, 1) := dk_172 (dk_at dksX2_pairs_2 9 rfl rfl)
abbrev cX2_tellPairs : ByteArray := prog_15_method_74_code
def yX2_tellPairs : MethodName := ⟨RX2, "tellPairs", "(III)V"⟩
def dkwX2_tellPairs_4 : List UInt8 := [181, 1, 23, 21, 6, 54, 4, 167, 255, 174, 177]
abbrev dktX2_tellPairs_4 : List UInt8 := dkwX2_tellPairs_4 ++ []
def dkwX2_tellPairs_3 : List UInt8 := [180, 1, 23, 21, 6, 79, 42, 180, 0, 87, 42, 180, 1, 23, 21, 7, 79, 42, 89, 180, 1, 23, 4, 96]
abbrev dktX2_tellPairs_3 : List UInt8 := dkwX2_tellPairs_3 ++ dktX2_tellPairs_4
def dkwX2_tellPairs_2 : List UInt8 := [42, 28, 182, 1, 29, 54, 7, 21, 7, 21, 5, 162, 0, 39, 21, 7, 54, 5, 42, 180, 0, 84, 42]
abbrev dktX2_tellPairs_2 : List UInt8 := dkwX2_tellPairs_2 ++ dktX2_tellPairs_3
def dkwX2_tellPairs_1 : List UInt8 := [182, 1, 26, 54, 6, 21, 6, 156, 0, 6, 167, 0, 71, 42, 27, 21, 6, 182, 0, 229, 42, 182, 0, 232]
abbrev dktX2_tellPairs_1 : List UInt8 := dkwX2_tellPairs_1 ++ dktX2_tellPairs_2
def dkwX2_tellPairs_0 : List UInt8 := [42, 29, 181, 0, 198, 42, 3, 181, 1, 23, 18, 150, 54, 4, 18, 150, 54, 5, 42, 27, 21, 4]
abbrev dktX2_tellPairs_0 : List UInt8 := dkwX2_tellPairs_0 ++ dktX2_tellPairs_1
theorem dksX2_tellPairs_0 : cX2_tellPairs.data.toList.drop 0 = dktX2_tellPairs_0 := by decide +kernel
theorem dksX2_tellPairs_1 : cX2_tellPairs.data.toList.drop 22 = dktX2_tellPairs_1 := dk_seg dksX2_tellPairs_0 22 rfl rfl
theorem dksX2_tellPairs_2 : cX2_tellPairs.data.toList.drop 46 = dktX2_tellPairs_2 := dk_seg dksX2_tellPairs_1 24 rfl rfl
theorem dksX2_tellPairs_3 : cX2_tellPairs.data.toList.drop 69 = dktX2_tellPairs_3 := dk_seg dksX2_tellPairs_2 23 rfl rfl
theorem dksX2_tellPairs_4 : cX2_tellPairs.data.toList.drop 93 = dktX2_tellPairs_4 := dk_seg dksX2_tellPairs_3 24 rfl rfl
theorem dX2_tellPairs_0 : decode cX2_tellPairs 0 = .ok (.aload_n 0, 1) := dk_42 (dk_at dksX2_tellPairs_0 0 rfl rfl)
theorem dX2_tellPairs_1 : decode cX2_tellPairs 1 = .ok (.iload_n 3, 1) := dk_29 (dk_at dksX2_tellPairs_0 1 rfl rfl)
theorem dX2_tellPairs_2 : decode cX2_tellPairs 2 = .ok (.putfield 198, 3) := dk_181 0 198 (dk_at dksX2_tellPairs_0 2 rfl rfl)
theorem dX2_tellPairs_5 : decode cX2_tellPairs 5 = .ok (.aload_n 0, 1) := dk_42 (dk_at dksX2_tellPairs_0 5 rfl rfl)
theorem dX2_tellPairs_6 : decode cX2_tellPairs 6 = .ok (.iconst 0, 1) := dk_3 (dk_at dksX2_tellPairs_0 6 rfl rfl)
theorem dX2_tellPairs_7 : decode cX2_tellPairs 7 = .ok (.putfield 279, 3) := dk_181 1 23 (dk_at dksX2_tellPairs_0 7 rfl rfl)
theorem dX2_tellPairs_10 : decode cX2_tellPairs 10 = .ok (.ldc 150, 2) := dk_18 150 (dk_at dksX2_tellPairs_0 10 rfl rfl)
theorem dX2_tellPairs_12 : decode cX2_tellPairs 12 = .ok (.istore 4, 2) := dk_54 4 (dk_at dksX2_tellPairs_0 12 rfl rfl)
theorem dX2_tellPairs_14 : decode cX2_tellPairs 14 = .ok (.ldc 150, 2) := dk_18 150 (dk_at dksX2_tellPairs_0 14 rfl rfl)
theorem dX2_tellPairs_16 : decode cX2_tellPairs 16 = .ok (.istore 5, 2) := dk_54 5 (dk_at dksX2_tellPairs_0 16 rfl rfl)
theorem dX2_tellPairs_18 : decode cX2_tellPairs 18 = .ok (.aload_n 0, 1) := dk_42 (dk_at dksX2_tellPairs_0 18 rfl rfl)
theorem dX2_tellPairs_19 : decode cX2_tellPairs 19 = .ok (.iload_n 1, 1) := dk_27 (dk_at dksX2_tellPairs_0 19 rfl rfl)
theorem dX2_tellPairs_20 : decode cX2_tellPairs 20 = .ok (.iload 4, 2) := dk_21 4 (dk_at dksX2_tellPairs_0 20 rfl rfl)
theorem dX2_tellPairs_22 : decode cX2_tellPairs 22 = .ok (.invokevirtual 282, 3) := dk_182 1 26 (dk_at dksX2_tellPairs_1 0 rfl rfl)
theorem dX2_tellPairs_25 : decode cX2_tellPairs 25 = .ok (.istore 6, 2) := dk_54 6 (dk_at dksX2_tellPairs_1 3 rfl rfl)
theorem dX2_tellPairs_27 : decode cX2_tellPairs 27 = .ok (.iload 6, 2) := dk_21 6 (dk_at dksX2_tellPairs_1 5 rfl rfl)
theorem dX2_tellPairs_29 : decode cX2_tellPairs 29 = .ok (.ifCond .ge 6, 3) := dk_156 0 6 (dk_at dksX2_tellPairs_1 7 rfl rfl)
theorem dX2_tellPairs_32 : decode cX2_tellPairs 32 = .ok (.goto 71, 3) := dk_167 0 71 (dk_at dksX2_tellPairs_1 10 rfl rfl)
theorem dX2_tellPairs_35 : decode cX2_tellPairs 35 = .ok (.aload_n 0, 1) := dk_42 (dk_at dksX2_tellPairs_1 13 rfl rfl)
theorem dX2_tellPairs_36 : decode cX2_tellPairs 36 = .ok (.iload_n 1, 1) := dk_27 (dk_at dksX2_tellPairs_1 14 rfl rfl)
theorem dX2_tellPairs_37 : decode cX2_tellPairs 37 = .ok (.iload 6, 2) := dk_21 6 (dk_at dksX2_tellPairs_1 15 rfl rfl)
theorem dX2_tellPairs_39 : decode cX2_tellPairs 39 = .ok (.invokevirtual 229, 3) := dk_182 0 229 (dk_at dksX2_tellPairs_1 17 rfl rfl)
theorem dX2_tellPairs_42 : decode cX2_tellPairs 42 = .ok (.aload_n 0, 1) := dk_42 (dk_at dksX2_tellPairs_1 20 rfl rfl)
theorem dX2_tellPairs_43 : decode cX2_tellPairs 43 = .ok (.invokevirtual 232, 3) := dk_182 0 232 (dk_at dksX2_tellPairs_1 21 rfl rfl)
theorem dX2_tellPairs_46 : decode cX2_tellPairs 46 = .ok (.aload_n 0, 1) := dk_42 (dk_at dksX2_tellPairs_2 0 rfl rfl)
theorem dX2_tellPairs_47 : decode cX2_tellPairs 47 = .ok (.iload_n 2, 1) := dk_28 (dk_at dksX2_tellPairs_2 1 rfl rfl)
theorem dX2_tellPairs_48 : decode cX2_tellPairs 48 = .ok (.invokevirtual 285, 3) := dk_182 1 29 (dk_at dksX2_tellPairs_2 2 rfl rfl)
theorem dX2_tellPairs_51 : decode cX2_tellPairs 51 = .ok (.istore 7, 2) := dk_54 7 (dk_at dksX2_tellPairs_2 5 rfl rfl)
theorem dX2_tellPairs_53 : decode cX2_tellPairs 53 = .ok (.iload 7, 2) := dk_21 7 (dk_at dksX2_tellPairs_2 7 rfl rfl)
theorem dX2_tellPairs_55 : decode cX2_tellPairs 55 = .ok (.iload 5, 2) := dk_21 5 (dk_at dksX2_tellPairs_2 9 rfl rfl)
theorem dX2_tellPairs_57 : decode cX2_tellPairs 57 = .ok (.if_icmp .ge 39, 3) := dk_162 0 39 (dk_at dksX2_tellPairs_2 11 rfl rfl)
theorem dX2_tellPairs_60 : decode cX2_tellPairs 60 = .ok (.iload 7, 2) := dk_21 7 (dk_at dksX2_tellPairs_2 14 rfl rfl)
theorem dX2_tellPairs_62 : decode cX2_tellPairs 62 = .ok (.istore 5, 2) := dk_54 5 (dk_at dksX2_tellPairs_2 16 rfl rfl)
theorem dX2_tellPairs_64 : decode cX2_tellPairs 64 = .ok (.aload_n 0, 1) := dk_42 (dk_at dksX2_tellPairs_2 18 rfl rfl)
theorem dX2_tellPairs_65 : decode cX2_tellPairs 65 = .ok (.getfield 84, 3) := dk_180 0 84 (dk_at dksX2_tellPairs_2 19 rfl rfl)
theorem dX2_tellPairs_68 : decode cX2_tellPairs 68 = .ok (.aload_n 0, 1) := dk_42 (dk_at dksX2_tellPairs_2 22 rfl rfl)
theorem dX2_tellPairs_69 : decode cX2_tellPairs 69 = .ok (.getfield 279, 3) := dk_180 1 23 (dk_at dksX2_tellPairs_3 0 rfl rfl)
theorem dX2_tellPairs_72 : decode cX2_tellPairs 72 = .ok (.iload 6, 2) := dk_21 6 (dk_at dksX2_tellPairs_3 3 rfl rfl)
theorem dX2_tellPairs_74 : decode cX2_tellPairs 74 = .ok (.iastore, 1) := dk_79 (dk_at dksX2_tellPairs_3 5 rfl rfl)
theorem dX2_tellPairs_75 : decode cX2_tellPairs 75 = .ok (.aload_n 0, 1) := dk_42 (dk_at dksX2_tellPairs_3 6 rfl rfl)
theorem dX2_tellPairs_76 : decode cX2_tellPairs 76 = .ok (.getfield 87, 3) := dk_180 0 87 (dk_at dksX2_tellPairs_3 7 rfl rfl)
theorem dX2_tellPairs_79 : decode cX2_tellPairs 79 = .ok (.aload_n 0, 1) := dk_42 (dk_at dksX2_tellPairs_3 10 rfl rfl)
theorem dX2_tellPairs_80 : decode cX2_tellPairs 80 = .ok (.getfield 279, 3) := dk_180 1 23 (dk_at dksX2_tellPairs_3 11 rfl rfl)
theorem dX2_tellPairs_83 : decode cX2_tellPairs 83 = .ok (.iload 7, 2) := dk_21 7 (dk_at dksX2_tellPairs_3 14 rfl rfl)
theorem dX2_tellPairs_85 : decode cX2_tellPairs 85 = .ok (.iastore, 1) := dk_79 (dk_at dksX2_tellPairs_3 16 rfl rfl)
theorem dX2_tellPairs_86 : decode cX2_tellPairs 86 = .ok (.aload_n 0, 1) := dk_42 (dk_at dksX2_tellPairs_3 17 rfl rfl)
theorem dX2_tellPairs_87 : decode cX2_tellPairs 87 = .ok (.dup, 1) := dk_89 (dk_at dksX2_tellPairs_3 18 rfl rfl)
theorem dX2_tellPairs_88 : decode cX2_tellPairs 88 = .ok (.getfield 279, 3) := dk_180 1 23 (dk_at dksX2_tellPairs_3 19 rfl rfl)
theorem dX2_tellPairs_91 : decode cX2_tellPairs 91 = .ok (.iconst 1, 1) := dk_4 (dk_at dksX2_tellPairs_3 22 rfl rfl)
theorem dX2_tellPairs_92 : decode cX2_tellPairs 92 = .ok (.iadd, 1) := dk_96 (dk_at dksX2_tellPairs_3 23 rfl rfl)
theorem dX2_tellPairs_93 : decode cX2_tellPairs 93 = .ok (.putfield 279, 3) := dk_181 1 23 (dk_at dksX2_tellPairs_4 0 rfl rfl)
theorem dX2_tellPairs_96 : decode cX2_tellPairs 96 = .ok (.iload 6, 2) := dk_21 6 (dk_at dksX2_tellPairs_4 3 rfl rfl)
theorem dX2_tellPairs_98 : decode cX2_tellPairs 98 = .ok (.istore 4, 2) := dk_54 4 (dk_at dksX2_tellPairs_4 5 rfl rfl)
theorem dX2_tellPairs_100 : decode cX2_tellPairs 100 = .ok (.goto (-82), 3) := dk_167 255 174 (dk_at dksX2_tellPairs_4 7 rfl rfl)
theorem dX2_tellPairs_103 : decode cX2_tellPairs 103 = .ok (.return_, 1) := dk_177 (dk_at dksX2_tellPairs_4 10 rfl rfl)
abbrev cX2_leaveBefore : ByteArray := prog_15_method_75_code
def yX2_leaveBefore : MethodName := ⟨RX2, "leaveBefore", "(II)I"⟩
def dkwX2_leaveBefore_4 : List UInt8 := [164, 0, 8, 21, 7, 167, 0, 4, 29, 62, 132, 5, 1, 167, 255, 165, 132, 4, 1, 167, 255, 149, 29, 172]
abbrev dktX2_leaveBefore_4 : List UInt8 := dkwX2_leaveBefore_4 ++ []
def dkwX2_leaveBefore_3 : List UInt8 := [46, 100, 54, 7, 21, 6, 155, 0, 25, 21, 7, 155, 0, 20, 21, 7, 28, 162, 0, 14, 21, 7, 29]
abbrev dktX2_leaveBefore_3 : List UInt8 := dkwX2_leaveBefore_3 ++ dktX2_leaveBefore_4
def dkwX2_leaveBefore_2 : List UInt8 := [182, 0, 223, 54, 6, 21, 6, 42, 180, 0, 16, 16, 12, 27, 104, 42, 21, 4, 21, 5, 182, 0, 214, 96]
abbrev dktX2_leaveBefore_2 : List UInt8 := dkwX2_leaveBefore_2 ++ dktX2_leaveBefore_3
def dkwX2_leaveBefore_1 : List UInt8 := [21, 5, 4, 96, 42, 180, 0, 30, 21, 4, 16, 24, 112, 46, 162, 0, 71, 42, 21, 4, 21, 5]
abbrev dktX2_leaveBefore_1 : List UInt8 := dkwX2_leaveBefore_1 ++ dktX2_leaveBefore_2
def dkwX2_leaveBefore_0 : List UInt8 := [2, 62, 3, 54, 4, 21, 4, 16, 72, 162, 0, 106, 3, 54, 5, 42, 21, 4, 182, 0, 208, 153, 0, 88]
abbrev dktX2_leaveBefore_0 : List UInt8 := dkwX2_leaveBefore_0 ++ dktX2_leaveBefore_1
theorem dksX2_leaveBefore_0 : cX2_leaveBefore.data.toList.drop 0 = dktX2_leaveBefore_0 := by decide +kernel
theorem dksX2_leaveBefore_1 : cX2_leaveBefore.data.toList.drop 24 = dktX2_leaveBefore_1 := dk_seg dksX2_leaveBefore_0 24 rfl rfl
theorem dksX2_leaveBefore_2 : cX2_leaveBefore.data.toList.drop 46 = dktX2_leaveBefore_2 := dk_seg dksX2_leaveBefore_1 22 rfl rfl
theorem dksX2_leaveBefore_3 : cX2_leaveBefore.data.toList.drop 70 = dktX2_leaveBefore_3 := dk_seg dksX2_leaveBefore_2 24 rfl rfl
theorem dksX2_leaveBefore_4 : cX2_leaveBefore.data.toList.drop 93 = dktX2_leaveBefore_4 := dk_seg dksX2_leaveBefore_3 23 rfl rfl
theorem dX2_leaveBefore_0 : decode cX2_leaveBefore 0 = .ok (.iconst (-1), 1) := dk_2 (dk_at dksX2_leaveBefore_0 0 rfl rfl)
theorem dX2_leaveBefore_1 : decode cX2_leaveBefore 1 = .ok (.istore_n 3, 1) := dk_62 (dk_at dksX2_leaveBefore_0 1 rfl rfl)
theorem dX2_leaveBefore_2 : decode cX2_leaveBefore 2 = .ok (.iconst 0, 1) := dk_3 (dk_at dksX2_leaveBefore_0 2 rfl rfl)
theorem dX2_leaveBefore_3 : decode cX2_leaveBefore 3 = .ok (.istore 4, 2) := dk_54 4 (dk_at dksX2_leaveBefore_0 3 rfl rfl)
theorem dX2_leaveBefore_5 : decode cX2_leaveBefore 5 = .ok (.iload 4, 2) := dk_21 4 (dk_at dksX2_leaveBefore_0 5 rfl rfl)
theorem dX2_leaveBefore_7 : decode cX2_leaveBefore 7 = .ok (.bipush 72, 2) := dk_16 72 (dk_at dksX2_leaveBefore_0 7 rfl rfl)
theorem dX2_leaveBefore_9 : decode cX2_leaveBefore 9 = .ok (.if_icmp .ge 106, 3) := dk_162 0 106 (dk_at dksX2_leaveBefore_0 9 rfl rfl)
theorem dX2_leaveBefore_12 : decode cX2_leaveBefore 12 = .ok (.iconst 0, 1) := dk_3 (dk_at dksX2_leaveBefore_0 12 rfl rfl)
theorem dX2_leaveBefore_13 : decode cX2_leaveBefore 13 = .ok (.istore 5, 2) := dk_54 5 (dk_at dksX2_leaveBefore_0 13 rfl rfl)
theorem dX2_leaveBefore_15 : decode cX2_leaveBefore 15 = .ok (.aload_n 0, 1) := dk_42 (dk_at dksX2_leaveBefore_0 15 rfl rfl)
theorem dX2_leaveBefore_16 : decode cX2_leaveBefore 16 = .ok (.iload 4, 2) := dk_21 4 (dk_at dksX2_leaveBefore_0 16 rfl rfl)
theorem dX2_leaveBefore_18 : decode cX2_leaveBefore 18 = .ok (.invokevirtual 208, 3) := dk_182 0 208 (dk_at dksX2_leaveBefore_0 18 rfl rfl)
theorem dX2_leaveBefore_21 : decode cX2_leaveBefore 21 = .ok (.ifCond .eq 88, 3) := dk_153 0 88 (dk_at dksX2_leaveBefore_0 21 rfl rfl)
theorem dX2_leaveBefore_24 : decode cX2_leaveBefore 24 = .ok (.iload 5, 2) := dk_21 5 (dk_at dksX2_leaveBefore_1 0 rfl rfl)
theorem dX2_leaveBefore_26 : decode cX2_leaveBefore 26 = .ok (.iconst 1, 1) := dk_4 (dk_at dksX2_leaveBefore_1 2 rfl rfl)
theorem dX2_leaveBefore_27 : decode cX2_leaveBefore 27 = .ok (.iadd, 1) := dk_96 (dk_at dksX2_leaveBefore_1 3 rfl rfl)
theorem dX2_leaveBefore_28 : decode cX2_leaveBefore 28 = .ok (.aload_n 0, 1) := dk_42 (dk_at dksX2_leaveBefore_1 4 rfl rfl)
theorem dX2_leaveBefore_29 : decode cX2_leaveBefore 29 = .ok (.getfield 30, 3) := dk_180 0 30 (dk_at dksX2_leaveBefore_1 5 rfl rfl)
theorem dX2_leaveBefore_32 : decode cX2_leaveBefore 32 = .ok (.iload 4, 2) := dk_21 4 (dk_at dksX2_leaveBefore_1 8 rfl rfl)
theorem dX2_leaveBefore_34 : decode cX2_leaveBefore 34 = .ok (.bipush 24, 2) := dk_16 24 (dk_at dksX2_leaveBefore_1 10 rfl rfl)
theorem dX2_leaveBefore_36 : decode cX2_leaveBefore 36 = .ok (.irem, 1) := dk_112 (dk_at dksX2_leaveBefore_1 12 rfl rfl)
theorem dX2_leaveBefore_37 : decode cX2_leaveBefore 37 = .ok (.iaload, 1) := dk_46 (dk_at dksX2_leaveBefore_1 13 rfl rfl)
theorem dX2_leaveBefore_38 : decode cX2_leaveBefore 38 = .ok (.if_icmp .ge 71, 3) := dk_162 0 71 (dk_at dksX2_leaveBefore_1 14 rfl rfl)
theorem dX2_leaveBefore_41 : decode cX2_leaveBefore 41 = .ok (.aload_n 0, 1) := dk_42 (dk_at dksX2_leaveBefore_1 17 rfl rfl)
theorem dX2_leaveBefore_42 : decode cX2_leaveBefore 42 = .ok (.iload 4, 2) := dk_21 4 (dk_at dksX2_leaveBefore_1 18 rfl rfl)
theorem dX2_leaveBefore_44 : decode cX2_leaveBefore 44 = .ok (.iload 5, 2) := dk_21 5 (dk_at dksX2_leaveBefore_1 20 rfl rfl)
theorem dX2_leaveBefore_46 : decode cX2_leaveBefore 46 = .ok (.invokevirtual 223, 3) := dk_182 0 223 (dk_at dksX2_leaveBefore_2 0 rfl rfl)
theorem dX2_leaveBefore_49 : decode cX2_leaveBefore 49 = .ok (.istore 6, 2) := dk_54 6 (dk_at dksX2_leaveBefore_2 3 rfl rfl)
theorem dX2_leaveBefore_51 : decode cX2_leaveBefore 51 = .ok (.iload 6, 2) := dk_21 6 (dk_at dksX2_leaveBefore_2 5 rfl rfl)
theorem dX2_leaveBefore_53 : decode cX2_leaveBefore 53 = .ok (.aload_n 0, 1) := dk_42 (dk_at dksX2_leaveBefore_2 7 rfl rfl)
theorem dX2_leaveBefore_54 : decode cX2_leaveBefore 54 = .ok (.getfield 16, 3) := dk_180 0 16 (dk_at dksX2_leaveBefore_2 8 rfl rfl)
theorem dX2_leaveBefore_57 : decode cX2_leaveBefore 57 = .ok (.bipush 12, 2) := dk_16 12 (dk_at dksX2_leaveBefore_2 11 rfl rfl)
theorem dX2_leaveBefore_59 : decode cX2_leaveBefore 59 = .ok (.iload_n 1, 1) := dk_27 (dk_at dksX2_leaveBefore_2 13 rfl rfl)
theorem dX2_leaveBefore_60 : decode cX2_leaveBefore 60 = .ok (.imul, 1) := dk_104 (dk_at dksX2_leaveBefore_2 14 rfl rfl)
theorem dX2_leaveBefore_61 : decode cX2_leaveBefore 61 = .ok (.aload_n 0, 1) := dk_42 (dk_at dksX2_leaveBefore_2 15 rfl rfl)
theorem dX2_leaveBefore_62 : decode cX2_leaveBefore 62 = .ok (.iload 4, 2) := dk_21 4 (dk_at dksX2_leaveBefore_2 16 rfl rfl)
theorem dX2_leaveBefore_64 : decode cX2_leaveBefore 64 = .ok (.iload 5, 2) := dk_21 5 (dk_at dksX2_leaveBefore_2 18 rfl rfl)
theorem dX2_leaveBefore_66 : decode cX2_leaveBefore 66 = .ok (.invokevirtual 214, 3) := dk_182 0 214 (dk_at dksX2_leaveBefore_2 20 rfl rfl)
theorem dX2_leaveBefore_69 : decode cX2_leaveBefore 69 = .ok (.iadd, 1) := dk_96 (dk_at dksX2_leaveBefore_2 23 rfl rfl)
theorem dX2_leaveBefore_70 : decode cX2_leaveBefore 70 = .ok (.iaload, 1) := dk_46 (dk_at dksX2_leaveBefore_3 0 rfl rfl)
theorem dX2_leaveBefore_71 : decode cX2_leaveBefore 71 = .ok (.isub, 1) := dk_100 (dk_at dksX2_leaveBefore_3 1 rfl rfl)
theorem dX2_leaveBefore_72 : decode cX2_leaveBefore 72 = .ok (.istore 7, 2) := dk_54 7 (dk_at dksX2_leaveBefore_3 2 rfl rfl)
theorem dX2_leaveBefore_74 : decode cX2_leaveBefore 74 = .ok (.iload 6, 2) := dk_21 6 (dk_at dksX2_leaveBefore_3 4 rfl rfl)
theorem dX2_leaveBefore_76 : decode cX2_leaveBefore 76 = .ok (.ifCond .lt 25, 3) := dk_155 0 25 (dk_at dksX2_leaveBefore_3 6 rfl rfl)
theorem dX2_leaveBefore_79 : decode cX2_leaveBefore 79 = .ok (.iload 7, 2) := dk_21 7 (dk_at dksX2_leaveBefore_3 9 rfl rfl)
theorem dX2_leaveBefore_81 : decode cX2_leaveBefore 81 = .ok (.ifCond .lt 20, 3) := dk_155 0 20 (dk_at dksX2_leaveBefore_3 11 rfl rfl)
theorem dX2_leaveBefore_84 : decode cX2_leaveBefore 84 = .ok (.iload 7, 2) := dk_21 7 (dk_at dksX2_leaveBefore_3 14 rfl rfl)
theorem dX2_leaveBefore_86 : decode cX2_leaveBefore 86 = .ok (.iload_n 2, 1) := dk_28 (dk_at dksX2_leaveBefore_3 16 rfl rfl)
theorem dX2_leaveBefore_87 : decode cX2_leaveBefore 87 = .ok (.if_icmp .ge 14, 3) := dk_162 0 14 (dk_at dksX2_leaveBefore_3 17 rfl rfl)
theorem dX2_leaveBefore_90 : decode cX2_leaveBefore 90 = .ok (.iload 7, 2) := dk_21 7 (dk_at dksX2_leaveBefore_3 20 rfl rfl)
theorem dX2_leaveBefore_92 : decode cX2_leaveBefore 92 = .ok (.iload_n 3, 1) := dk_29 (dk_at dksX2_leaveBefore_3 22 rfl rfl)
theorem dX2_leaveBefore_93 : decode cX2_leaveBefore 93 = .ok (.if_icmp .le 8, 3) := dk_164 0 8 (dk_at dksX2_leaveBefore_4 0 rfl rfl)
theorem dX2_leaveBefore_96 : decode cX2_leaveBefore 96 = .ok (.iload 7, 2) := dk_21 7 (dk_at dksX2_leaveBefore_4 3 rfl rfl)
theorem dX2_leaveBefore_98 : decode cX2_leaveBefore 98 = .ok (.goto 4, 3) := dk_167 0 4 (dk_at dksX2_leaveBefore_4 5 rfl rfl)
theorem dX2_leaveBefore_101 : decode cX2_leaveBefore 101 = .ok (.iload_n 3, 1) := dk_29 (dk_at dksX2_leaveBefore_4 8 rfl rfl)
theorem dX2_leaveBefore_102 : decode cX2_leaveBefore 102 = .ok (.istore_n 3, 1) := dk_62 (dk_at dksX2_leaveBefore_4 9 rfl rfl)
theorem dX2_leaveBefore_103 : decode cX2_leaveBefore 103 = .ok (.iinc 5 1, 3) := dk_132 5 1 (dk_at dksX2_leaveBefore_4 10 rfl rfl)
theorem dX2_leaveBefore_106 : decode cX2_leaveBefore 106 = .ok (.goto (-91), 3) := dk_167 255 165 (dk_at dksX2_leaveBefore_4 13 rfl rfl)
theorem dX2_leaveBefore_109 : decode cX2_leaveBefore 109 = .ok (.iinc 4 1, 3) := dk_132 4 1 (dk_at dksX2_leaveBefore_4 16 rfl rfl)
theorem dX2_leaveBefore_112 : decode cX2_leaveBefore 112 = .ok (.goto (-107), 3) := dk_167 255 149 (dk_at dksX2_leaveBefore_4 19 rfl rfl)
theorem dX2_leaveBefore_115 : decode cX2_leaveBefore 115 = .ok (.iload_n 3, 1) := dk_29 (dk_at dksX2_leaveBefore_4 22 rfl rfl)
theorem dX2_leaveBefore_116 : decode cX2_leaveBefore 116 = .ok (.ireturn, 1) := dk_172 (dk_at dksX2_leaveBefore_4 23 rfl rfl)
abbrev cX2_byRide : ByteArray := prog_15_method_54_code
def yX2_byRide : MethodName := ⟨RX2, "byRide", "(I)I"⟩
def dkwX2_byRide_2 : List UInt8 := [28, 61, 132, 3, 1, 167, 255, 212, 28, 172]
abbrev dktX2_byRide_2 : List UInt8 := dkwX2_byRide_2 ++ []
def dkwX2_byRide_1 : List UInt8 := [180, 0, 16, 16, 12, 29, 104, 27, 96, 46, 96, 54, 4, 21, 4, 28, 162, 0, 8, 21, 4, 167, 0, 4]
abbrev dktX2_byRide_1 : List UInt8 := dkwX2_byRide_1 ++ dktX2_byRide_2
def dkwX2_byRide_0 : List UInt8 := [42, 180, 0, 63, 27, 46, 61, 3, 62, 29, 42, 180, 0, 123, 162, 0, 42, 42, 180, 0, 63, 29, 46, 42]
abbrev dktX2_byRide_0 : List UInt8 := dkwX2_byRide_0 ++ dktX2_byRide_1
theorem dksX2_byRide_0 : cX2_byRide.data.toList.drop 0 = dktX2_byRide_0 := by decide +kernel
theorem dksX2_byRide_1 : cX2_byRide.data.toList.drop 24 = dktX2_byRide_1 := dk_seg dksX2_byRide_0 24 rfl rfl
theorem dksX2_byRide_2 : cX2_byRide.data.toList.drop 48 = dktX2_byRide_2 := dk_seg dksX2_byRide_1 24 rfl rfl
theorem dX2_byRide_0 : decode cX2_byRide 0 = .ok (.aload_n 0, 1) := dk_42 (dk_at dksX2_byRide_0 0 rfl rfl)
theorem dX2_byRide_1 : decode cX2_byRide 1 = .ok (.getfield 63, 3) := dk_180 0 63 (dk_at dksX2_byRide_0 1 rfl rfl)
theorem dX2_byRide_4 : decode cX2_byRide 4 = .ok (.iload_n 1, 1) := dk_27 (dk_at dksX2_byRide_0 4 rfl rfl)
theorem dX2_byRide_5 : decode cX2_byRide 5 = .ok (.iaload, 1) := dk_46 (dk_at dksX2_byRide_0 5 rfl rfl)
theorem dX2_byRide_6 : decode cX2_byRide 6 = .ok (.istore_n 2, 1) := dk_61 (dk_at dksX2_byRide_0 6 rfl rfl)
theorem dX2_byRide_7 : decode cX2_byRide 7 = .ok (.iconst 0, 1) := dk_3 (dk_at dksX2_byRide_0 7 rfl rfl)
theorem dX2_byRide_8 : decode cX2_byRide 8 = .ok (.istore_n 3, 1) := dk_62 (dk_at dksX2_byRide_0 8 rfl rfl)
theorem dX2_byRide_9 : decode cX2_byRide 9 = .ok (.iload_n 3, 1) := dk_29 (dk_at dksX2_byRide_0 9 rfl rfl)
theorem dX2_byRide_10 : decode cX2_byRide 10 = .ok (.aload_n 0, 1) := dk_42 (dk_at dksX2_byRide_0 10 rfl rfl)
theorem dX2_byRide_11 : decode cX2_byRide 11 = .ok (.getfield 123, 3) := dk_180 0 123 (dk_at dksX2_byRide_0 11 rfl rfl)
theorem dX2_byRide_14 : decode cX2_byRide 14 = .ok (.if_icmp .ge 42, 3) := dk_162 0 42 (dk_at dksX2_byRide_0 14 rfl rfl)
theorem dX2_byRide_17 : decode cX2_byRide 17 = .ok (.aload_n 0, 1) := dk_42 (dk_at dksX2_byRide_0 17 rfl rfl)
theorem dX2_byRide_18 : decode cX2_byRide 18 = .ok (.getfield 63, 3) := dk_180 0 63 (dk_at dksX2_byRide_0 18 rfl rfl)
theorem dX2_byRide_21 : decode cX2_byRide 21 = .ok (.iload_n 3, 1) := dk_29 (dk_at dksX2_byRide_0 21 rfl rfl)
theorem dX2_byRide_22 : decode cX2_byRide 22 = .ok (.iaload, 1) := dk_46 (dk_at dksX2_byRide_0 22 rfl rfl)
theorem dX2_byRide_23 : decode cX2_byRide 23 = .ok (.aload_n 0, 1) := dk_42 (dk_at dksX2_byRide_0 23 rfl rfl)
theorem dX2_byRide_24 : decode cX2_byRide 24 = .ok (.getfield 16, 3) := dk_180 0 16 (dk_at dksX2_byRide_1 0 rfl rfl)
theorem dX2_byRide_27 : decode cX2_byRide 27 = .ok (.bipush 12, 2) := dk_16 12 (dk_at dksX2_byRide_1 3 rfl rfl)
theorem dX2_byRide_29 : decode cX2_byRide 29 = .ok (.iload_n 3, 1) := dk_29 (dk_at dksX2_byRide_1 5 rfl rfl)
theorem dX2_byRide_30 : decode cX2_byRide 30 = .ok (.imul, 1) := dk_104 (dk_at dksX2_byRide_1 6 rfl rfl)
theorem dX2_byRide_31 : decode cX2_byRide 31 = .ok (.iload_n 1, 1) := dk_27 (dk_at dksX2_byRide_1 7 rfl rfl)
theorem dX2_byRide_32 : decode cX2_byRide 32 = .ok (.iadd, 1) := dk_96 (dk_at dksX2_byRide_1 8 rfl rfl)
theorem dX2_byRide_33 : decode cX2_byRide 33 = .ok (.iaload, 1) := dk_46 (dk_at dksX2_byRide_1 9 rfl rfl)
theorem dX2_byRide_34 : decode cX2_byRide 34 = .ok (.iadd, 1) := dk_96 (dk_at dksX2_byRide_1 10 rfl rfl)
theorem dX2_byRide_35 : decode cX2_byRide 35 = .ok (.istore 4, 2) := dk_54 4 (dk_at dksX2_byRide_1 11 rfl rfl)
theorem dX2_byRide_37 : decode cX2_byRide 37 = .ok (.iload 4, 2) := dk_21 4 (dk_at dksX2_byRide_1 13 rfl rfl)
theorem dX2_byRide_39 : decode cX2_byRide 39 = .ok (.iload_n 2, 1) := dk_28 (dk_at dksX2_byRide_1 15 rfl rfl)
theorem dX2_byRide_40 : decode cX2_byRide 40 = .ok (.if_icmp .ge 8, 3) := dk_162 0 8 (dk_at dksX2_byRide_1 16 rfl rfl)
theorem dX2_byRide_43 : decode cX2_byRide 43 = .ok (.iload 4, 2) := dk_21 4 (dk_at dksX2_byRide_1 19 rfl rfl)
theorem dX2_byRide_45 : decode cX2_byRide 45 = .ok (.goto 4, 3) := dk_167 0 4 (dk_at dksX2_byRide_1 21 rfl rfl)
theorem dX2_byRide_48 : decode cX2_byRide 48 = .ok (.iload_n 2, 1) := dk_28 (dk_at dksX2_byRide_2 0 rfl rfl)
theorem dX2_byRide_49 : decode cX2_byRide 49 = .ok (.istore_n 2, 1) := dk_61 (dk_at dksX2_byRide_2 1 rfl rfl)
theorem dX2_byRide_50 : decode cX2_byRide 50 = .ok (.iinc 3 1, 3) := dk_132 3 1 (dk_at dksX2_byRide_2 2 rfl rfl)
theorem dX2_byRide_53 : decode cX2_byRide 53 = .ok (.goto (-44), 3) := dk_167 255 212 (dk_at dksX2_byRide_2 5 rfl rfl)
theorem dX2_byRide_56 : decode cX2_byRide 56 = .ok (.iload_n 2, 1) := dk_28 (dk_at dksX2_byRide_2 8 rfl rfl)
theorem dX2_byRide_57 : decode cX2_byRide 57 = .ok (.ireturn, 1) := dk_172 (dk_at dksX2_byRide_2 9 rfl rfl)
abbrev cX2_pair : ByteArray := prog_15_method_77_code
def yX2_pair : MethodName := ⟨RX2, "pair", "(IIIIZ)I"⟩
def dkwX2_pair_5 : List UInt8 := [100, 46, 172]
abbrev dktX2_pair_5 : List UInt8 := dkwX2_pair_5 ++ []
def dkwX2_pair_4 : List UInt8 := [180, 1, 23, 4, 100, 21, 4, 100, 46, 167, 0, 17, 42, 180, 0, 84, 42, 180, 1, 23, 4, 100, 21, 4]
abbrev dktX2_pair_4 : List UInt8 := dkwX2_pair_4 ++ dktX2_pair_5
def dkwX2_pair_3 : List UInt8 := [167, 0, 4, 3, 6, 182, 0, 130, 153, 0, 5, 3, 172, 21, 5, 153, 0, 20, 42, 180, 0, 87, 42]
abbrev dktX2_pair_3 : List UInt8 := dkwX2_pair_3 ++ dktX2_pair_4
def dkwX2_pair_2 : List UInt8 := [28, 29, 182, 1, 32, 42, 21, 4, 3, 42, 180, 1, 23, 4, 100, 184, 0, 126, 154, 0, 7, 4]
abbrev dktX2_pair_2 : List UInt8 := dkwX2_pair_2 ++ dktX2_pair_3
def dkwX2_pair_1 : List UInt8 := [16, 27, 184, 0, 126, 154, 0, 7, 4, 167, 0, 4, 3, 5, 182, 0, 130, 153, 0, 5, 3, 172, 42, 27]
abbrev dktX2_pair_1 : List UInt8 := dkwX2_pair_1 ++ dktX2_pair_2
def dkwX2_pair_0 : List UInt8 := [42, 27, 182, 0, 147, 154, 0, 39, 42, 28, 182, 0, 147, 154, 0, 31, 42, 27, 28, 159, 0, 13, 29, 3]
abbrev dktX2_pair_0 : List UInt8 := dkwX2_pair_0 ++ dktX2_pair_1
theorem dksX2_pair_0 : cX2_pair.data.toList.drop 0 = dktX2_pair_0 := by decide +kernel
theorem dksX2_pair_1 : cX2_pair.data.toList.drop 24 = dktX2_pair_1 := dk_seg dksX2_pair_0 24 rfl rfl
theorem dksX2_pair_2 : cX2_pair.data.toList.drop 48 = dktX2_pair_2 := dk_seg dksX2_pair_1 24 rfl rfl
theorem dksX2_pair_3 : cX2_pair.data.toList.drop 70 = dktX2_pair_3 := dk_seg dksX2_pair_2 22 rfl rfl
theorem dksX2_pair_4 : cX2_pair.data.toList.drop 93 = dktX2_pair_4 := dk_seg dksX2_pair_3 23 rfl rfl
theorem dksX2_pair_5 : cX2_pair.data.toList.drop 117 = dktX2_pair_5 := dk_seg dksX2_pair_4 24 rfl rfl
theorem dX2_pair_0 : decode cX2_pair 0 = .ok (.aload_n 0, 1) := dk_42 (dk_at dksX2_pair_0 0 rfl rfl)
theorem dX2_pair_1 : decode cX2_pair 1 = .ok (.iload_n 1, 1) := dk_27 (dk_at dksX2_pair_0 1 rfl rfl)
theorem dX2_pair_2 : decode cX2_pair 2 = .ok (.invokevirtual 147, 3) := dk_182 0 147 (dk_at dksX2_pair_0 2 rfl rfl)
theorem dX2_pair_5 : decode cX2_pair 5 = .ok (.ifCond .ne 39, 3) := dk_154 0 39 (dk_at dksX2_pair_0 5 rfl rfl)
theorem dX2_pair_8 : decode cX2_pair 8 = .ok (.aload_n 0, 1) := dk_42 (dk_at dksX2_pair_0 8 rfl rfl)
theorem dX2_pair_9 : decode cX2_pair 9 = .ok (.iload_n 2, 1) := dk_28 (dk_at dksX2_pair_0 9 rfl rfl)
theorem dX2_pair_10 : decode cX2_pair 10 = .ok (.invokevirtual 147, 3) := dk_182 0 147 (dk_at dksX2_pair_0 10 rfl rfl)
theorem dX2_pair_13 : decode cX2_pair 13 = .ok (.ifCond .ne 31, 3) := dk_154 0 31 (dk_at dksX2_pair_0 13 rfl rfl)
theorem dX2_pair_16 : decode cX2_pair 16 = .ok (.aload_n 0, 1) := dk_42 (dk_at dksX2_pair_0 16 rfl rfl)
theorem dX2_pair_17 : decode cX2_pair 17 = .ok (.iload_n 1, 1) := dk_27 (dk_at dksX2_pair_0 17 rfl rfl)
theorem dX2_pair_18 : decode cX2_pair 18 = .ok (.iload_n 2, 1) := dk_28 (dk_at dksX2_pair_0 18 rfl rfl)
theorem dX2_pair_19 : decode cX2_pair 19 = .ok (.if_icmp .eq 13, 3) := dk_159 0 13 (dk_at dksX2_pair_0 19 rfl rfl)
theorem dX2_pair_22 : decode cX2_pair 22 = .ok (.iload_n 3, 1) := dk_29 (dk_at dksX2_pair_0 22 rfl rfl)
theorem dX2_pair_23 : decode cX2_pair 23 = .ok (.iconst 0, 1) := dk_3 (dk_at dksX2_pair_0 23 rfl rfl)
theorem dX2_pair_24 : decode cX2_pair 24 = .ok (.bipush 27, 2) := dk_16 27 (dk_at dksX2_pair_1 0 rfl rfl)
theorem dX2_pair_26 : decode cX2_pair 26 = .ok (.invokestatic 126, 3) := dk_184 0 126 (dk_at dksX2_pair_1 2 rfl rfl)
theorem dX2_pair_29 : decode cX2_pair 29 = .ok (.ifCond .ne 7, 3) := dk_154 0 7 (dk_at dksX2_pair_1 5 rfl rfl)
theorem dX2_pair_32 : decode cX2_pair 32 = .ok (.iconst 1, 1) := dk_4 (dk_at dksX2_pair_1 8 rfl rfl)
theorem dX2_pair_33 : decode cX2_pair 33 = .ok (.goto 4, 3) := dk_167 0 4 (dk_at dksX2_pair_1 9 rfl rfl)
theorem dX2_pair_36 : decode cX2_pair 36 = .ok (.iconst 0, 1) := dk_3 (dk_at dksX2_pair_1 12 rfl rfl)
theorem dX2_pair_37 : decode cX2_pair 37 = .ok (.iconst 2, 1) := dk_5 (dk_at dksX2_pair_1 13 rfl rfl)
theorem dX2_pair_38 : decode cX2_pair 38 = .ok (.invokevirtual 130, 3) := dk_182 0 130 (dk_at dksX2_pair_1 14 rfl rfl)
theorem dX2_pair_41 : decode cX2_pair 41 = .ok (.ifCond .eq 5, 3) := dk_153 0 5 (dk_at dksX2_pair_1 17 rfl rfl)
theorem dX2_pair_44 : decode cX2_pair 44 = .ok (.iconst 0, 1) := dk_3 (dk_at dksX2_pair_1 20 rfl rfl)
theorem dX2_pair_45 : decode cX2_pair 45 = .ok (.ireturn, 1) := dk_172 (dk_at dksX2_pair_1 21 rfl rfl)
theorem dX2_pair_46 : decode cX2_pair 46 = .ok (.aload_n 0, 1) := dk_42 (dk_at dksX2_pair_1 22 rfl rfl)
theorem dX2_pair_47 : decode cX2_pair 47 = .ok (.iload_n 1, 1) := dk_27 (dk_at dksX2_pair_1 23 rfl rfl)
theorem dX2_pair_48 : decode cX2_pair 48 = .ok (.iload_n 2, 1) := dk_28 (dk_at dksX2_pair_2 0 rfl rfl)
theorem dX2_pair_49 : decode cX2_pair 49 = .ok (.iload_n 3, 1) := dk_29 (dk_at dksX2_pair_2 1 rfl rfl)
theorem dX2_pair_50 : decode cX2_pair 50 = .ok (.invokevirtual 288, 3) := dk_182 1 32 (dk_at dksX2_pair_2 2 rfl rfl)
theorem dX2_pair_53 : decode cX2_pair 53 = .ok (.aload_n 0, 1) := dk_42 (dk_at dksX2_pair_2 5 rfl rfl)
theorem dX2_pair_54 : decode cX2_pair 54 = .ok (.iload 4, 2) := dk_21 4 (dk_at dksX2_pair_2 6 rfl rfl)
theorem dX2_pair_56 : decode cX2_pair 56 = .ok (.iconst 0, 1) := dk_3 (dk_at dksX2_pair_2 8 rfl rfl)
theorem dX2_pair_57 : decode cX2_pair 57 = .ok (.aload_n 0, 1) := dk_42 (dk_at dksX2_pair_2 9 rfl rfl)
theorem dX2_pair_58 : decode cX2_pair 58 = .ok (.getfield 279, 3) := dk_180 1 23 (dk_at dksX2_pair_2 10 rfl rfl)
theorem dX2_pair_61 : decode cX2_pair 61 = .ok (.iconst 1, 1) := dk_4 (dk_at dksX2_pair_2 13 rfl rfl)
theorem dX2_pair_62 : decode cX2_pair 62 = .ok (.isub, 1) := dk_100 (dk_at dksX2_pair_2 14 rfl rfl)
theorem dX2_pair_63 : decode cX2_pair 63 = .ok (.invokestatic 126, 3) := dk_184 0 126 (dk_at dksX2_pair_2 15 rfl rfl)
theorem dX2_pair_66 : decode cX2_pair 66 = .ok (.ifCond .ne 7, 3) := dk_154 0 7 (dk_at dksX2_pair_2 18 rfl rfl)
theorem dX2_pair_69 : decode cX2_pair 69 = .ok (.iconst 1, 1) := dk_4 (dk_at dksX2_pair_2 21 rfl rfl)
theorem dX2_pair_70 : decode cX2_pair 70 = .ok (.goto 4, 3) := dk_167 0 4 (dk_at dksX2_pair_3 0 rfl rfl)
theorem dX2_pair_73 : decode cX2_pair 73 = .ok (.iconst 0, 1) := dk_3 (dk_at dksX2_pair_3 3 rfl rfl)
theorem dX2_pair_74 : decode cX2_pair 74 = .ok (.iconst 3, 1) := dk_6 (dk_at dksX2_pair_3 4 rfl rfl)
theorem dX2_pair_75 : decode cX2_pair 75 = .ok (.invokevirtual 130, 3) := dk_182 0 130 (dk_at dksX2_pair_3 5 rfl rfl)
theorem dX2_pair_78 : decode cX2_pair 78 = .ok (.ifCond .eq 5, 3) := dk_153 0 5 (dk_at dksX2_pair_3 8 rfl rfl)
theorem dX2_pair_81 : decode cX2_pair 81 = .ok (.iconst 0, 1) := dk_3 (dk_at dksX2_pair_3 11 rfl rfl)
theorem dX2_pair_82 : decode cX2_pair 82 = .ok (.ireturn, 1) := dk_172 (dk_at dksX2_pair_3 12 rfl rfl)
theorem dX2_pair_83 : decode cX2_pair 83 = .ok (.iload 5, 2) := dk_21 5 (dk_at dksX2_pair_3 13 rfl rfl)
theorem dX2_pair_85 : decode cX2_pair 85 = .ok (.ifCond .eq 20, 3) := dk_153 0 20 (dk_at dksX2_pair_3 15 rfl rfl)
theorem dX2_pair_88 : decode cX2_pair 88 = .ok (.aload_n 0, 1) := dk_42 (dk_at dksX2_pair_3 18 rfl rfl)
theorem dX2_pair_89 : decode cX2_pair 89 = .ok (.getfield 87, 3) := dk_180 0 87 (dk_at dksX2_pair_3 19 rfl rfl)
theorem dX2_pair_92 : decode cX2_pair 92 = .ok (.aload_n 0, 1) := dk_42 (dk_at dksX2_pair_3 22 rfl rfl)
theorem dX2_pair_93 : decode cX2_pair 93 = .ok (.getfield 279, 3) := dk_180 1 23 (dk_at dksX2_pair_4 0 rfl rfl)
theorem dX2_pair_96 : decode cX2_pair 96 = .ok (.iconst 1, 1) := dk_4 (dk_at dksX2_pair_4 3 rfl rfl)
theorem dX2_pair_97 : decode cX2_pair 97 = .ok (.isub, 1) := dk_100 (dk_at dksX2_pair_4 4 rfl rfl)
theorem dX2_pair_98 : decode cX2_pair 98 = .ok (.iload 4, 2) := dk_21 4 (dk_at dksX2_pair_4 5 rfl rfl)
theorem dX2_pair_100 : decode cX2_pair 100 = .ok (.isub, 1) := dk_100 (dk_at dksX2_pair_4 7 rfl rfl)
theorem dX2_pair_101 : decode cX2_pair 101 = .ok (.iaload, 1) := dk_46 (dk_at dksX2_pair_4 8 rfl rfl)
theorem dX2_pair_102 : decode cX2_pair 102 = .ok (.goto 17, 3) := dk_167 0 17 (dk_at dksX2_pair_4 9 rfl rfl)
theorem dX2_pair_105 : decode cX2_pair 105 = .ok (.aload_n 0, 1) := dk_42 (dk_at dksX2_pair_4 12 rfl rfl)
theorem dX2_pair_106 : decode cX2_pair 106 = .ok (.getfield 84, 3) := dk_180 0 84 (dk_at dksX2_pair_4 13 rfl rfl)
theorem dX2_pair_109 : decode cX2_pair 109 = .ok (.aload_n 0, 1) := dk_42 (dk_at dksX2_pair_4 16 rfl rfl)
theorem dX2_pair_110 : decode cX2_pair 110 = .ok (.getfield 279, 3) := dk_180 1 23 (dk_at dksX2_pair_4 17 rfl rfl)
theorem dX2_pair_113 : decode cX2_pair 113 = .ok (.iconst 1, 1) := dk_4 (dk_at dksX2_pair_4 20 rfl rfl)
theorem dX2_pair_114 : decode cX2_pair 114 = .ok (.isub, 1) := dk_100 (dk_at dksX2_pair_4 21 rfl rfl)
theorem dX2_pair_115 : decode cX2_pair 115 = .ok (.iload 4, 2) := dk_21 4 (dk_at dksX2_pair_4 22 rfl rfl)
theorem dX2_pair_117 : decode cX2_pair 117 = .ok (.isub, 1) := dk_100 (dk_at dksX2_pair_5 0 rfl rfl)
theorem dX2_pair_118 : decode cX2_pair 118 = .ok (.iaload, 1) := dk_46 (dk_at dksX2_pair_5 1 rfl rfl)
theorem dX2_pair_119 : decode cX2_pair 119 = .ok (.ireturn, 1) := dk_172 (dk_at dksX2_pair_5 2 rfl rfl)
abbrev cX2_holds : ByteArray := prog_15_method_80_code
def yX2_holds : MethodName := ⟨RX2, "holds", "(IIIII)Z"⟩
def dkwX2_holds_9 : List UInt8 := [182, 0, 223, 163, 0, 7, 4, 167, 0, 4, 3, 172]
abbrev dktX2_holds_9 : List UInt8 := dkwX2_holds_9 ++ []
def dkwX2_holds_8 : List UInt8 := [54, 8, 42, 16, 24, 28, 96, 29, 182, 0, 217, 21, 8, 96, 42, 16, 24, 21, 4, 96, 21, 5]
abbrev dktX2_holds_8 : List UInt8 := dkwX2_holds_8 ++ dktX2_holds_9
def dkwX2_holds_7 : List UInt8 := [42, 180, 0, 9, 21, 6, 46, 167, 0, 16, 42, 180, 0, 16, 16, 12, 21, 6, 104, 21, 7, 96, 46]
abbrev dktX2_holds_7 : List UInt8 := dkwX2_holds_7 ++ dktX2_holds_8
def dkwX2_holds_6 : List UInt8 := [161, 0, 7, 4, 167, 0, 4, 3, 7, 182, 0, 130, 153, 0, 5, 3, 172, 21, 6, 21, 7, 160, 0, 13]
abbrev dktX2_holds_6 : List UInt8 := dkwX2_holds_6 ++ dktX2_holds_7
def dkwX2_holds_5 : List UInt8 := [104, 21, 5, 96, 46, 54, 7, 42, 42, 180, 0, 16, 16, 12, 21, 6, 104, 21, 7, 96, 46, 18, 150]
abbrev dktX2_holds_5 : List UInt8 := dkwX2_holds_5 ++ dktX2_holds_6
def dkwX2_holds_4 : List UInt8 := [181, 0, 198, 42, 180, 0, 33, 16, 8, 28, 104, 29, 96, 46, 54, 6, 42, 180, 0, 33, 16, 8, 21, 4]
abbrev dktX2_holds_4 : List UInt8 := dkwX2_holds_4 ++ dktX2_holds_5
def dkwX2_holds_3 : List UInt8 := [27, 182, 1, 38, 154, 0, 7, 4, 167, 0, 4, 3, 6, 182, 0, 130, 153, 0, 5, 3, 172, 42, 27]
abbrev dktX2_holds_3 : List UInt8 := dkwX2_holds_3 ++ dktX2_holds_4
def dkwX2_holds_2 : List UInt8 := [167, 0, 4, 3, 5, 182, 0, 130, 154, 0, 35, 42, 42, 28, 27, 182, 1, 38, 153, 0, 13, 42, 21, 4]
abbrev dktX2_holds_2 : List UInt8 := dkwX2_holds_2 ++ dktX2_holds_3
def dkwX2_holds_1 : List UInt8 := [16, 27, 184, 0, 126, 153, 0, 16, 42, 28, 29, 21, 4, 21, 5, 182, 1, 35, 153, 0, 7, 4]
abbrev dktX2_holds_1 : List UInt8 := dkwX2_holds_1 ++ dktX2_holds_2
def dkwX2_holds_0 : List UInt8 := [42, 28, 29, 182, 0, 162, 154, 0, 82, 42, 21, 4, 21, 5, 182, 0, 162, 154, 0, 71, 42, 27, 3]
abbrev dktX2_holds_0 : List UInt8 := dkwX2_holds_0 ++ dktX2_holds_1
theorem dksX2_holds_0 : cX2_holds.data.toList.drop 0 = dktX2_holds_0 := by decide +kernel
theorem dksX2_holds_1 : cX2_holds.data.toList.drop 23 = dktX2_holds_1 := dk_seg dksX2_holds_0 23 rfl rfl
theorem dksX2_holds_2 : cX2_holds.data.toList.drop 45 = dktX2_holds_2 := dk_seg dksX2_holds_1 22 rfl rfl
theorem dksX2_holds_3 : cX2_holds.data.toList.drop 69 = dktX2_holds_3 := dk_seg dksX2_holds_2 24 rfl rfl
theorem dksX2_holds_4 : cX2_holds.data.toList.drop 92 = dktX2_holds_4 := dk_seg dksX2_holds_3 23 rfl rfl
theorem dksX2_holds_5 : cX2_holds.data.toList.drop 116 = dktX2_holds_5 := dk_seg dksX2_holds_4 24 rfl rfl
theorem dksX2_holds_6 : cX2_holds.data.toList.drop 139 = dktX2_holds_6 := dk_seg dksX2_holds_5 23 rfl rfl
theorem dksX2_holds_7 : cX2_holds.data.toList.drop 163 = dktX2_holds_7 := dk_seg dksX2_holds_6 24 rfl rfl
theorem dksX2_holds_8 : cX2_holds.data.toList.drop 186 = dktX2_holds_8 := dk_seg dksX2_holds_7 23 rfl rfl
theorem dksX2_holds_9 : cX2_holds.data.toList.drop 208 = dktX2_holds_9 := dk_seg dksX2_holds_8 22 rfl rfl
theorem dX2_holds_0 : decode cX2_holds 0 = .ok (.aload_n 0, 1) := dk_42 (dk_at dksX2_holds_0 0 rfl rfl)
theorem dX2_holds_1 : decode cX2_holds 1 = .ok (.iload_n 2, 1) := dk_28 (dk_at dksX2_holds_0 1 rfl rfl)
theorem dX2_holds_2 : decode cX2_holds 2 = .ok (.iload_n 3, 1) := dk_29 (dk_at dksX2_holds_0 2 rfl rfl)
theorem dX2_holds_3 : decode cX2_holds 3 = .ok (.invokevirtual 162, 3) := dk_182 0 162 (dk_at dksX2_holds_0 3 rfl rfl)
theorem dX2_holds_6 : decode cX2_holds 6 = .ok (.ifCond .ne 82, 3) := dk_154 0 82 (dk_at dksX2_holds_0 6 rfl rfl)
theorem dX2_holds_9 : decode cX2_holds 9 = .ok (.aload_n 0, 1) := dk_42 (dk_at dksX2_holds_0 9 rfl rfl)
theorem dX2_holds_10 : decode cX2_holds 10 = .ok (.iload 4, 2) := dk_21 4 (dk_at dksX2_holds_0 10 rfl rfl)
theorem dX2_holds_12 : decode cX2_holds 12 = .ok (.iload 5, 2) := dk_21 5 (dk_at dksX2_holds_0 12 rfl rfl)
theorem dX2_holds_14 : decode cX2_holds 14 = .ok (.invokevirtual 162, 3) := dk_182 0 162 (dk_at dksX2_holds_0 14 rfl rfl)
theorem dX2_holds_17 : decode cX2_holds 17 = .ok (.ifCond .ne 71, 3) := dk_154 0 71 (dk_at dksX2_holds_0 17 rfl rfl)
theorem dX2_holds_20 : decode cX2_holds 20 = .ok (.aload_n 0, 1) := dk_42 (dk_at dksX2_holds_0 20 rfl rfl)
theorem dX2_holds_21 : decode cX2_holds 21 = .ok (.iload_n 1, 1) := dk_27 (dk_at dksX2_holds_0 21 rfl rfl)
theorem dX2_holds_22 : decode cX2_holds 22 = .ok (.iconst 0, 1) := dk_3 (dk_at dksX2_holds_0 22 rfl rfl)
theorem dX2_holds_23 : decode cX2_holds 23 = .ok (.bipush 27, 2) := dk_16 27 (dk_at dksX2_holds_1 0 rfl rfl)
theorem dX2_holds_25 : decode cX2_holds 25 = .ok (.invokestatic 126, 3) := dk_184 0 126 (dk_at dksX2_holds_1 2 rfl rfl)
theorem dX2_holds_28 : decode cX2_holds 28 = .ok (.ifCond .eq 16, 3) := dk_153 0 16 (dk_at dksX2_holds_1 5 rfl rfl)
theorem dX2_holds_31 : decode cX2_holds 31 = .ok (.aload_n 0, 1) := dk_42 (dk_at dksX2_holds_1 8 rfl rfl)
theorem dX2_holds_32 : decode cX2_holds 32 = .ok (.iload_n 2, 1) := dk_28 (dk_at dksX2_holds_1 9 rfl rfl)
theorem dX2_holds_33 : decode cX2_holds 33 = .ok (.iload_n 3, 1) := dk_29 (dk_at dksX2_holds_1 10 rfl rfl)
theorem dX2_holds_34 : decode cX2_holds 34 = .ok (.iload 4, 2) := dk_21 4 (dk_at dksX2_holds_1 11 rfl rfl)
theorem dX2_holds_36 : decode cX2_holds 36 = .ok (.iload 5, 2) := dk_21 5 (dk_at dksX2_holds_1 13 rfl rfl)
theorem dX2_holds_38 : decode cX2_holds 38 = .ok (.invokevirtual 291, 3) := dk_182 1 35 (dk_at dksX2_holds_1 15 rfl rfl)
theorem dX2_holds_41 : decode cX2_holds 41 = .ok (.ifCond .eq 7, 3) := dk_153 0 7 (dk_at dksX2_holds_1 18 rfl rfl)
theorem dX2_holds_44 : decode cX2_holds 44 = .ok (.iconst 1, 1) := dk_4 (dk_at dksX2_holds_1 21 rfl rfl)
theorem dX2_holds_45 : decode cX2_holds 45 = .ok (.goto 4, 3) := dk_167 0 4 (dk_at dksX2_holds_2 0 rfl rfl)
theorem dX2_holds_48 : decode cX2_holds 48 = .ok (.iconst 0, 1) := dk_3 (dk_at dksX2_holds_2 3 rfl rfl)
theorem dX2_holds_49 : decode cX2_holds 49 = .ok (.iconst 2, 1) := dk_5 (dk_at dksX2_holds_2 4 rfl rfl)
theorem dX2_holds_50 : decode cX2_holds 50 = .ok (.invokevirtual 130, 3) := dk_182 0 130 (dk_at dksX2_holds_2 5 rfl rfl)
theorem dX2_holds_53 : decode cX2_holds 53 = .ok (.ifCond .ne 35, 3) := dk_154 0 35 (dk_at dksX2_holds_2 8 rfl rfl)
theorem dX2_holds_56 : decode cX2_holds 56 = .ok (.aload_n 0, 1) := dk_42 (dk_at dksX2_holds_2 11 rfl rfl)
theorem dX2_holds_57 : decode cX2_holds 57 = .ok (.aload_n 0, 1) := dk_42 (dk_at dksX2_holds_2 12 rfl rfl)
theorem dX2_holds_58 : decode cX2_holds 58 = .ok (.iload_n 2, 1) := dk_28 (dk_at dksX2_holds_2 13 rfl rfl)
theorem dX2_holds_59 : decode cX2_holds 59 = .ok (.iload_n 1, 1) := dk_27 (dk_at dksX2_holds_2 14 rfl rfl)
theorem dX2_holds_60 : decode cX2_holds 60 = .ok (.invokevirtual 294, 3) := dk_182 1 38 (dk_at dksX2_holds_2 15 rfl rfl)
theorem dX2_holds_63 : decode cX2_holds 63 = .ok (.ifCond .eq 13, 3) := dk_153 0 13 (dk_at dksX2_holds_2 18 rfl rfl)
theorem dX2_holds_66 : decode cX2_holds 66 = .ok (.aload_n 0, 1) := dk_42 (dk_at dksX2_holds_2 21 rfl rfl)
theorem dX2_holds_67 : decode cX2_holds 67 = .ok (.iload 4, 2) := dk_21 4 (dk_at dksX2_holds_2 22 rfl rfl)
theorem dX2_holds_69 : decode cX2_holds 69 = .ok (.iload_n 1, 1) := dk_27 (dk_at dksX2_holds_3 0 rfl rfl)
theorem dX2_holds_70 : decode cX2_holds 70 = .ok (.invokevirtual 294, 3) := dk_182 1 38 (dk_at dksX2_holds_3 1 rfl rfl)
theorem dX2_holds_73 : decode cX2_holds 73 = .ok (.ifCond .ne 7, 3) := dk_154 0 7 (dk_at dksX2_holds_3 4 rfl rfl)
theorem dX2_holds_76 : decode cX2_holds 76 = .ok (.iconst 1, 1) := dk_4 (dk_at dksX2_holds_3 7 rfl rfl)
theorem dX2_holds_77 : decode cX2_holds 77 = .ok (.goto 4, 3) := dk_167 0 4 (dk_at dksX2_holds_3 8 rfl rfl)
theorem dX2_holds_80 : decode cX2_holds 80 = .ok (.iconst 0, 1) := dk_3 (dk_at dksX2_holds_3 11 rfl rfl)
theorem dX2_holds_81 : decode cX2_holds 81 = .ok (.iconst 3, 1) := dk_6 (dk_at dksX2_holds_3 12 rfl rfl)
theorem dX2_holds_82 : decode cX2_holds 82 = .ok (.invokevirtual 130, 3) := dk_182 0 130 (dk_at dksX2_holds_3 13 rfl rfl)
theorem dX2_holds_85 : decode cX2_holds 85 = .ok (.ifCond .eq 5, 3) := dk_153 0 5 (dk_at dksX2_holds_3 16 rfl rfl)
theorem dX2_holds_88 : decode cX2_holds 88 = .ok (.iconst 0, 1) := dk_3 (dk_at dksX2_holds_3 19 rfl rfl)
theorem dX2_holds_89 : decode cX2_holds 89 = .ok (.ireturn, 1) := dk_172 (dk_at dksX2_holds_3 20 rfl rfl)
theorem dX2_holds_90 : decode cX2_holds 90 = .ok (.aload_n 0, 1) := dk_42 (dk_at dksX2_holds_3 21 rfl rfl)
theorem dX2_holds_91 : decode cX2_holds 91 = .ok (.iload_n 1, 1) := dk_27 (dk_at dksX2_holds_3 22 rfl rfl)
theorem dX2_holds_92 : decode cX2_holds 92 = .ok (.putfield 198, 3) := dk_181 0 198 (dk_at dksX2_holds_4 0 rfl rfl)
theorem dX2_holds_95 : decode cX2_holds 95 = .ok (.aload_n 0, 1) := dk_42 (dk_at dksX2_holds_4 3 rfl rfl)
theorem dX2_holds_96 : decode cX2_holds 96 = .ok (.getfield 33, 3) := dk_180 0 33 (dk_at dksX2_holds_4 4 rfl rfl)
theorem dX2_holds_99 : decode cX2_holds 99 = .ok (.bipush 8, 2) := dk_16 8 (dk_at dksX2_holds_4 7 rfl rfl)
theorem dX2_holds_101 : decode cX2_holds 101 = .ok (.iload_n 2, 1) := dk_28 (dk_at dksX2_holds_4 9 rfl rfl)
theorem dX2_holds_102 : decode cX2_holds 102 = .ok (.imul, 1) := dk_104 (dk_at dksX2_holds_4 10 rfl rfl)
theorem dX2_holds_103 : decode cX2_holds 103 = .ok (.iload_n 3, 1) := dk_29 (dk_at dksX2_holds_4 11 rfl rfl)
theorem dX2_holds_104 : decode cX2_holds 104 = .ok (.iadd, 1) := dk_96 (dk_at dksX2_holds_4 12 rfl rfl)
theorem dX2_holds_105 : decode cX2_holds 105 = .ok (.iaload, 1) := dk_46 (dk_at dksX2_holds_4 13 rfl rfl)
theorem dX2_holds_106 : decode cX2_holds 106 = .ok (.istore 6, 2) := dk_54 6 (dk_at dksX2_holds_4 14 rfl rfl)
theorem dX2_holds_108 : decode cX2_holds 108 = .ok (.aload_n 0, 1) := dk_42 (dk_at dksX2_holds_4 16 rfl rfl)
theorem dX2_holds_109 : decode cX2_holds 109 = .ok (.getfield 33, 3) := dk_180 0 33 (dk_at dksX2_holds_4 17 rfl rfl)
theorem dX2_holds_112 : decode cX2_holds 112 = .ok (.bipush 8, 2) := dk_16 8 (dk_at dksX2_holds_4 20 rfl rfl)
theorem dX2_holds_114 : decode cX2_holds 114 = .ok (.iload 4, 2) := dk_21 4 (dk_at dksX2_holds_4 22 rfl rfl)
theorem dX2_holds_116 : decode cX2_holds 116 = .ok (.imul, 1) := dk_104 (dk_at dksX2_holds_5 0 rfl rfl)
theorem dX2_holds_117 : decode cX2_holds 117 = .ok (.iload 5, 2) := dk_21 5 (dk_at dksX2_holds_5 1 rfl rfl)
theorem dX2_holds_119 : decode cX2_holds 119 = .ok (.iadd, 1) := dk_96 (dk_at dksX2_holds_5 3 rfl rfl)
theorem dX2_holds_120 : decode cX2_holds 120 = .ok (.iaload, 1) := dk_46 (dk_at dksX2_holds_5 4 rfl rfl)
theorem dX2_holds_121 : decode cX2_holds 121 = .ok (.istore 7, 2) := dk_54 7 (dk_at dksX2_holds_5 5 rfl rfl)
theorem dX2_holds_123 : decode cX2_holds 123 = .ok (.aload_n 0, 1) := dk_42 (dk_at dksX2_holds_5 7 rfl rfl)
theorem dX2_holds_124 : decode cX2_holds 124 = .ok (.aload_n 0, 1) := dk_42 (dk_at dksX2_holds_5 8 rfl rfl)
theorem dX2_holds_125 : decode cX2_holds 125 = .ok (.getfield 16, 3) := dk_180 0 16 (dk_at dksX2_holds_5 9 rfl rfl)
theorem dX2_holds_128 : decode cX2_holds 128 = .ok (.bipush 12, 2) := dk_16 12 (dk_at dksX2_holds_5 12 rfl rfl)
theorem dX2_holds_130 : decode cX2_holds 130 = .ok (.iload 6, 2) := dk_21 6 (dk_at dksX2_holds_5 14 rfl rfl)
theorem dX2_holds_132 : decode cX2_holds 132 = .ok (.imul, 1) := dk_104 (dk_at dksX2_holds_5 16 rfl rfl)
theorem dX2_holds_133 : decode cX2_holds 133 = .ok (.iload 7, 2) := dk_21 7 (dk_at dksX2_holds_5 17 rfl rfl)
theorem dX2_holds_135 : decode cX2_holds 135 = .ok (.iadd, 1) := dk_96 (dk_at dksX2_holds_5 19 rfl rfl)
theorem dX2_holds_136 : decode cX2_holds 136 = .ok (.iaload, 1) := dk_46 (dk_at dksX2_holds_5 20 rfl rfl)
theorem dX2_holds_137 : decode cX2_holds 137 = .ok (.ldc 150, 2) := dk_18 150 (dk_at dksX2_holds_5 21 rfl rfl)
theorem dX2_holds_139 : decode cX2_holds 139 = .ok (.if_icmp .lt 7, 3) := dk_161 0 7 (dk_at dksX2_holds_6 0 rfl rfl)
theorem dX2_holds_142 : decode cX2_holds 142 = .ok (.iconst 1, 1) := dk_4 (dk_at dksX2_holds_6 3 rfl rfl)
theorem dX2_holds_143 : decode cX2_holds 143 = .ok (.goto 4, 3) := dk_167 0 4 (dk_at dksX2_holds_6 4 rfl rfl)
theorem dX2_holds_146 : decode cX2_holds 146 = .ok (.iconst 0, 1) := dk_3 (dk_at dksX2_holds_6 7 rfl rfl)
theorem dX2_holds_147 : decode cX2_holds 147 = .ok (.iconst 4, 1) := dk_7 (dk_at dksX2_holds_6 8 rfl rfl)
theorem dX2_holds_148 : decode cX2_holds 148 = .ok (.invokevirtual 130, 3) := dk_182 0 130 (dk_at dksX2_holds_6 9 rfl rfl)
theorem dX2_holds_151 : decode cX2_holds 151 = .ok (.ifCond .eq 5, 3) := dk_153 0 5 (dk_at dksX2_holds_6 12 rfl rfl)
theorem dX2_holds_154 : decode cX2_holds 154 = .ok (.iconst 0, 1) := dk_3 (dk_at dksX2_holds_6 15 rfl rfl)
theorem dX2_holds_155 : decode cX2_holds 155 = .ok (.ireturn, 1) := dk_172 (dk_at dksX2_holds_6 16 rfl rfl)
theorem dX2_holds_156 : decode cX2_holds 156 = .ok (.iload 6, 2) := dk_21 6 (dk_at dksX2_holds_6 17 rfl rfl)
theorem dX2_holds_158 : decode cX2_holds 158 = .ok (.iload 7, 2) := dk_21 7 (dk_at dksX2_holds_6 19 rfl rfl)
theorem dX2_holds_160 : decode cX2_holds 160 = .ok (.if_icmp .ne 13, 3) := dk_160 0 13 (dk_at dksX2_holds_6 21 rfl rfl)
theorem dX2_holds_163 : decode cX2_holds 163 = .ok (.aload_n 0, 1) := dk_42 (dk_at dksX2_holds_7 0 rfl rfl)
theorem dX2_holds_164 : decode cX2_holds 164 = .ok (.getfield 9, 3) := dk_180 0 9 (dk_at dksX2_holds_7 1 rfl rfl)
theorem dX2_holds_167 : decode cX2_holds 167 = .ok (.iload 6, 2) := dk_21 6 (dk_at dksX2_holds_7 4 rfl rfl)
theorem dX2_holds_169 : decode cX2_holds 169 = .ok (.iaload, 1) := dk_46 (dk_at dksX2_holds_7 6 rfl rfl)
theorem dX2_holds_170 : decode cX2_holds 170 = .ok (.goto 16, 3) := dk_167 0 16 (dk_at dksX2_holds_7 7 rfl rfl)
theorem dX2_holds_173 : decode cX2_holds 173 = .ok (.aload_n 0, 1) := dk_42 (dk_at dksX2_holds_7 10 rfl rfl)
theorem dX2_holds_174 : decode cX2_holds 174 = .ok (.getfield 16, 3) := dk_180 0 16 (dk_at dksX2_holds_7 11 rfl rfl)
theorem dX2_holds_177 : decode cX2_holds 177 = .ok (.bipush 12, 2) := dk_16 12 (dk_at dksX2_holds_7 14 rfl rfl)
theorem dX2_holds_179 : decode cX2_holds 179 = .ok (.iload 6, 2) := dk_21 6 (dk_at dksX2_holds_7 16 rfl rfl)
theorem dX2_holds_181 : decode cX2_holds 181 = .ok (.imul, 1) := dk_104 (dk_at dksX2_holds_7 18 rfl rfl)
theorem dX2_holds_182 : decode cX2_holds 182 = .ok (.iload 7, 2) := dk_21 7 (dk_at dksX2_holds_7 19 rfl rfl)
theorem dX2_holds_184 : decode cX2_holds 184 = .ok (.iadd, 1) := dk_96 (dk_at dksX2_holds_7 21 rfl rfl)
theorem dX2_holds_185 : decode cX2_holds 185 = .ok (.iaload, 1) := dk_46 (dk_at dksX2_holds_7 22 rfl rfl)
theorem dX2_holds_186 : decode cX2_holds 186 = .ok (.istore 8, 2) := dk_54 8 (dk_at dksX2_holds_8 0 rfl rfl)
theorem dX2_holds_188 : decode cX2_holds 188 = .ok (.aload_n 0, 1) := dk_42 (dk_at dksX2_holds_8 2 rfl rfl)
theorem dX2_holds_189 : decode cX2_holds 189 = .ok (.bipush 24, 2) := dk_16 24 (dk_at dksX2_holds_8 3 rfl rfl)
theorem dX2_holds_191 : decode cX2_holds 191 = .ok (.iload_n 2, 1) := dk_28 (dk_at dksX2_holds_8 5 rfl rfl)
theorem dX2_holds_192 : decode cX2_holds 192 = .ok (.iadd, 1) := dk_96 (dk_at dksX2_holds_8 6 rfl rfl)
theorem dX2_holds_193 : decode cX2_holds 193 = .ok (.iload_n 3, 1) := dk_29 (dk_at dksX2_holds_8 7 rfl rfl)
theorem dX2_holds_194 : decode cX2_holds 194 = .ok (.invokevirtual 217, 3) := dk_182 0 217 (dk_at dksX2_holds_8 8 rfl rfl)
theorem dX2_holds_197 : decode cX2_holds 197 = .ok (.iload 8, 2) := dk_21 8 (dk_at dksX2_holds_8 11 rfl rfl)
theorem dX2_holds_199 : decode cX2_holds 199 = .ok (.iadd, 1) := dk_96 (dk_at dksX2_holds_8 13 rfl rfl)
theorem dX2_holds_200 : decode cX2_holds 200 = .ok (.aload_n 0, 1) := dk_42 (dk_at dksX2_holds_8 14 rfl rfl)
theorem dX2_holds_201 : decode cX2_holds 201 = .ok (.bipush 24, 2) := dk_16 24 (dk_at dksX2_holds_8 15 rfl rfl)
theorem dX2_holds_203 : decode cX2_holds 203 = .ok (.iload 4, 2) := dk_21 4 (dk_at dksX2_holds_8 17 rfl rfl)
theorem dX2_holds_205 : decode cX2_holds 205 = .ok (.iadd, 1) := dk_96 (dk_at dksX2_holds_8 19 rfl rfl)
theorem dX2_holds_206 : decode cX2_holds 206 = .ok (.iload 5, 2) := dk_21 5 (dk_at dksX2_holds_8 20 rfl rfl)
theorem dX2_holds_208 : decode cX2_holds 208 = .ok (.invokevirtual 223, 3) := dk_182 0 223 (dk_at dksX2_holds_9 0 rfl rfl)
theorem dX2_holds_211 : decode cX2_holds 211 = .ok (.if_icmp .gt 7, 3) := dk_163 0 7 (dk_at dksX2_holds_9 3 rfl rfl)
theorem dX2_holds_214 : decode cX2_holds 214 = .ok (.iconst 1, 1) := dk_4 (dk_at dksX2_holds_9 6 rfl rfl)
theorem dX2_holds_215 : decode cX2_holds 215 = .ok (.goto 4, 3) := dk_167 0 4 (dk_at dksX2_holds_9 7 rfl rfl)
theorem dX2_holds_218 : decode cX2_holds 218 = .ok (.iconst 0, 1) := dk_3 (dk_at dksX2_holds_9 10 rfl rfl)
theorem dX2_holds_219 : decode cX2_holds 219 = .ok (.ireturn, 1) := dk_172 (dk_at dksX2_holds_9 11 rfl rfl)
abbrev cX2_isChangeWrong : ByteArray := prog_15_method_79_code
def yX2_isChangeWrong : MethodName := ⟨RX2, "isChangeWrong", "(IIII)Z"⟩
def dkwX2_isChangeWrong_1 : List UInt8 := [167, 0, 4, 3, 172]
abbrev dktX2_isChangeWrong_1 : List UInt8 := dkwX2_isChangeWrong_1 ++ []
def dkwX2_isChangeWrong_0 : List UInt8 := [27, 29, 159, 0, 20, 28, 153, 0, 16, 21, 4, 42, 180, 0, 30, 29, 46, 4, 100, 160, 0, 7, 4]
abbrev dktX2_isChangeWrong_0 : List UInt8 := dkwX2_isChangeWrong_0 ++ dktX2_isChangeWrong_1
theorem dksX2_isChangeWrong_0 : cX2_isChangeWrong.data.toList.drop 0 = dktX2_isChangeWrong_0 := by decide +kernel
theorem dksX2_isChangeWrong_1 : cX2_isChangeWrong.data.toList.drop 23 = dktX2_isChangeWrong_1 := dk_seg dksX2_isChangeWrong_0 23 rfl rfl
theorem dX2_isChangeWrong_0 : decode cX2_isChangeWrong 0 = .ok (.iload_n 1, 1) := dk_27 (dk_at dksX2_isChangeWrong_0 0 rfl rfl)
theorem dX2_isChangeWrong_1 : decode cX2_isChangeWrong 1 = .ok (.iload_n 3, 1) := dk_29 (dk_at dksX2_isChangeWrong_0 1 rfl rfl)
theorem dX2_isChangeWrong_2 : decode cX2_isChangeWrong 2 = .ok (.if_icmp .eq 20, 3) := dk_159 0 20 (dk_at dksX2_isChangeWrong_0 2 rfl rfl)
theorem dX2_isChangeWrong_5 : decode cX2_isChangeWrong 5 = .ok (.iload_n 2, 1) := dk_28 (dk_at dksX2_isChangeWrong_0 5 rfl rfl)
theorem dX2_isChangeWrong_6 : decode cX2_isChangeWrong 6 = .ok (.ifCond .eq 16, 3) := dk_153 0 16 (dk_at dksX2_isChangeWrong_0 6 rfl rfl)
theorem dX2_isChangeWrong_9 : decode cX2_isChangeWrong 9 = .ok (.iload 4, 2) := dk_21 4 (dk_at dksX2_isChangeWrong_0 9 rfl rfl)
theorem dX2_isChangeWrong_11 : decode cX2_isChangeWrong 11 = .ok (.aload_n 0, 1) := dk_42 (dk_at dksX2_isChangeWrong_0 11 rfl rfl)
theorem dX2_isChangeWrong_12 : decode cX2_isChangeWrong 12 = .ok (.getfield 30, 3) := dk_180 0 30 (dk_at dksX2_isChangeWrong_0 12 rfl rfl)
theorem dX2_isChangeWrong_15 : decode cX2_isChangeWrong 15 = .ok (.iload_n 3, 1) := dk_29 (dk_at dksX2_isChangeWrong_0 15 rfl rfl)
theorem dX2_isChangeWrong_16 : decode cX2_isChangeWrong 16 = .ok (.iaload, 1) := dk_46 (dk_at dksX2_isChangeWrong_0 16 rfl rfl)
theorem dX2_isChangeWrong_17 : decode cX2_isChangeWrong 17 = .ok (.iconst 1, 1) := dk_4 (dk_at dksX2_isChangeWrong_0 17 rfl rfl)
theorem dX2_isChangeWrong_18 : decode cX2_isChangeWrong 18 = .ok (.isub, 1) := dk_100 (dk_at dksX2_isChangeWrong_0 18 rfl rfl)
theorem dX2_isChangeWrong_19 : decode cX2_isChangeWrong 19 = .ok (.if_icmp .ne 7, 3) := dk_160 0 7 (dk_at dksX2_isChangeWrong_0 19 rfl rfl)
theorem dX2_isChangeWrong_22 : decode cX2_isChangeWrong 22 = .ok (.iconst 1, 1) := dk_4 (dk_at dksX2_isChangeWrong_0 22 rfl rfl)
theorem dX2_isChangeWrong_23 : decode cX2_isChangeWrong 23 = .ok (.goto 4, 3) := dk_167 0 4 (dk_at dksX2_isChangeWrong_1 0 rfl rfl)
theorem dX2_isChangeWrong_26 : decode cX2_isChangeWrong 26 = .ok (.iconst 0, 1) := dk_3 (dk_at dksX2_isChangeWrong_1 3 rfl rfl)
theorem dX2_isChangeWrong_27 : decode cX2_isChangeWrong 27 = .ok (.ireturn, 1) := dk_172 (dk_at dksX2_isChangeWrong_1 4 rfl rfl)
abbrev cX2_runs : ByteArray := prog_15_method_78_code
def yX2_runs : MethodName := ⟨RX2, "runs", "(II)Z"⟩
def dkwX2_runs_0 : List UInt8 := [42, 180, 0, 23, 16, 28, 42, 180, 0, 27, 27, 46, 104, 28, 96, 51, 172]
abbrev dktX2_runs_0 : List UInt8 := dkwX2_runs_0 ++ []
theorem dksX2_runs_0 : cX2_runs.data.toList.drop 0 = dktX2_runs_0 := by decide +kernel
theorem dX2_runs_0 : decode cX2_runs 0 = .ok (.aload_n 0, 1) := dk_42 (dk_at dksX2_runs_0 0 rfl rfl)
theorem dX2_runs_1 : decode cX2_runs 1 = .ok (.getfield 23, 3) := dk_180 0 23 (dk_at dksX2_runs_0 1 rfl rfl)
theorem dX2_runs_4 : decode cX2_runs 4 = .ok (.bipush 28, 2) := dk_16 28 (dk_at dksX2_runs_0 4 rfl rfl)
theorem dX2_runs_6 : decode cX2_runs 6 = .ok (.aload_n 0, 1) := dk_42 (dk_at dksX2_runs_0 6 rfl rfl)
theorem dX2_runs_7 : decode cX2_runs 7 = .ok (.getfield 27, 3) := dk_180 0 27 (dk_at dksX2_runs_0 7 rfl rfl)
theorem dX2_runs_10 : decode cX2_runs 10 = .ok (.iload_n 1, 1) := dk_27 (dk_at dksX2_runs_0 10 rfl rfl)
theorem dX2_runs_11 : decode cX2_runs 11 = .ok (.iaload, 1) := dk_46 (dk_at dksX2_runs_0 11 rfl rfl)
theorem dX2_runs_12 : decode cX2_runs 12 = .ok (.imul, 1) := dk_104 (dk_at dksX2_runs_0 12 rfl rfl)
theorem dX2_runs_13 : decode cX2_runs 13 = .ok (.iload_n 2, 1) := dk_28 (dk_at dksX2_runs_0 13 rfl rfl)
theorem dX2_runs_14 : decode cX2_runs 14 = .ok (.iadd, 1) := dk_96 (dk_at dksX2_runs_0 14 rfl rfl)
theorem dX2_runs_15 : decode cX2_runs 15 = .ok (.baload, 1) := dk_51 (dk_at dksX2_runs_0 15 rfl rfl)
theorem dX2_runs_16 : decode cX2_runs 16 = .ok (.ireturn, 1) := dk_172 (dk_at dksX2_runs_0 16 rfl rfl)
abbrev cX2_wish : ByteArray := prog_15_method_81_code
def yX2_wish : MethodName := ⟨RX2, "wish", "(IIIII)I"⟩
def dkwX2_wish_8 : List UInt8 := [4, 100, 172]
abbrev dktX2_wish_8 : List UInt8 := dkwX2_wish_8 ++ []
def dkwX2_wish_7 : List UInt8 := [180, 0, 102, 42, 180, 1, 41, 21, 5, 79, 42, 89, 180, 1, 41, 4, 96, 181, 1, 41, 42, 180, 1, 41]
abbrev dktX2_wish_7 : List UInt8 := dkwX2_wish_7 ++ dktX2_wish_8
def dkwX2_wish_6 : List UInt8 := [79, 42, 180, 0, 96, 42, 180, 1, 41, 29, 79, 42, 180, 0, 99, 42, 180, 1, 41, 21, 4, 79, 42]
abbrev dktX2_wish_6 : List UInt8 := dkwX2_wish_6 ++ dktX2_wish_7
def dkwX2_wish_5 : List UInt8 := [153, 0, 5, 3, 172, 42, 180, 0, 90, 42, 180, 1, 41, 27, 79, 42, 180, 0, 93, 42, 180, 1, 41, 28]
abbrev dktX2_wish_5 : List UInt8 := dkwX2_wish_5 ++ dktX2_wish_6
def dkwX2_wish_4 : List UInt8 := [154, 0, 25, 42, 42, 180, 1, 41, 16, 6, 160, 0, 7, 4, 167, 0, 4, 3, 7, 182, 0, 130]
abbrev dktX2_wish_4 : List UInt8 := dkwX2_wish_4 ++ dktX2_wish_5
def dkwX2_wish_3 : List UInt8 := [180, 0, 33, 16, 8, 29, 104, 21, 4, 96, 46, 159, 0, 7, 4, 167, 0, 4, 3, 6, 182, 0, 130]
abbrev dktX2_wish_3 : List UInt8 := dkwX2_wish_3 ++ dktX2_wish_4
def dkwX2_wish_2 : List UInt8 := [5, 182, 0, 130, 153, 0, 5, 3, 172, 42, 42, 180, 0, 33, 16, 8, 27, 104, 28, 96, 46, 42]
abbrev dktX2_wish_2 : List UInt8 := dkwX2_wish_2 ++ dktX2_wish_3
def dkwX2_wish_1 : List UInt8 := [21, 4, 182, 1, 35, 154, 0, 14, 21, 5, 4, 16, 99, 184, 0, 126, 154, 0, 7, 4, 167, 0, 4, 3]
abbrev dktX2_wish_1 : List UInt8 := dkwX2_wish_1 ++ dktX2_wish_2
def dkwX2_wish_0 : List UInt8 := [42, 27, 28, 182, 0, 162, 154, 0, 49, 42, 29, 21, 4, 182, 0, 162, 154, 0, 39, 42, 42, 27, 28, 29]
abbrev dktX2_wish_0 : List UInt8 := dkwX2_wish_0 ++ dktX2_wish_1
theorem dksX2_wish_0 : cX2_wish.data.toList.drop 0 = dktX2_wish_0 := by decide +kernel
theorem dksX2_wish_1 : cX2_wish.data.toList.drop 24 = dktX2_wish_1 := dk_seg dksX2_wish_0 24 rfl rfl
theorem dksX2_wish_2 : cX2_wish.data.toList.drop 48 = dktX2_wish_2 := dk_seg dksX2_wish_1 24 rfl rfl
theorem dksX2_wish_3 : cX2_wish.data.toList.drop 70 = dktX2_wish_3 := dk_seg dksX2_wish_2 22 rfl rfl
theorem dksX2_wish_4 : cX2_wish.data.toList.drop 93 = dktX2_wish_4 := dk_seg dksX2_wish_3 23 rfl rfl
theorem dksX2_wish_5 : cX2_wish.data.toList.drop 115 = dktX2_wish_5 := dk_seg dksX2_wish_4 22 rfl rfl
theorem dksX2_wish_6 : cX2_wish.data.toList.drop 139 = dktX2_wish_6 := dk_seg dksX2_wish_5 24 rfl rfl
theorem dksX2_wish_7 : cX2_wish.data.toList.drop 162 = dktX2_wish_7 := dk_seg dksX2_wish_6 23 rfl rfl
theorem dksX2_wish_8 : cX2_wish.data.toList.drop 186 = dktX2_wish_8 := dk_seg dksX2_wish_7 24 rfl rfl
theorem dX2_wish_0 : decode cX2_wish 0 = .ok (.aload_n 0, 1) := dk_42 (dk_at dksX2_wish_0 0 rfl rfl)
theorem dX2_wish_1 : decode cX2_wish 1 = .ok (.iload_n 1, 1) := dk_27 (dk_at dksX2_wish_0 1 rfl rfl)
theorem dX2_wish_2 : decode cX2_wish 2 = .ok (.iload_n 2, 1) := dk_28 (dk_at dksX2_wish_0 2 rfl rfl)
theorem dX2_wish_3 : decode cX2_wish 3 = .ok (.invokevirtual 162, 3) := dk_182 0 162 (dk_at dksX2_wish_0 3 rfl rfl)
theorem dX2_wish_6 : decode cX2_wish 6 = .ok (.ifCond .ne 49, 3) := dk_154 0 49 (dk_at dksX2_wish_0 6 rfl rfl)
theorem dX2_wish_9 : decode cX2_wish 9 = .ok (.aload_n 0, 1) := dk_42 (dk_at dksX2_wish_0 9 rfl rfl)
theorem dX2_wish_10 : decode cX2_wish 10 = .ok (.iload_n 3, 1) := dk_29 (dk_at dksX2_wish_0 10 rfl rfl)
theorem dX2_wish_11 : decode cX2_wish 11 = .ok (.iload 4, 2) := dk_21 4 (dk_at dksX2_wish_0 11 rfl rfl)
theorem dX2_wish_13 : decode cX2_wish 13 = .ok (.invokevirtual 162, 3) := dk_182 0 162 (dk_at dksX2_wish_0 13 rfl rfl)
theorem dX2_wish_16 : decode cX2_wish 16 = .ok (.ifCond .ne 39, 3) := dk_154 0 39 (dk_at dksX2_wish_0 16 rfl rfl)
theorem dX2_wish_19 : decode cX2_wish 19 = .ok (.aload_n 0, 1) := dk_42 (dk_at dksX2_wish_0 19 rfl rfl)
theorem dX2_wish_20 : decode cX2_wish 20 = .ok (.aload_n 0, 1) := dk_42 (dk_at dksX2_wish_0 20 rfl rfl)
theorem dX2_wish_21 : decode cX2_wish 21 = .ok (.iload_n 1, 1) := dk_27 (dk_at dksX2_wish_0 21 rfl rfl)
theorem dX2_wish_22 : decode cX2_wish 22 = .ok (.iload_n 2, 1) := dk_28 (dk_at dksX2_wish_0 22 rfl rfl)
theorem dX2_wish_23 : decode cX2_wish 23 = .ok (.iload_n 3, 1) := dk_29 (dk_at dksX2_wish_0 23 rfl rfl)
theorem dX2_wish_24 : decode cX2_wish 24 = .ok (.iload 4, 2) := dk_21 4 (dk_at dksX2_wish_1 0 rfl rfl)
theorem dX2_wish_26 : decode cX2_wish 26 = .ok (.invokevirtual 291, 3) := dk_182 1 35 (dk_at dksX2_wish_1 2 rfl rfl)
theorem dX2_wish_29 : decode cX2_wish 29 = .ok (.ifCond .ne 14, 3) := dk_154 0 14 (dk_at dksX2_wish_1 5 rfl rfl)
theorem dX2_wish_32 : decode cX2_wish 32 = .ok (.iload 5, 2) := dk_21 5 (dk_at dksX2_wish_1 8 rfl rfl)
theorem dX2_wish_34 : decode cX2_wish 34 = .ok (.iconst 1, 1) := dk_4 (dk_at dksX2_wish_1 10 rfl rfl)
theorem dX2_wish_35 : decode cX2_wish 35 = .ok (.bipush 99, 2) := dk_16 99 (dk_at dksX2_wish_1 11 rfl rfl)
theorem dX2_wish_37 : decode cX2_wish 37 = .ok (.invokestatic 126, 3) := dk_184 0 126 (dk_at dksX2_wish_1 13 rfl rfl)
theorem dX2_wish_40 : decode cX2_wish 40 = .ok (.ifCond .ne 7, 3) := dk_154 0 7 (dk_at dksX2_wish_1 16 rfl rfl)
theorem dX2_wish_43 : decode cX2_wish 43 = .ok (.iconst 1, 1) := dk_4 (dk_at dksX2_wish_1 19 rfl rfl)
theorem dX2_wish_44 : decode cX2_wish 44 = .ok (.goto 4, 3) := dk_167 0 4 (dk_at dksX2_wish_1 20 rfl rfl)
theorem dX2_wish_47 : decode cX2_wish 47 = .ok (.iconst 0, 1) := dk_3 (dk_at dksX2_wish_1 23 rfl rfl)
theorem dX2_wish_48 : decode cX2_wish 48 = .ok (.iconst 2, 1) := dk_5 (dk_at dksX2_wish_2 0 rfl rfl)
theorem dX2_wish_49 : decode cX2_wish 49 = .ok (.invokevirtual 130, 3) := dk_182 0 130 (dk_at dksX2_wish_2 1 rfl rfl)
theorem dX2_wish_52 : decode cX2_wish 52 = .ok (.ifCond .eq 5, 3) := dk_153 0 5 (dk_at dksX2_wish_2 4 rfl rfl)
theorem dX2_wish_55 : decode cX2_wish 55 = .ok (.iconst 0, 1) := dk_3 (dk_at dksX2_wish_2 7 rfl rfl)
theorem dX2_wish_56 : decode cX2_wish 56 = .ok (.ireturn, 1) := dk_172 (dk_at dksX2_wish_2 8 rfl rfl)
theorem dX2_wish_57 : decode cX2_wish 57 = .ok (.aload_n 0, 1) := dk_42 (dk_at dksX2_wish_2 9 rfl rfl)
theorem dX2_wish_58 : decode cX2_wish 58 = .ok (.aload_n 0, 1) := dk_42 (dk_at dksX2_wish_2 10 rfl rfl)
theorem dX2_wish_59 : decode cX2_wish 59 = .ok (.getfield 33, 3) := dk_180 0 33 (dk_at dksX2_wish_2 11 rfl rfl)
theorem dX2_wish_62 : decode cX2_wish 62 = .ok (.bipush 8, 2) := dk_16 8 (dk_at dksX2_wish_2 14 rfl rfl)
theorem dX2_wish_64 : decode cX2_wish 64 = .ok (.iload_n 1, 1) := dk_27 (dk_at dksX2_wish_2 16 rfl rfl)
theorem dX2_wish_65 : decode cX2_wish 65 = .ok (.imul, 1) := dk_104 (dk_at dksX2_wish_2 17 rfl rfl)
theorem dX2_wish_66 : decode cX2_wish 66 = .ok (.iload_n 2, 1) := dk_28 (dk_at dksX2_wish_2 18 rfl rfl)
theorem dX2_wish_67 : decode cX2_wish 67 = .ok (.iadd, 1) := dk_96 (dk_at dksX2_wish_2 19 rfl rfl)
theorem dX2_wish_68 : decode cX2_wish 68 = .ok (.iaload, 1) := dk_46 (dk_at dksX2_wish_2 20 rfl rfl)
theorem dX2_wish_69 : decode cX2_wish 69 = .ok (.aload_n 0, 1) := dk_42 (dk_at dksX2_wish_2 21 rfl rfl)
theorem dX2_wish_70 : decode cX2_wish 70 = .ok (.getfield 33, 3) := dk_180 0 33 (dk_at dksX2_wish_3 0 rfl rfl)
theorem dX2_wish_73 : decode cX2_wish 73 = .ok (.bipush 8, 2) := dk_16 8 (dk_at dksX2_wish_3 3 rfl rfl)
theorem dX2_wish_75 : decode cX2_wish 75 = .ok (.iload_n 3, 1) := dk_29 (dk_at dksX2_wish_3 5 rfl rfl)
theorem dX2_wish_76 : decode cX2_wish 76 = .ok (.imul, 1) := dk_104 (dk_at dksX2_wish_3 6 rfl rfl)
theorem dX2_wish_77 : decode cX2_wish 77 = .ok (.iload 4, 2) := dk_21 4 (dk_at dksX2_wish_3 7 rfl rfl)
theorem dX2_wish_79 : decode cX2_wish 79 = .ok (.iadd, 1) := dk_96 (dk_at dksX2_wish_3 9 rfl rfl)
theorem dX2_wish_80 : decode cX2_wish 80 = .ok (.iaload, 1) := dk_46 (dk_at dksX2_wish_3 10 rfl rfl)
theorem dX2_wish_81 : decode cX2_wish 81 = .ok (.if_icmp .eq 7, 3) := dk_159 0 7 (dk_at dksX2_wish_3 11 rfl rfl)
theorem dX2_wish_84 : decode cX2_wish 84 = .ok (.iconst 1, 1) := dk_4 (dk_at dksX2_wish_3 14 rfl rfl)
theorem dX2_wish_85 : decode cX2_wish 85 = .ok (.goto 4, 3) := dk_167 0 4 (dk_at dksX2_wish_3 15 rfl rfl)
theorem dX2_wish_88 : decode cX2_wish 88 = .ok (.iconst 0, 1) := dk_3 (dk_at dksX2_wish_3 18 rfl rfl)
theorem dX2_wish_89 : decode cX2_wish 89 = .ok (.iconst 3, 1) := dk_6 (dk_at dksX2_wish_3 19 rfl rfl)
theorem dX2_wish_90 : decode cX2_wish 90 = .ok (.invokevirtual 130, 3) := dk_182 0 130 (dk_at dksX2_wish_3 20 rfl rfl)
theorem dX2_wish_93 : decode cX2_wish 93 = .ok (.ifCond .ne 25, 3) := dk_154 0 25 (dk_at dksX2_wish_4 0 rfl rfl)
theorem dX2_wish_96 : decode cX2_wish 96 = .ok (.aload_n 0, 1) := dk_42 (dk_at dksX2_wish_4 3 rfl rfl)
theorem dX2_wish_97 : decode cX2_wish 97 = .ok (.aload_n 0, 1) := dk_42 (dk_at dksX2_wish_4 4 rfl rfl)
theorem dX2_wish_98 : decode cX2_wish 98 = .ok (.getfield 297, 3) := dk_180 1 41 (dk_at dksX2_wish_4 5 rfl rfl)
theorem dX2_wish_101 : decode cX2_wish 101 = .ok (.bipush 6, 2) := dk_16 6 (dk_at dksX2_wish_4 8 rfl rfl)
theorem dX2_wish_103 : decode cX2_wish 103 = .ok (.if_icmp .ne 7, 3) := dk_160 0 7 (dk_at dksX2_wish_4 10 rfl rfl)
theorem dX2_wish_106 : decode cX2_wish 106 = .ok (.iconst 1, 1) := dk_4 (dk_at dksX2_wish_4 13 rfl rfl)
theorem dX2_wish_107 : decode cX2_wish 107 = .ok (.goto 4, 3) := dk_167 0 4 (dk_at dksX2_wish_4 14 rfl rfl)
theorem dX2_wish_110 : decode cX2_wish 110 = .ok (.iconst 0, 1) := dk_3 (dk_at dksX2_wish_4 17 rfl rfl)
theorem dX2_wish_111 : decode cX2_wish 111 = .ok (.iconst 4, 1) := dk_7 (dk_at dksX2_wish_4 18 rfl rfl)
theorem dX2_wish_112 : decode cX2_wish 112 = .ok (.invokevirtual 130, 3) := dk_182 0 130 (dk_at dksX2_wish_4 19 rfl rfl)
theorem dX2_wish_115 : decode cX2_wish 115 = .ok (.ifCond .eq 5, 3) := dk_153 0 5 (dk_at dksX2_wish_5 0 rfl rfl)
theorem dX2_wish_118 : decode cX2_wish 118 = .ok (.iconst 0, 1) := dk_3 (dk_at dksX2_wish_5 3 rfl rfl)
theorem dX2_wish_119 : decode cX2_wish 119 = .ok (.ireturn, 1) := dk_172 (dk_at dksX2_wish_5 4 rfl rfl)
theorem dX2_wish_120 : decode cX2_wish 120 = .ok (.aload_n 0, 1) := dk_42 (dk_at dksX2_wish_5 5 rfl rfl)
theorem dX2_wish_121 : decode cX2_wish 121 = .ok (.getfield 90, 3) := dk_180 0 90 (dk_at dksX2_wish_5 6 rfl rfl)
theorem dX2_wish_124 : decode cX2_wish 124 = .ok (.aload_n 0, 1) := dk_42 (dk_at dksX2_wish_5 9 rfl rfl)
theorem dX2_wish_125 : decode cX2_wish 125 = .ok (.getfield 297, 3) := dk_180 1 41 (dk_at dksX2_wish_5 10 rfl rfl)
theorem dX2_wish_128 : decode cX2_wish 128 = .ok (.iload_n 1, 1) := dk_27 (dk_at dksX2_wish_5 13 rfl rfl)
theorem dX2_wish_129 : decode cX2_wish 129 = .ok (.iastore, 1) := dk_79 (dk_at dksX2_wish_5 14 rfl rfl)
theorem dX2_wish_130 : decode cX2_wish 130 = .ok (.aload_n 0, 1) := dk_42 (dk_at dksX2_wish_5 15 rfl rfl)
theorem dX2_wish_131 : decode cX2_wish 131 = .ok (.getfield 93, 3) := dk_180 0 93 (dk_at dksX2_wish_5 16 rfl rfl)
theorem dX2_wish_134 : decode cX2_wish 134 = .ok (.aload_n 0, 1) := dk_42 (dk_at dksX2_wish_5 19 rfl rfl)
theorem dX2_wish_135 : decode cX2_wish 135 = .ok (.getfield 297, 3) := dk_180 1 41 (dk_at dksX2_wish_5 20 rfl rfl)
theorem dX2_wish_138 : decode cX2_wish 138 = .ok (.iload_n 2, 1) := dk_28 (dk_at dksX2_wish_5 23 rfl rfl)
theorem dX2_wish_139 : decode cX2_wish 139 = .ok (.iastore, 1) := dk_79 (dk_at dksX2_wish_6 0 rfl rfl)
theorem dX2_wish_140 : decode cX2_wish 140 = .ok (.aload_n 0, 1) := dk_42 (dk_at dksX2_wish_6 1 rfl rfl)
theorem dX2_wish_141 : decode cX2_wish 141 = .ok (.getfield 96, 3) := dk_180 0 96 (dk_at dksX2_wish_6 2 rfl rfl)
theorem dX2_wish_144 : decode cX2_wish 144 = .ok (.aload_n 0, 1) := dk_42 (dk_at dksX2_wish_6 5 rfl rfl)
theorem dX2_wish_145 : decode cX2_wish 145 = .ok (.getfield 297, 3) := dk_180 1 41 (dk_at dksX2_wish_6 6 rfl rfl)
theorem dX2_wish_148 : decode cX2_wish 148 = .ok (.iload_n 3, 1) := dk_29 (dk_at dksX2_wish_6 9 rfl rfl)
theorem dX2_wish_149 : decode cX2_wish 149 = .ok (.iastore, 1) := dk_79 (dk_at dksX2_wish_6 10 rfl rfl)
theorem dX2_wish_150 : decode cX2_wish 150 = .ok (.aload_n 0, 1) := dk_42 (dk_at dksX2_wish_6 11 rfl rfl)
theorem dX2_wish_151 : decode cX2_wish 151 = .ok (.getfield 99, 3) := dk_180 0 99 (dk_at dksX2_wish_6 12 rfl rfl)
theorem dX2_wish_154 : decode cX2_wish 154 = .ok (.aload_n 0, 1) := dk_42 (dk_at dksX2_wish_6 15 rfl rfl)
theorem dX2_wish_155 : decode cX2_wish 155 = .ok (.getfield 297, 3) := dk_180 1 41 (dk_at dksX2_wish_6 16 rfl rfl)
theorem dX2_wish_158 : decode cX2_wish 158 = .ok (.iload 4, 2) := dk_21 4 (dk_at dksX2_wish_6 19 rfl rfl)
theorem dX2_wish_160 : decode cX2_wish 160 = .ok (.iastore, 1) := dk_79 (dk_at dksX2_wish_6 21 rfl rfl)
theorem dX2_wish_161 : decode cX2_wish 161 = .ok (.aload_n 0, 1) := dk_42 (dk_at dksX2_wish_6 22 rfl rfl)
theorem dX2_wish_162 : decode cX2_wish 162 = .ok (.getfield 102, 3) := dk_180 0 102 (dk_at dksX2_wish_7 0 rfl rfl)
theorem dX2_wish_165 : decode cX2_wish 165 = .ok (.aload_n 0, 1) := dk_42 (dk_at dksX2_wish_7 3 rfl rfl)
theorem dX2_wish_166 : decode cX2_wish 166 = .ok (.getfield 297, 3) := dk_180 1 41 (dk_at dksX2_wish_7 4 rfl rfl)
theorem dX2_wish_169 : decode cX2_wish 169 = .ok (.iload 5, 2) := dk_21 5 (dk_at dksX2_wish_7 7 rfl rfl)
theorem dX2_wish_171 : decode cX2_wish 171 = .ok (.iastore, 1) := dk_79 (dk_at dksX2_wish_7 9 rfl rfl)
theorem dX2_wish_172 : decode cX2_wish 172 = .ok (.aload_n 0, 1) := dk_42 (dk_at dksX2_wish_7 10 rfl rfl)
theorem dX2_wish_173 : decode cX2_wish 173 = .ok (.dup, 1) := dk_89 (dk_at dksX2_wish_7 11 rfl rfl)
theorem dX2_wish_174 : decode cX2_wish 174 = .ok (.getfield 297, 3) := dk_180 1 41 (dk_at dksX2_wish_7 12 rfl rfl)
theorem dX2_wish_177 : decode cX2_wish 177 = .ok (.iconst 1, 1) := dk_4 (dk_at dksX2_wish_7 15 rfl rfl)
theorem dX2_wish_178 : decode cX2_wish 178 = .ok (.iadd, 1) := dk_96 (dk_at dksX2_wish_7 16 rfl rfl)
theorem dX2_wish_179 : decode cX2_wish 179 = .ok (.putfield 297, 3) := dk_181 1 41 (dk_at dksX2_wish_7 17 rfl rfl)
theorem dX2_wish_182 : decode cX2_wish 182 = .ok (.aload_n 0, 1) := dk_42 (dk_at dksX2_wish_7 20 rfl rfl)
theorem dX2_wish_183 : decode cX2_wish 183 = .ok (.getfield 297, 3) := dk_180 1 41 (dk_at dksX2_wish_7 21 rfl rfl)
theorem dX2_wish_186 : decode cX2_wish 186 = .ok (.iconst 1, 1) := dk_4 (dk_at dksX2_wish_8 0 rfl rfl)
theorem dX2_wish_187 : decode cX2_wish 187 = .ok (.isub, 1) := dk_100 (dk_at dksX2_wish_8 1 rfl rfl)
theorem dX2_wish_188 : decode cX2_wish 188 = .ok (.ireturn, 1) := dk_172 (dk_at dksX2_wish_8 2 rfl rfl)
abbrev cX2_dropWishes : ByteArray := prog_15_method_82_code
def yX2_dropWishes : MethodName := ⟨RX2, "dropWishes", "()I"⟩
def dkwX2_dropWishes_0 : List UInt8 := [42, 3, 181, 0, 120, 42, 180, 1, 41, 60, 42, 3, 181, 1, 41, 27, 172]
abbrev dktX2_dropWishes_0 : List UInt8 := dkwX2_dropWishes_0 ++ []
theorem dksX2_dropWishes_0 : cX2_dropWishes.data.toList.drop 0 = dktX2_dropWishes_0 := by decide +kernel
theorem dX2_dropWishes_0 : decode cX2_dropWishes 0 = .ok (.aload_n 0, 1) := dk_42 (dk_at dksX2_dropWishes_0 0 rfl rfl)
theorem dX2_dropWishes_1 : decode cX2_dropWishes 1 = .ok (.iconst 0, 1) := dk_3 (dk_at dksX2_dropWishes_0 1 rfl rfl)
theorem dX2_dropWishes_2 : decode cX2_dropWishes 2 = .ok (.putfield 120, 3) := dk_181 0 120 (dk_at dksX2_dropWishes_0 2 rfl rfl)
theorem dX2_dropWishes_5 : decode cX2_dropWishes 5 = .ok (.aload_n 0, 1) := dk_42 (dk_at dksX2_dropWishes_0 5 rfl rfl)
theorem dX2_dropWishes_6 : decode cX2_dropWishes 6 = .ok (.getfield 297, 3) := dk_180 1 41 (dk_at dksX2_dropWishes_0 6 rfl rfl)
theorem dX2_dropWishes_9 : decode cX2_dropWishes 9 = .ok (.istore_n 1, 1) := dk_60 (dk_at dksX2_dropWishes_0 9 rfl rfl)
theorem dX2_dropWishes_10 : decode cX2_dropWishes 10 = .ok (.aload_n 0, 1) := dk_42 (dk_at dksX2_dropWishes_0 10 rfl rfl)
theorem dX2_dropWishes_11 : decode cX2_dropWishes 11 = .ok (.iconst 0, 1) := dk_3 (dk_at dksX2_dropWishes_0 11 rfl rfl)
theorem dX2_dropWishes_12 : decode cX2_dropWishes 12 = .ok (.putfield 297, 3) := dk_181 1 41 (dk_at dksX2_dropWishes_0 12 rfl rfl)
theorem dX2_dropWishes_15 : decode cX2_dropWishes 15 = .ok (.iload_n 1, 1) := dk_27 (dk_at dksX2_dropWishes_0 15 rfl rfl)
theorem dX2_dropWishes_16 : decode cX2_dropWishes 16 = .ok (.ireturn, 1) := dk_172 (dk_at dksX2_dropWishes_0 16 rfl rfl)
abbrev cX2_waitCost : ByteArray := prog_15_method_86_code
def yX2_waitCost : MethodName := ⟨RX2, "waitCost", "(II)I"⟩
def dkwX2_waitCost_2 : List UInt8 := [42, 29, 156, 0, 7, 4, 167, 0, 4, 3, 5, 182, 0, 130, 153, 0, 7, 3, 167, 0, 4, 29, 172]
abbrev dktX2_waitCost_2 : List UInt8 := dkwX2_waitCost_2 ++ []
def dkwX2_waitCost_1 : List UInt8 := [154, 0, 7, 4, 167, 0, 4, 3, 4, 182, 0, 130, 153, 0, 5, 3, 172, 42, 27, 28, 182, 1, 50, 62]
abbrev dktX2_waitCost_1 : List UInt8 := dkwX2_waitCost_1 ++ dktX2_waitCost_2
def dkwX2_waitCost_0 : List UInt8 := [42, 27, 3, 16, 27, 184, 0, 126, 153, 0, 19, 28, 3, 4, 42, 180, 1, 41, 120, 4, 100, 184, 0, 126]
abbrev dktX2_waitCost_0 : List UInt8 := dkwX2_waitCost_0 ++ dktX2_waitCost_1
theorem dksX2_waitCost_0 : cX2_waitCost.data.toList.drop 0 = dktX2_waitCost_0 := by decide +kernel
theorem dksX2_waitCost_1 : cX2_waitCost.data.toList.drop 24 = dktX2_waitCost_1 := dk_seg dksX2_waitCost_0 24 rfl rfl
theorem dksX2_waitCost_2 : cX2_waitCost.data.toList.drop 48 = dktX2_waitCost_2 := dk_seg dksX2_waitCost_1 24 rfl rfl
theorem dX2_waitCost_0 : decode cX2_waitCost 0 = .ok (.aload_n 0, 1) := dk_42 (dk_at dksX2_waitCost_0 0 rfl rfl)
theorem dX2_waitCost_1 : decode cX2_waitCost 1 = .ok (.iload_n 1, 1) := dk_27 (dk_at dksX2_waitCost_0 1 rfl rfl)
theorem dX2_waitCost_2 : decode cX2_waitCost 2 = .ok (.iconst 0, 1) := dk_3 (dk_at dksX2_waitCost_0 2 rfl rfl)
theorem dX2_waitCost_3 : decode cX2_waitCost 3 = .ok (.bipush 27, 2) := dk_16 27 (dk_at dksX2_waitCost_0 3 rfl rfl)
theorem dX2_waitCost_5 : decode cX2_waitCost 5 = .ok (.invokestatic 126, 3) := dk_184 0 126 (dk_at dksX2_waitCost_0 5 rfl rfl)
theorem dX2_waitCost_8 : decode cX2_waitCost 8 = .ok (.ifCond .eq 19, 3) := dk_153 0 19 (dk_at dksX2_waitCost_0 8 rfl rfl)
theorem dX2_waitCost_11 : decode cX2_waitCost 11 = .ok (.iload_n 2, 1) := dk_28 (dk_at dksX2_waitCost_0 11 rfl rfl)
theorem dX2_waitCost_12 : decode cX2_waitCost 12 = .ok (.iconst 0, 1) := dk_3 (dk_at dksX2_waitCost_0 12 rfl rfl)
theorem dX2_waitCost_13 : decode cX2_waitCost 13 = .ok (.iconst 1, 1) := dk_4 (dk_at dksX2_waitCost_0 13 rfl rfl)
theorem dX2_waitCost_14 : decode cX2_waitCost 14 = .ok (.aload_n 0, 1) := dk_42 (dk_at dksX2_waitCost_0 14 rfl rfl)
theorem dX2_waitCost_15 : decode cX2_waitCost 15 = .ok (.getfield 297, 3) := dk_180 1 41 (dk_at dksX2_waitCost_0 15 rfl rfl)
theorem dX2_waitCost_18 : decode cX2_waitCost 18 = .ok (.ishl, 1) := dk_120 (dk_at dksX2_waitCost_0 18 rfl rfl)
theorem dX2_waitCost_19 : decode cX2_waitCost 19 = .ok (.iconst 1, 1) := dk_4 (dk_at dksX2_waitCost_0 19 rfl rfl)
theorem dX2_waitCost_20 : decode cX2_waitCost 20 = .ok (.isub, 1) := dk_100 (dk_at dksX2_waitCost_0 20 rfl rfl)
theorem dX2_waitCost_21 : decode cX2_waitCost 21 = .ok (.invokestatic 126, 3) := dk_184 0 126 (dk_at dksX2_waitCost_0 21 rfl rfl)
theorem dX2_waitCost_24 : decode cX2_waitCost 24 = .ok (.ifCond .ne 7, 3) := dk_154 0 7 (dk_at dksX2_waitCost_1 0 rfl rfl)
theorem dX2_waitCost_27 : decode cX2_waitCost 27 = .ok (.iconst 1, 1) := dk_4 (dk_at dksX2_waitCost_1 3 rfl rfl)
theorem dX2_waitCost_28 : decode cX2_waitCost 28 = .ok (.goto 4, 3) := dk_167 0 4 (dk_at dksX2_waitCost_1 4 rfl rfl)
theorem dX2_waitCost_31 : decode cX2_waitCost 31 = .ok (.iconst 0, 1) := dk_3 (dk_at dksX2_waitCost_1 7 rfl rfl)
theorem dX2_waitCost_32 : decode cX2_waitCost 32 = .ok (.iconst 1, 1) := dk_4 (dk_at dksX2_waitCost_1 8 rfl rfl)
theorem dX2_waitCost_33 : decode cX2_waitCost 33 = .ok (.invokevirtual 130, 3) := dk_182 0 130 (dk_at dksX2_waitCost_1 9 rfl rfl)
theorem dX2_waitCost_36 : decode cX2_waitCost 36 = .ok (.ifCond .eq 5, 3) := dk_153 0 5 (dk_at dksX2_waitCost_1 12 rfl rfl)
theorem dX2_waitCost_39 : decode cX2_waitCost 39 = .ok (.iconst 0, 1) := dk_3 (dk_at dksX2_waitCost_1 15 rfl rfl)
theorem dX2_waitCost_40 : decode cX2_waitCost 40 = .ok (.ireturn, 1) := dk_172 (dk_at dksX2_waitCost_1 16 rfl rfl)
theorem dX2_waitCost_41 : decode cX2_waitCost 41 = .ok (.aload_n 0, 1) := dk_42 (dk_at dksX2_waitCost_1 17 rfl rfl)
theorem dX2_waitCost_42 : decode cX2_waitCost 42 = .ok (.iload_n 1, 1) := dk_27 (dk_at dksX2_waitCost_1 18 rfl rfl)
theorem dX2_waitCost_43 : decode cX2_waitCost 43 = .ok (.iload_n 2, 1) := dk_28 (dk_at dksX2_waitCost_1 19 rfl rfl)
theorem dX2_waitCost_44 : decode cX2_waitCost 44 = .ok (.invokevirtual 306, 3) := dk_182 1 50 (dk_at dksX2_waitCost_1 20 rfl rfl)
theorem dX2_waitCost_47 : decode cX2_waitCost 47 = .ok (.istore_n 3, 1) := dk_62 (dk_at dksX2_waitCost_1 23 rfl rfl)
theorem dX2_waitCost_48 : decode cX2_waitCost 48 = .ok (.aload_n 0, 1) := dk_42 (dk_at dksX2_waitCost_2 0 rfl rfl)
theorem dX2_waitCost_49 : decode cX2_waitCost 49 = .ok (.iload_n 3, 1) := dk_29 (dk_at dksX2_waitCost_2 1 rfl rfl)
theorem dX2_waitCost_50 : decode cX2_waitCost 50 = .ok (.ifCond .ge 7, 3) := dk_156 0 7 (dk_at dksX2_waitCost_2 2 rfl rfl)
theorem dX2_waitCost_53 : decode cX2_waitCost 53 = .ok (.iconst 1, 1) := dk_4 (dk_at dksX2_waitCost_2 5 rfl rfl)
theorem dX2_waitCost_54 : decode cX2_waitCost 54 = .ok (.goto 4, 3) := dk_167 0 4 (dk_at dksX2_waitCost_2 6 rfl rfl)
theorem dX2_waitCost_57 : decode cX2_waitCost 57 = .ok (.iconst 0, 1) := dk_3 (dk_at dksX2_waitCost_2 9 rfl rfl)
theorem dX2_waitCost_58 : decode cX2_waitCost 58 = .ok (.iconst 2, 1) := dk_5 (dk_at dksX2_waitCost_2 10 rfl rfl)
theorem dX2_waitCost_59 : decode cX2_waitCost 59 = .ok (.invokevirtual 130, 3) := dk_182 0 130 (dk_at dksX2_waitCost_2 11 rfl rfl)
theorem dX2_waitCost_62 : decode cX2_waitCost 62 = .ok (.ifCond .eq 7, 3) := dk_153 0 7 (dk_at dksX2_waitCost_2 14 rfl rfl)
theorem dX2_waitCost_65 : decode cX2_waitCost 65 = .ok (.iconst 0, 1) := dk_3 (dk_at dksX2_waitCost_2 17 rfl rfl)
theorem dX2_waitCost_66 : decode cX2_waitCost 66 = .ok (.goto 4, 3) := dk_167 0 4 (dk_at dksX2_waitCost_2 18 rfl rfl)
theorem dX2_waitCost_69 : decode cX2_waitCost 69 = .ok (.iload_n 3, 1) := dk_29 (dk_at dksX2_waitCost_2 21 rfl rfl)
theorem dX2_waitCost_70 : decode cX2_waitCost 70 = .ok (.ireturn, 1) := dk_172 (dk_at dksX2_waitCost_2 22 rfl rfl)
abbrev cX2_costOf : ByteArray := prog_15_method_85_code
def yX2_costOf : MethodName := ⟨RX2, "costOf", "(II)I"⟩
def dkwX2_costOf_19 : List UInt8 := [42, 180, 0, 102, 21, 5, 46, 104, 167, 0, 4, 3, 96, 54, 4, 132, 5, 1, 167, 255, 162, 21, 4, 172]
abbrev dktX2_costOf_19 : List UInt8 := dkwX2_costOf_19 ++ []
def dkwX2_costOf_18 : List UInt8 := [21, 5, 46, 96, 46, 164, 0, 7, 4, 167, 0, 4, 3, 54, 6, 21, 4, 21, 6, 153, 0, 16, 16, 60]
abbrev dktX2_costOf_18 : List UInt8 := dkwX2_costOf_18 ++ dktX2_costOf_19
def dkwX2_costOf_17 : List UInt8 := [21, 5, 182, 1, 47, 42, 180, 0, 105, 16, 8, 42, 180, 0, 96, 21, 5, 46, 104, 42, 180, 0, 99]
abbrev dktX2_costOf_17 : List UInt8 := dkwX2_costOf_17 ++ dktX2_costOf_18
def dkwX2_costOf_16 : List UInt8 := [162, 0, 91, 28, 21, 5, 122, 4, 126, 154, 0, 49, 42, 21, 5, 27, 182, 1, 44, 153, 0, 39, 42]
abbrev dktX2_costOf_16 : List UInt8 := dkwX2_costOf_16 ++ dktX2_costOf_17
def dkwX2_costOf_15 : List UInt8 := [167, 0, 4, 3, 96, 54, 4, 132, 5, 1, 167, 255, 194, 3, 54, 5, 21, 5, 42, 180, 1, 41]
abbrev dktX2_costOf_15 : List UInt8 := dkwX2_costOf_15 ++ dktX2_costOf_16
def dkwX2_costOf_14 : List UInt8 := [164, 0, 26, 42, 180, 0, 105, 16, 8, 21, 5, 104, 42, 180, 0, 30, 21, 5, 46, 96, 5, 100, 46]
abbrev dktX2_costOf_14 : List UInt8 := dkwX2_costOf_14 ++ dktX2_costOf_15
def dkwX2_costOf_13 : List UInt8 := [162, 0, 59, 21, 4, 42, 21, 5, 27, 182, 1, 38, 153, 0, 37, 42, 180, 0, 30, 21, 5, 46, 4]
abbrev dktX2_costOf_13 : List UInt8 := dkwX2_costOf_13 ++ dktX2_costOf_14
def dkwX2_costOf_12 : List UInt8 := [2, 172, 132, 4, 1, 167, 255, 158, 167, 255, 36, 3, 54, 4, 3, 54, 5, 21, 5, 42, 180, 0, 137]
abbrev dktX2_costOf_12 : List UInt8 := dkwX2_costOf_12 ++ dktX2_costOf_13
def dkwX2_costOf_11 : List UInt8 := [21, 5, 42, 21, 4, 182, 1, 47, 79, 4, 62, 42, 180, 0, 105, 21, 5, 46, 17, 0, 240, 164, 0, 5]
abbrev dktX2_costOf_11 : List UInt8 := dkwX2_costOf_11 ++ dktX2_costOf_12
def dkwX2_costOf_10 : List UInt8 := [153, 0, 49, 42, 180, 0, 105, 21, 5, 46, 42, 21, 4, 182, 1, 47, 162, 0, 33, 42, 180, 0, 105]
abbrev dktX2_costOf_10 : List UInt8 := dkwX2_costOf_10 ++ dktX2_costOf_11
def dkwX2_costOf_9 : List UInt8 := [21, 4, 46, 96, 54, 5, 28, 21, 4, 122, 4, 126, 4, 160, 0, 59, 42, 21, 4, 27, 182, 1, 44]
abbrev dktX2_costOf_9 : List UInt8 := dkwX2_costOf_9 ++ dktX2_costOf_10
def dkwX2_costOf_8 : List UInt8 := [21, 4, 42, 180, 1, 41, 162, 0, 95, 16, 8, 42, 180, 0, 96, 21, 4, 46, 104, 42, 180, 0, 99]
abbrev dktX2_costOf_8 : List UInt8 := dkwX2_costOf_8 ++ dktX2_costOf_9
def dkwX2_costOf_7 : List UInt8 := [21, 5, 96, 4, 100, 46, 79, 4, 62, 132, 5, 1, 167, 255, 170, 132, 4, 1, 167, 255, 152, 3, 54, 4]
abbrev dktX2_costOf_7 : List UInt8 := dkwX2_costOf_7 ++ dktX2_costOf_8
def dkwX2_costOf_6 : List UInt8 := [162, 0, 33, 42, 180, 0, 105, 16, 8, 21, 4, 104, 21, 5, 96, 42, 180, 0, 105, 16, 8, 21, 4, 104]
abbrev dktX2_costOf_6 : List UInt8 := dkwX2_costOf_6 ++ dktX2_costOf_7
def dkwX2_costOf_5 : List UInt8 := [16, 8, 21, 4, 104, 21, 5, 96, 46, 42, 180, 0, 105, 16, 8, 21, 4, 104, 21, 5, 96, 4, 100, 46]
abbrev dktX2_costOf_5 : List UInt8 := dkwX2_costOf_5 ++ dktX2_costOf_6
def dkwX2_costOf_4 : List UInt8 := [27, 182, 1, 38, 153, 0, 82, 21, 5, 42, 180, 0, 30, 21, 4, 46, 162, 0, 70, 42, 180, 0, 105]
abbrev dktX2_costOf_4 : List UInt8 := dkwX2_costOf_4 ++ dktX2_costOf_5
def dkwX2_costOf_3 : List UInt8 := [29, 153, 0, 222, 3, 62, 3, 54, 4, 21, 4, 42, 180, 0, 137, 162, 0, 101, 4, 54, 5, 42, 21, 4]
abbrev dktX2_costOf_3 : List UInt8 := dkwX2_costOf_3 ++ dktX2_costOf_4
def dkwX2_costOf_2 : List UInt8 := [21, 4, 182, 0, 195, 167, 0, 4, 3, 79, 132, 4, 1, 167, 255, 209, 132, 3, 1, 167, 255, 192, 4, 62]
abbrev dktX2_costOf_2 : List UInt8 := dkwX2_costOf_2 ++ dktX2_costOf_3
def dkwX2_costOf_1 : List UInt8 := [42, 180, 0, 105, 16, 8, 29, 104, 21, 4, 96, 42, 29, 27, 182, 1, 38, 153, 0, 14, 42, 27, 29]
abbrev dktX2_costOf_1 : List UInt8 := dkwX2_costOf_1 ++ dktX2_costOf_2
def dkwX2_costOf_0 : List UInt8 := [3, 62, 29, 42, 180, 0, 137, 162, 0, 62, 3, 54, 4, 21, 4, 42, 180, 0, 30, 29, 46, 162, 0, 42]
abbrev dktX2_costOf_0 : List UInt8 := dkwX2_costOf_0 ++ dktX2_costOf_1
theorem dksX2_costOf_0 : cX2_costOf.data.toList.drop 0 = dktX2_costOf_0 := by decide +kernel
theorem dksX2_costOf_1 : cX2_costOf.data.toList.drop 24 = dktX2_costOf_1 := dk_seg dksX2_costOf_0 24 rfl rfl
theorem dksX2_costOf_2 : cX2_costOf.data.toList.drop 47 = dktX2_costOf_2 := dk_seg dksX2_costOf_1 23 rfl rfl
theorem dksX2_costOf_3 : cX2_costOf.data.toList.drop 71 = dktX2_costOf_3 := dk_seg dksX2_costOf_2 24 rfl rfl
theorem dksX2_costOf_4 : cX2_costOf.data.toList.drop 95 = dktX2_costOf_4 := dk_seg dksX2_costOf_3 24 rfl rfl
theorem dksX2_costOf_5 : cX2_costOf.data.toList.drop 118 = dktX2_costOf_5 := dk_seg dksX2_costOf_4 23 rfl rfl
theorem dksX2_costOf_6 : cX2_costOf.data.toList.drop 142 = dktX2_costOf_6 := dk_seg dksX2_costOf_5 24 rfl rfl
theorem dksX2_costOf_7 : cX2_costOf.data.toList.drop 166 = dktX2_costOf_7 := dk_seg dksX2_costOf_6 24 rfl rfl
theorem dksX2_costOf_8 : cX2_costOf.data.toList.drop 190 = dktX2_costOf_8 := dk_seg dksX2_costOf_7 24 rfl rfl
theorem dksX2_costOf_9 : cX2_costOf.data.toList.drop 213 = dktX2_costOf_9 := dk_seg dksX2_costOf_8 23 rfl rfl
theorem dksX2_costOf_10 : cX2_costOf.data.toList.drop 236 = dktX2_costOf_10 := dk_seg dksX2_costOf_9 23 rfl rfl
theorem dksX2_costOf_11 : cX2_costOf.data.toList.drop 259 = dktX2_costOf_11 := dk_seg dksX2_costOf_10 23 rfl rfl
theorem dksX2_costOf_12 : cX2_costOf.data.toList.drop 283 = dktX2_costOf_12 := dk_seg dksX2_costOf_11 24 rfl rfl
theorem dksX2_costOf_13 : cX2_costOf.data.toList.drop 306 = dktX2_costOf_13 := dk_seg dksX2_costOf_12 23 rfl rfl
theorem dksX2_costOf_14 : cX2_costOf.data.toList.drop 329 = dktX2_costOf_14 := dk_seg dksX2_costOf_13 23 rfl rfl
theorem dksX2_costOf_15 : cX2_costOf.data.toList.drop 352 = dktX2_costOf_15 := dk_seg dksX2_costOf_14 23 rfl rfl
theorem dksX2_costOf_16 : cX2_costOf.data.toList.drop 374 = dktX2_costOf_16 := dk_seg dksX2_costOf_15 22 rfl rfl
theorem dksX2_costOf_17 : cX2_costOf.data.toList.drop 397 = dktX2_costOf_17 := dk_seg dksX2_costOf_16 23 rfl rfl
theorem dksX2_costOf_18 : cX2_costOf.data.toList.drop 420 = dktX2_costOf_18 := dk_seg dksX2_costOf_17 23 rfl rfl
theorem dksX2_costOf_19 : cX2_costOf.data.toList.drop 444 = dktX2_costOf_19 := dk_seg dksX2_costOf_18 24 rfl rfl
theorem dX2_costOf_0 : decode cX2_costOf 0 = .ok (.iconst 0, 1) := dk_3 (dk_at dksX2_costOf_0 0 rfl rfl)
theorem dX2_costOf_1 : decode cX2_costOf 1 = .ok (.istore_n 3, 1) := dk_62 (dk_at dksX2_costOf_0 1 rfl rfl)
theorem dX2_costOf_2 : decode cX2_costOf 2 = .ok (.iload_n 3, 1) := dk_29 (dk_at dksX2_costOf_0 2 rfl rfl)
theorem dX2_costOf_3 : decode cX2_costOf 3 = .ok (.aload_n 0, 1) := dk_42 (dk_at dksX2_costOf_0 3 rfl rfl)
theorem dX2_costOf_4 : decode cX2_costOf 4 = .ok (.getfield 137, 3) := dk_180 0 137 (dk_at dksX2_costOf_0 4 rfl rfl)
theorem dX2_costOf_7 : decode cX2_costOf 7 = .ok (.if_icmp .ge 62, 3) := dk_162 0 62 (dk_at dksX2_costOf_0 7 rfl rfl)
theorem dX2_costOf_10 : decode cX2_costOf 10 = .ok (.iconst 0, 1) := dk_3 (dk_at dksX2_costOf_0 10 rfl rfl)
theorem dX2_costOf_11 : decode cX2_costOf 11 = .ok (.istore 4, 2) := dk_54 4 (dk_at dksX2_costOf_0 11 rfl rfl)
theorem dX2_costOf_13 : decode cX2_costOf 13 = .ok (.iload 4, 2) := dk_21 4 (dk_at dksX2_costOf_0 13 rfl rfl)
theorem dX2_costOf_15 : decode cX2_costOf 15 = .ok (.aload_n 0, 1) := dk_42 (dk_at dksX2_costOf_0 15 rfl rfl)
theorem dX2_costOf_16 : decode cX2_costOf 16 = .ok (.getfield 30, 3) := dk_180 0 30 (dk_at dksX2_costOf_0 16 rfl rfl)
theorem dX2_costOf_19 : decode cX2_costOf 19 = .ok (.iload_n 3, 1) := dk_29 (dk_at dksX2_costOf_0 19 rfl rfl)
theorem dX2_costOf_20 : decode cX2_costOf 20 = .ok (.iaload, 1) := dk_46 (dk_at dksX2_costOf_0 20 rfl rfl)
theorem dX2_costOf_21 : decode cX2_costOf 21 = .ok (.if_icmp .ge 42, 3) := dk_162 0 42 (dk_at dksX2_costOf_0 21 rfl rfl)
theorem dX2_costOf_24 : decode cX2_costOf 24 = .ok (.aload_n 0, 1) := dk_42 (dk_at dksX2_costOf_1 0 rfl rfl)
theorem dX2_costOf_25 : decode cX2_costOf 25 = .ok (.getfield 105, 3) := dk_180 0 105 (dk_at dksX2_costOf_1 1 rfl rfl)
theorem dX2_costOf_28 : decode cX2_costOf 28 = .ok (.bipush 8, 2) := dk_16 8 (dk_at dksX2_costOf_1 4 rfl rfl)
theorem dX2_costOf_30 : decode cX2_costOf 30 = .ok (.iload_n 3, 1) := dk_29 (dk_at dksX2_costOf_1 6 rfl rfl)
theorem dX2_costOf_31 : decode cX2_costOf 31 = .ok (.imul, 1) := dk_104 (dk_at dksX2_costOf_1 7 rfl rfl)
theorem dX2_costOf_32 : decode cX2_costOf 32 = .ok (.iload 4, 2) := dk_21 4 (dk_at dksX2_costOf_1 8 rfl rfl)
theorem dX2_costOf_34 : decode cX2_costOf 34 = .ok (.iadd, 1) := dk_96 (dk_at dksX2_costOf_1 10 rfl rfl)
theorem dX2_costOf_35 : decode cX2_costOf 35 = .ok (.aload_n 0, 1) := dk_42 (dk_at dksX2_costOf_1 11 rfl rfl)
theorem dX2_costOf_36 : decode cX2_costOf 36 = .ok (.iload_n 3, 1) := dk_29 (dk_at dksX2_costOf_1 12 rfl rfl)
theorem dX2_costOf_37 : decode cX2_costOf 37 = .ok (.iload_n 1, 1) := dk_27 (dk_at dksX2_costOf_1 13 rfl rfl)
theorem dX2_costOf_38 : decode cX2_costOf 38 = .ok (.invokevirtual 294, 3) := dk_182 1 38 (dk_at dksX2_costOf_1 14 rfl rfl)
theorem dX2_costOf_41 : decode cX2_costOf 41 = .ok (.ifCond .eq 14, 3) := dk_153 0 14 (dk_at dksX2_costOf_1 17 rfl rfl)
theorem dX2_costOf_44 : decode cX2_costOf 44 = .ok (.aload_n 0, 1) := dk_42 (dk_at dksX2_costOf_1 20 rfl rfl)
theorem dX2_costOf_45 : decode cX2_costOf 45 = .ok (.iload_n 1, 1) := dk_27 (dk_at dksX2_costOf_1 21 rfl rfl)
theorem dX2_costOf_46 : decode cX2_costOf 46 = .ok (.iload_n 3, 1) := dk_29 (dk_at dksX2_costOf_1 22 rfl rfl)
theorem dX2_costOf_47 : decode cX2_costOf 47 = .ok (.iload 4, 2) := dk_21 4 (dk_at dksX2_costOf_2 0 rfl rfl)
theorem dX2_costOf_49 : decode cX2_costOf 49 = .ok (.invokevirtual 195, 3) := dk_182 0 195 (dk_at dksX2_costOf_2 2 rfl rfl)
theorem dX2_costOf_52 : decode cX2_costOf 52 = .ok (.goto 4, 3) := dk_167 0 4 (dk_at dksX2_costOf_2 5 rfl rfl)
theorem dX2_costOf_55 : decode cX2_costOf 55 = .ok (.iconst 0, 1) := dk_3 (dk_at dksX2_costOf_2 8 rfl rfl)
theorem dX2_costOf_56 : decode cX2_costOf 56 = .ok (.iastore, 1) := dk_79 (dk_at dksX2_costOf_2 9 rfl rfl)
theorem dX2_costOf_57 : decode cX2_costOf 57 = .ok (.iinc 4 1, 3) := dk_132 4 1 (dk_at dksX2_costOf_2 10 rfl rfl)
theorem dX2_costOf_60 : decode cX2_costOf 60 = .ok (.goto (-47), 3) := dk_167 255 209 (dk_at dksX2_costOf_2 13 rfl rfl)
theorem dX2_costOf_63 : decode cX2_costOf 63 = .ok (.iinc 3 1, 3) := dk_132 3 1 (dk_at dksX2_costOf_2 16 rfl rfl)
theorem dX2_costOf_66 : decode cX2_costOf 66 = .ok (.goto (-64), 3) := dk_167 255 192 (dk_at dksX2_costOf_2 19 rfl rfl)
theorem dX2_costOf_69 : decode cX2_costOf 69 = .ok (.iconst 1, 1) := dk_4 (dk_at dksX2_costOf_2 22 rfl rfl)
theorem dX2_costOf_70 : decode cX2_costOf 70 = .ok (.istore_n 3, 1) := dk_62 (dk_at dksX2_costOf_2 23 rfl rfl)
theorem dX2_costOf_71 : decode cX2_costOf 71 = .ok (.iload_n 3, 1) := dk_29 (dk_at dksX2_costOf_3 0 rfl rfl)
theorem dX2_costOf_72 : decode cX2_costOf 72 = .ok (.ifCond .eq 222, 3) := dk_153 0 222 (dk_at dksX2_costOf_3 1 rfl rfl)
theorem dX2_costOf_75 : decode cX2_costOf 75 = .ok (.iconst 0, 1) := dk_3 (dk_at dksX2_costOf_3 4 rfl rfl)
theorem dX2_costOf_76 : decode cX2_costOf 76 = .ok (.istore_n 3, 1) := dk_62 (dk_at dksX2_costOf_3 5 rfl rfl)
theorem dX2_costOf_77 : decode cX2_costOf 77 = .ok (.iconst 0, 1) := dk_3 (dk_at dksX2_costOf_3 6 rfl rfl)
theorem dX2_costOf_78 : decode cX2_costOf 78 = .ok (.istore 4, 2) := dk_54 4 (dk_at dksX2_costOf_3 7 rfl rfl)
theorem dX2_costOf_80 : decode cX2_costOf 80 = .ok (.iload 4, 2) := dk_21 4 (dk_at dksX2_costOf_3 9 rfl rfl)
theorem dX2_costOf_82 : decode cX2_costOf 82 = .ok (.aload_n 0, 1) := dk_42 (dk_at dksX2_costOf_3 11 rfl rfl)
theorem dX2_costOf_83 : decode cX2_costOf 83 = .ok (.getfield 137, 3) := dk_180 0 137 (dk_at dksX2_costOf_3 12 rfl rfl)
theorem dX2_costOf_86 : decode cX2_costOf 86 = .ok (.if_icmp .ge 101, 3) := dk_162 0 101 (dk_at dksX2_costOf_3 15 rfl rfl)
theorem dX2_costOf_89 : decode cX2_costOf 89 = .ok (.iconst 1, 1) := dk_4 (dk_at dksX2_costOf_3 18 rfl rfl)
theorem dX2_costOf_90 : decode cX2_costOf 90 = .ok (.istore 5, 2) := dk_54 5 (dk_at dksX2_costOf_3 19 rfl rfl)
theorem dX2_costOf_92 : decode cX2_costOf 92 = .ok (.aload_n 0, 1) := dk_42 (dk_at dksX2_costOf_3 21 rfl rfl)
theorem dX2_costOf_93 : decode cX2_costOf 93 = .ok (.iload 4, 2) := dk_21 4 (dk_at dksX2_costOf_3 22 rfl rfl)
theorem dX2_costOf_95 : decode cX2_costOf 95 = .ok (.iload_n 1, 1) := dk_27 (dk_at dksX2_costOf_4 0 rfl rfl)
theorem dX2_costOf_96 : decode cX2_costOf 96 = .ok (.invokevirtual 294, 3) := dk_182 1 38 (dk_at dksX2_costOf_4 1 rfl rfl)
theorem dX2_costOf_99 : decode cX2_costOf 99 = .ok (.ifCond .eq 82, 3) := dk_153 0 82 (dk_at dksX2_costOf_4 4 rfl rfl)
theorem dX2_costOf_102 : decode cX2_costOf 102 = .ok (.iload 5, 2) := dk_21 5 (dk_at dksX2_costOf_4 7 rfl rfl)
theorem dX2_costOf_104 : decode cX2_costOf 104 = .ok (.aload_n 0, 1) := dk_42 (dk_at dksX2_costOf_4 9 rfl rfl)
theorem dX2_costOf_105 : decode cX2_costOf 105 = .ok (.getfield 30, 3) := dk_180 0 30 (dk_at dksX2_costOf_4 10 rfl rfl)
theorem dX2_costOf_108 : decode cX2_costOf 108 = .ok (.iload 4, 2) := dk_21 4 (dk_at dksX2_costOf_4 13 rfl rfl)
theorem dX2_costOf_110 : decode cX2_costOf 110 = .ok (.iaload, 1) := dk_46 (dk_at dksX2_costOf_4 15 rfl rfl)
theorem dX2_costOf_111 : decode cX2_costOf 111 = .ok (.if_icmp .ge 70, 3) := dk_162 0 70 (dk_at dksX2_costOf_4 16 rfl rfl)
theorem dX2_costOf_114 : decode cX2_costOf 114 = .ok (.aload_n 0, 1) := dk_42 (dk_at dksX2_costOf_4 19 rfl rfl)
theorem dX2_costOf_115 : decode cX2_costOf 115 = .ok (.getfield 105, 3) := dk_180 0 105 (dk_at dksX2_costOf_4 20 rfl rfl)
theorem dX2_costOf_118 : decode cX2_costOf 118 = .ok (.bipush 8, 2) := dk_16 8 (dk_at dksX2_costOf_5 0 rfl rfl)
theorem dX2_costOf_120 : decode cX2_costOf 120 = .ok (.iload 4, 2) := dk_21 4 (dk_at dksX2_costOf_5 2 rfl rfl)
theorem dX2_costOf_122 : decode cX2_costOf 122 = .ok (.imul, 1) := dk_104 (dk_at dksX2_costOf_5 4 rfl rfl)
theorem dX2_costOf_123 : decode cX2_costOf 123 = .ok (.iload 5, 2) := dk_21 5 (dk_at dksX2_costOf_5 5 rfl rfl)
theorem dX2_costOf_125 : decode cX2_costOf 125 = .ok (.iadd, 1) := dk_96 (dk_at dksX2_costOf_5 7 rfl rfl)
theorem dX2_costOf_126 : decode cX2_costOf 126 = .ok (.iaload, 1) := dk_46 (dk_at dksX2_costOf_5 8 rfl rfl)
theorem dX2_costOf_127 : decode cX2_costOf 127 = .ok (.aload_n 0, 1) := dk_42 (dk_at dksX2_costOf_5 9 rfl rfl)
theorem dX2_costOf_128 : decode cX2_costOf 128 = .ok (.getfield 105, 3) := dk_180 0 105 (dk_at dksX2_costOf_5 10 rfl rfl)
theorem dX2_costOf_131 : decode cX2_costOf 131 = .ok (.bipush 8, 2) := dk_16 8 (dk_at dksX2_costOf_5 13 rfl rfl)
theorem dX2_costOf_133 : decode cX2_costOf 133 = .ok (.iload 4, 2) := dk_21 4 (dk_at dksX2_costOf_5 15 rfl rfl)
theorem dX2_costOf_135 : decode cX2_costOf 135 = .ok (.imul, 1) := dk_104 (dk_at dksX2_costOf_5 17 rfl rfl)
theorem dX2_costOf_136 : decode cX2_costOf 136 = .ok (.iload 5, 2) := dk_21 5 (dk_at dksX2_costOf_5 18 rfl rfl)
theorem dX2_costOf_138 : decode cX2_costOf 138 = .ok (.iadd, 1) := dk_96 (dk_at dksX2_costOf_5 20 rfl rfl)
theorem dX2_costOf_139 : decode cX2_costOf 139 = .ok (.iconst 1, 1) := dk_4 (dk_at dksX2_costOf_5 21 rfl rfl)
theorem dX2_costOf_140 : decode cX2_costOf 140 = .ok (.isub, 1) := dk_100 (dk_at dksX2_costOf_5 22 rfl rfl)
theorem dX2_costOf_141 : decode cX2_costOf 141 = .ok (.iaload, 1) := dk_46 (dk_at dksX2_costOf_5 23 rfl rfl)
theorem dX2_costOf_142 : decode cX2_costOf 142 = .ok (.if_icmp .ge 33, 3) := dk_162 0 33 (dk_at dksX2_costOf_6 0 rfl rfl)
theorem dX2_costOf_145 : decode cX2_costOf 145 = .ok (.aload_n 0, 1) := dk_42 (dk_at dksX2_costOf_6 3 rfl rfl)
theorem dX2_costOf_146 : decode cX2_costOf 146 = .ok (.getfield 105, 3) := dk_180 0 105 (dk_at dksX2_costOf_6 4 rfl rfl)
theorem dX2_costOf_149 : decode cX2_costOf 149 = .ok (.bipush 8, 2) := dk_16 8 (dk_at dksX2_costOf_6 7 rfl rfl)
theorem dX2_costOf_151 : decode cX2_costOf 151 = .ok (.iload 4, 2) := dk_21 4 (dk_at dksX2_costOf_6 9 rfl rfl)
theorem dX2_costOf_153 : decode cX2_costOf 153 = .ok (.imul, 1) := dk_104 (dk_at dksX2_costOf_6 11 rfl rfl)
theorem dX2_costOf_154 : decode cX2_costOf 154 = .ok (.iload 5, 2) := dk_21 5 (dk_at dksX2_costOf_6 12 rfl rfl)
theorem dX2_costOf_156 : decode cX2_costOf 156 = .ok (.iadd, 1) := dk_96 (dk_at dksX2_costOf_6 14 rfl rfl)
theorem dX2_costOf_157 : decode cX2_costOf 157 = .ok (.aload_n 0, 1) := dk_42 (dk_at dksX2_costOf_6 15 rfl rfl)
theorem dX2_costOf_158 : decode cX2_costOf 158 = .ok (.getfield 105, 3) := dk_180 0 105 (dk_at dksX2_costOf_6 16 rfl rfl)
theorem dX2_costOf_161 : decode cX2_costOf 161 = .ok (.bipush 8, 2) := dk_16 8 (dk_at dksX2_costOf_6 19 rfl rfl)
theorem dX2_costOf_163 : decode cX2_costOf 163 = .ok (.iload 4, 2) := dk_21 4 (dk_at dksX2_costOf_6 21 rfl rfl)
theorem dX2_costOf_165 : decode cX2_costOf 165 = .ok (.imul, 1) := dk_104 (dk_at dksX2_costOf_6 23 rfl rfl)
theorem dX2_costOf_166 : decode cX2_costOf 166 = .ok (.iload 5, 2) := dk_21 5 (dk_at dksX2_costOf_7 0 rfl rfl)
theorem dX2_costOf_168 : decode cX2_costOf 168 = .ok (.iadd, 1) := dk_96 (dk_at dksX2_costOf_7 2 rfl rfl)
theorem dX2_costOf_169 : decode cX2_costOf 169 = .ok (.iconst 1, 1) := dk_4 (dk_at dksX2_costOf_7 3 rfl rfl)
theorem dX2_costOf_170 : decode cX2_costOf 170 = .ok (.isub, 1) := dk_100 (dk_at dksX2_costOf_7 4 rfl rfl)
theorem dX2_costOf_171 : decode cX2_costOf 171 = .ok (.iaload, 1) := dk_46 (dk_at dksX2_costOf_7 5 rfl rfl)
theorem dX2_costOf_172 : decode cX2_costOf 172 = .ok (.iastore, 1) := dk_79 (dk_at dksX2_costOf_7 6 rfl rfl)
theorem dX2_costOf_173 : decode cX2_costOf 173 = .ok (.iconst 1, 1) := dk_4 (dk_at dksX2_costOf_7 7 rfl rfl)
theorem dX2_costOf_174 : decode cX2_costOf 174 = .ok (.istore_n 3, 1) := dk_62 (dk_at dksX2_costOf_7 8 rfl rfl)
theorem dX2_costOf_175 : decode cX2_costOf 175 = .ok (.iinc 5 1, 3) := dk_132 5 1 (dk_at dksX2_costOf_7 9 rfl rfl)
theorem dX2_costOf_178 : decode cX2_costOf 178 = .ok (.goto (-86), 3) := dk_167 255 170 (dk_at dksX2_costOf_7 12 rfl rfl)
theorem dX2_costOf_181 : decode cX2_costOf 181 = .ok (.iinc 4 1, 3) := dk_132 4 1 (dk_at dksX2_costOf_7 15 rfl rfl)
theorem dX2_costOf_184 : decode cX2_costOf 184 = .ok (.goto (-104), 3) := dk_167 255 152 (dk_at dksX2_costOf_7 18 rfl rfl)
theorem dX2_costOf_187 : decode cX2_costOf 187 = .ok (.iconst 0, 1) := dk_3 (dk_at dksX2_costOf_7 21 rfl rfl)
theorem dX2_costOf_188 : decode cX2_costOf 188 = .ok (.istore 4, 2) := dk_54 4 (dk_at dksX2_costOf_7 22 rfl rfl)
theorem dX2_costOf_190 : decode cX2_costOf 190 = .ok (.iload 4, 2) := dk_21 4 (dk_at dksX2_costOf_8 0 rfl rfl)
theorem dX2_costOf_192 : decode cX2_costOf 192 = .ok (.aload_n 0, 1) := dk_42 (dk_at dksX2_costOf_8 2 rfl rfl)
theorem dX2_costOf_193 : decode cX2_costOf 193 = .ok (.getfield 297, 3) := dk_180 1 41 (dk_at dksX2_costOf_8 3 rfl rfl)
theorem dX2_costOf_196 : decode cX2_costOf 196 = .ok (.if_icmp .ge 95, 3) := dk_162 0 95 (dk_at dksX2_costOf_8 6 rfl rfl)
theorem dX2_costOf_199 : decode cX2_costOf 199 = .ok (.bipush 8, 2) := dk_16 8 (dk_at dksX2_costOf_8 9 rfl rfl)
theorem dX2_costOf_201 : decode cX2_costOf 201 = .ok (.aload_n 0, 1) := dk_42 (dk_at dksX2_costOf_8 11 rfl rfl)
theorem dX2_costOf_202 : decode cX2_costOf 202 = .ok (.getfield 96, 3) := dk_180 0 96 (dk_at dksX2_costOf_8 12 rfl rfl)
theorem dX2_costOf_205 : decode cX2_costOf 205 = .ok (.iload 4, 2) := dk_21 4 (dk_at dksX2_costOf_8 15 rfl rfl)
theorem dX2_costOf_207 : decode cX2_costOf 207 = .ok (.iaload, 1) := dk_46 (dk_at dksX2_costOf_8 17 rfl rfl)
theorem dX2_costOf_208 : decode cX2_costOf 208 = .ok (.imul, 1) := dk_104 (dk_at dksX2_costOf_8 18 rfl rfl)
theorem dX2_costOf_209 : decode cX2_costOf 209 = .ok (.aload_n 0, 1) := dk_42 (dk_at dksX2_costOf_8 19 rfl rfl)
theorem dX2_costOf_210 : decode cX2_costOf 210 = .ok (.getfield 99, 3) := dk_180 0 99 (dk_at dksX2_costOf_8 20 rfl rfl)
theorem dX2_costOf_213 : decode cX2_costOf 213 = .ok (.iload 4, 2) := dk_21 4 (dk_at dksX2_costOf_9 0 rfl rfl)
theorem dX2_costOf_215 : decode cX2_costOf 215 = .ok (.iaload, 1) := dk_46 (dk_at dksX2_costOf_9 2 rfl rfl)
theorem dX2_costOf_216 : decode cX2_costOf 216 = .ok (.iadd, 1) := dk_96 (dk_at dksX2_costOf_9 3 rfl rfl)
theorem dX2_costOf_217 : decode cX2_costOf 217 = .ok (.istore 5, 2) := dk_54 5 (dk_at dksX2_costOf_9 4 rfl rfl)
theorem dX2_costOf_219 : decode cX2_costOf 219 = .ok (.iload_n 2, 1) := dk_28 (dk_at dksX2_costOf_9 6 rfl rfl)
theorem dX2_costOf_220 : decode cX2_costOf 220 = .ok (.iload 4, 2) := dk_21 4 (dk_at dksX2_costOf_9 7 rfl rfl)
theorem dX2_costOf_222 : decode cX2_costOf 222 = .ok (.ishr, 1) := dk_122 (dk_at dksX2_costOf_9 9 rfl rfl)
theorem dX2_costOf_223 : decode cX2_costOf 223 = .ok (.iconst 1, 1) := dk_4 (dk_at dksX2_costOf_9 10 rfl rfl)
theorem dX2_costOf_224 : decode cX2_costOf 224 = .ok (.iand, 1) := dk_126 (dk_at dksX2_costOf_9 11 rfl rfl)
theorem dX2_costOf_225 : decode cX2_costOf 225 = .ok (.iconst 1, 1) := dk_4 (dk_at dksX2_costOf_9 12 rfl rfl)
theorem dX2_costOf_226 : decode cX2_costOf 226 = .ok (.if_icmp .ne 59, 3) := dk_160 0 59 (dk_at dksX2_costOf_9 13 rfl rfl)
theorem dX2_costOf_229 : decode cX2_costOf 229 = .ok (.aload_n 0, 1) := dk_42 (dk_at dksX2_costOf_9 16 rfl rfl)
theorem dX2_costOf_230 : decode cX2_costOf 230 = .ok (.iload 4, 2) := dk_21 4 (dk_at dksX2_costOf_9 17 rfl rfl)
theorem dX2_costOf_232 : decode cX2_costOf 232 = .ok (.iload_n 1, 1) := dk_27 (dk_at dksX2_costOf_9 19 rfl rfl)
theorem dX2_costOf_233 : decode cX2_costOf 233 = .ok (.invokevirtual 300, 3) := dk_182 1 44 (dk_at dksX2_costOf_9 20 rfl rfl)
theorem dX2_costOf_236 : decode cX2_costOf 236 = .ok (.ifCond .eq 49, 3) := dk_153 0 49 (dk_at dksX2_costOf_10 0 rfl rfl)
theorem dX2_costOf_239 : decode cX2_costOf 239 = .ok (.aload_n 0, 1) := dk_42 (dk_at dksX2_costOf_10 3 rfl rfl)
theorem dX2_costOf_240 : decode cX2_costOf 240 = .ok (.getfield 105, 3) := dk_180 0 105 (dk_at dksX2_costOf_10 4 rfl rfl)
theorem dX2_costOf_243 : decode cX2_costOf 243 = .ok (.iload 5, 2) := dk_21 5 (dk_at dksX2_costOf_10 7 rfl rfl)
theorem dX2_costOf_245 : decode cX2_costOf 245 = .ok (.iaload, 1) := dk_46 (dk_at dksX2_costOf_10 9 rfl rfl)
theorem dX2_costOf_246 : decode cX2_costOf 246 = .ok (.aload_n 0, 1) := dk_42 (dk_at dksX2_costOf_10 10 rfl rfl)
theorem dX2_costOf_247 : decode cX2_costOf 247 = .ok (.iload 4, 2) := dk_21 4 (dk_at dksX2_costOf_10 11 rfl rfl)
theorem dX2_costOf_249 : decode cX2_costOf 249 = .ok (.invokevirtual 303, 3) := dk_182 1 47 (dk_at dksX2_costOf_10 13 rfl rfl)
theorem dX2_costOf_252 : decode cX2_costOf 252 = .ok (.if_icmp .ge 33, 3) := dk_162 0 33 (dk_at dksX2_costOf_10 16 rfl rfl)
theorem dX2_costOf_255 : decode cX2_costOf 255 = .ok (.aload_n 0, 1) := dk_42 (dk_at dksX2_costOf_10 19 rfl rfl)
theorem dX2_costOf_256 : decode cX2_costOf 256 = .ok (.getfield 105, 3) := dk_180 0 105 (dk_at dksX2_costOf_10 20 rfl rfl)
theorem dX2_costOf_259 : decode cX2_costOf 259 = .ok (.iload 5, 2) := dk_21 5 (dk_at dksX2_costOf_11 0 rfl rfl)
theorem dX2_costOf_261 : decode cX2_costOf 261 = .ok (.aload_n 0, 1) := dk_42 (dk_at dksX2_costOf_11 2 rfl rfl)
theorem dX2_costOf_262 : decode cX2_costOf 262 = .ok (.iload 4, 2) := dk_21 4 (dk_at dksX2_costOf_11 3 rfl rfl)
theorem dX2_costOf_264 : decode cX2_costOf 264 = .ok (.invokevirtual 303, 3) := dk_182 1 47 (dk_at dksX2_costOf_11 5 rfl rfl)
theorem dX2_costOf_267 : decode cX2_costOf 267 = .ok (.iastore, 1) := dk_79 (dk_at dksX2_costOf_11 8 rfl rfl)
theorem dX2_costOf_268 : decode cX2_costOf 268 = .ok (.iconst 1, 1) := dk_4 (dk_at dksX2_costOf_11 9 rfl rfl)
theorem dX2_costOf_269 : decode cX2_costOf 269 = .ok (.istore_n 3, 1) := dk_62 (dk_at dksX2_costOf_11 10 rfl rfl)
theorem dX2_costOf_270 : decode cX2_costOf 270 = .ok (.aload_n 0, 1) := dk_42 (dk_at dksX2_costOf_11 11 rfl rfl)
theorem dX2_costOf_271 : decode cX2_costOf 271 = .ok (.getfield 105, 3) := dk_180 0 105 (dk_at dksX2_costOf_11 12 rfl rfl)
theorem dX2_costOf_274 : decode cX2_costOf 274 = .ok (.iload 5, 2) := dk_21 5 (dk_at dksX2_costOf_11 15 rfl rfl)
theorem dX2_costOf_276 : decode cX2_costOf 276 = .ok (.iaload, 1) := dk_46 (dk_at dksX2_costOf_11 17 rfl rfl)
theorem dX2_costOf_277 : decode cX2_costOf 277 = .ok (.sipush 240, 3) := dk_17 0 240 (dk_at dksX2_costOf_11 18 rfl rfl)
theorem dX2_costOf_280 : decode cX2_costOf 280 = .ok (.if_icmp .le 5, 3) := dk_164 0 5 (dk_at dksX2_costOf_11 21 rfl rfl)
theorem dX2_costOf_283 : decode cX2_costOf 283 = .ok (.iconst (-1), 1) := dk_2 (dk_at dksX2_costOf_12 0 rfl rfl)
theorem dX2_costOf_284 : decode cX2_costOf 284 = .ok (.ireturn, 1) := dk_172 (dk_at dksX2_costOf_12 1 rfl rfl)
theorem dX2_costOf_285 : decode cX2_costOf 285 = .ok (.iinc 4 1, 3) := dk_132 4 1 (dk_at dksX2_costOf_12 2 rfl rfl)
theorem dX2_costOf_288 : decode cX2_costOf 288 = .ok (.goto (-98), 3) := dk_167 255 158 (dk_at dksX2_costOf_12 5 rfl rfl)
theorem dX2_costOf_291 : decode cX2_costOf 291 = .ok (.goto (-220), 3) := dk_167 255 36 (dk_at dksX2_costOf_12 8 rfl rfl)
theorem dX2_costOf_294 : decode cX2_costOf 294 = .ok (.iconst 0, 1) := dk_3 (dk_at dksX2_costOf_12 11 rfl rfl)
theorem dX2_costOf_295 : decode cX2_costOf 295 = .ok (.istore 4, 2) := dk_54 4 (dk_at dksX2_costOf_12 12 rfl rfl)
theorem dX2_costOf_297 : decode cX2_costOf 297 = .ok (.iconst 0, 1) := dk_3 (dk_at dksX2_costOf_12 14 rfl rfl)
theorem dX2_costOf_298 : decode cX2_costOf 298 = .ok (.istore 5, 2) := dk_54 5 (dk_at dksX2_costOf_12 15 rfl rfl)
theorem dX2_costOf_300 : decode cX2_costOf 300 = .ok (.iload 5, 2) := dk_21 5 (dk_at dksX2_costOf_12 17 rfl rfl)
theorem dX2_costOf_302 : decode cX2_costOf 302 = .ok (.aload_n 0, 1) := dk_42 (dk_at dksX2_costOf_12 19 rfl rfl)
theorem dX2_costOf_303 : decode cX2_costOf 303 = .ok (.getfield 137, 3) := dk_180 0 137 (dk_at dksX2_costOf_12 20 rfl rfl)
theorem dX2_costOf_306 : decode cX2_costOf 306 = .ok (.if_icmp .ge 59, 3) := dk_162 0 59 (dk_at dksX2_costOf_13 0 rfl rfl)
theorem dX2_costOf_309 : decode cX2_costOf 309 = .ok (.iload 4, 2) := dk_21 4 (dk_at dksX2_costOf_13 3 rfl rfl)
theorem dX2_costOf_311 : decode cX2_costOf 311 = .ok (.aload_n 0, 1) := dk_42 (dk_at dksX2_costOf_13 5 rfl rfl)
theorem dX2_costOf_312 : decode cX2_costOf 312 = .ok (.iload 5, 2) := dk_21 5 (dk_at dksX2_costOf_13 6 rfl rfl)
theorem dX2_costOf_314 : decode cX2_costOf 314 = .ok (.iload_n 1, 1) := dk_27 (dk_at dksX2_costOf_13 8 rfl rfl)
theorem dX2_costOf_315 : decode cX2_costOf 315 = .ok (.invokevirtual 294, 3) := dk_182 1 38 (dk_at dksX2_costOf_13 9 rfl rfl)
theorem dX2_costOf_318 : decode cX2_costOf 318 = .ok (.ifCond .eq 37, 3) := dk_153 0 37 (dk_at dksX2_costOf_13 12 rfl rfl)
theorem dX2_costOf_321 : decode cX2_costOf 321 = .ok (.aload_n 0, 1) := dk_42 (dk_at dksX2_costOf_13 15 rfl rfl)
theorem dX2_costOf_322 : decode cX2_costOf 322 = .ok (.getfield 30, 3) := dk_180 0 30 (dk_at dksX2_costOf_13 16 rfl rfl)
theorem dX2_costOf_325 : decode cX2_costOf 325 = .ok (.iload 5, 2) := dk_21 5 (dk_at dksX2_costOf_13 19 rfl rfl)
theorem dX2_costOf_327 : decode cX2_costOf 327 = .ok (.iaload, 1) := dk_46 (dk_at dksX2_costOf_13 21 rfl rfl)
theorem dX2_costOf_328 : decode cX2_costOf 328 = .ok (.iconst 1, 1) := dk_4 (dk_at dksX2_costOf_13 22 rfl rfl)
theorem dX2_costOf_329 : decode cX2_costOf 329 = .ok (.if_icmp .le 26, 3) := dk_164 0 26 (dk_at dksX2_costOf_14 0 rfl rfl)
theorem dX2_costOf_332 : decode cX2_costOf 332 = .ok (.aload_n 0, 1) := dk_42 (dk_at dksX2_costOf_14 3 rfl rfl)
theorem dX2_costOf_333 : decode cX2_costOf 333 = .ok (.getfield 105, 3) := dk_180 0 105 (dk_at dksX2_costOf_14 4 rfl rfl)
theorem dX2_costOf_336 : decode cX2_costOf 336 = .ok (.bipush 8, 2) := dk_16 8 (dk_at dksX2_costOf_14 7 rfl rfl)
theorem dX2_costOf_338 : decode cX2_costOf 338 = .ok (.iload 5, 2) := dk_21 5 (dk_at dksX2_costOf_14 9 rfl rfl)
theorem dX2_costOf_340 : decode cX2_costOf 340 = .ok (.imul, 1) := dk_104 (dk_at dksX2_costOf_14 11 rfl rfl)
theorem dX2_costOf_341 : decode cX2_costOf 341 = .ok (.aload_n 0, 1) := dk_42 (dk_at dksX2_costOf_14 12 rfl rfl)
theorem dX2_costOf_342 : decode cX2_costOf 342 = .ok (.getfield 30, 3) := dk_180 0 30 (dk_at dksX2_costOf_14 13 rfl rfl)
theorem dX2_costOf_345 : decode cX2_costOf 345 = .ok (.iload 5, 2) := dk_21 5 (dk_at dksX2_costOf_14 16 rfl rfl)
theorem dX2_costOf_347 : decode cX2_costOf 347 = .ok (.iaload, 1) := dk_46 (dk_at dksX2_costOf_14 18 rfl rfl)
theorem dX2_costOf_348 : decode cX2_costOf 348 = .ok (.iadd, 1) := dk_96 (dk_at dksX2_costOf_14 19 rfl rfl)
theorem dX2_costOf_349 : decode cX2_costOf 349 = .ok (.iconst 2, 1) := dk_5 (dk_at dksX2_costOf_14 20 rfl rfl)
theorem dX2_costOf_350 : decode cX2_costOf 350 = .ok (.isub, 1) := dk_100 (dk_at dksX2_costOf_14 21 rfl rfl)
theorem dX2_costOf_351 : decode cX2_costOf 351 = .ok (.iaload, 1) := dk_46 (dk_at dksX2_costOf_14 22 rfl rfl)
theorem dX2_costOf_352 : decode cX2_costOf 352 = .ok (.goto 4, 3) := dk_167 0 4 (dk_at dksX2_costOf_15 0 rfl rfl)
theorem dX2_costOf_355 : decode cX2_costOf 355 = .ok (.iconst 0, 1) := dk_3 (dk_at dksX2_costOf_15 3 rfl rfl)
theorem dX2_costOf_356 : decode cX2_costOf 356 = .ok (.iadd, 1) := dk_96 (dk_at dksX2_costOf_15 4 rfl rfl)
theorem dX2_costOf_357 : decode cX2_costOf 357 = .ok (.istore 4, 2) := dk_54 4 (dk_at dksX2_costOf_15 5 rfl rfl)
theorem dX2_costOf_359 : decode cX2_costOf 359 = .ok (.iinc 5 1, 3) := dk_132 5 1 (dk_at dksX2_costOf_15 7 rfl rfl)
theorem dX2_costOf_362 : decode cX2_costOf 362 = .ok (.goto (-62), 3) := dk_167 255 194 (dk_at dksX2_costOf_15 10 rfl rfl)
theorem dX2_costOf_365 : decode cX2_costOf 365 = .ok (.iconst 0, 1) := dk_3 (dk_at dksX2_costOf_15 13 rfl rfl)
theorem dX2_costOf_366 : decode cX2_costOf 366 = .ok (.istore 5, 2) := dk_54 5 (dk_at dksX2_costOf_15 14 rfl rfl)
theorem dX2_costOf_368 : decode cX2_costOf 368 = .ok (.iload 5, 2) := dk_21 5 (dk_at dksX2_costOf_15 16 rfl rfl)
theorem dX2_costOf_370 : decode cX2_costOf 370 = .ok (.aload_n 0, 1) := dk_42 (dk_at dksX2_costOf_15 18 rfl rfl)
theorem dX2_costOf_371 : decode cX2_costOf 371 = .ok (.getfield 297, 3) := dk_180 1 41 (dk_at dksX2_costOf_15 19 rfl rfl)
theorem dX2_costOf_374 : decode cX2_costOf 374 = .ok (.if_icmp .ge 91, 3) := dk_162 0 91 (dk_at dksX2_costOf_16 0 rfl rfl)
theorem dX2_costOf_377 : decode cX2_costOf 377 = .ok (.iload_n 2, 1) := dk_28 (dk_at dksX2_costOf_16 3 rfl rfl)
theorem dX2_costOf_378 : decode cX2_costOf 378 = .ok (.iload 5, 2) := dk_21 5 (dk_at dksX2_costOf_16 4 rfl rfl)
theorem dX2_costOf_380 : decode cX2_costOf 380 = .ok (.ishr, 1) := dk_122 (dk_at dksX2_costOf_16 6 rfl rfl)
theorem dX2_costOf_381 : decode cX2_costOf 381 = .ok (.iconst 1, 1) := dk_4 (dk_at dksX2_costOf_16 7 rfl rfl)
theorem dX2_costOf_382 : decode cX2_costOf 382 = .ok (.iand, 1) := dk_126 (dk_at dksX2_costOf_16 8 rfl rfl)
theorem dX2_costOf_383 : decode cX2_costOf 383 = .ok (.ifCond .ne 49, 3) := dk_154 0 49 (dk_at dksX2_costOf_16 9 rfl rfl)
theorem dX2_costOf_386 : decode cX2_costOf 386 = .ok (.aload_n 0, 1) := dk_42 (dk_at dksX2_costOf_16 12 rfl rfl)
theorem dX2_costOf_387 : decode cX2_costOf 387 = .ok (.iload 5, 2) := dk_21 5 (dk_at dksX2_costOf_16 13 rfl rfl)
theorem dX2_costOf_389 : decode cX2_costOf 389 = .ok (.iload_n 1, 1) := dk_27 (dk_at dksX2_costOf_16 15 rfl rfl)
theorem dX2_costOf_390 : decode cX2_costOf 390 = .ok (.invokevirtual 300, 3) := dk_182 1 44 (dk_at dksX2_costOf_16 16 rfl rfl)
theorem dX2_costOf_393 : decode cX2_costOf 393 = .ok (.ifCond .eq 39, 3) := dk_153 0 39 (dk_at dksX2_costOf_16 19 rfl rfl)
theorem dX2_costOf_396 : decode cX2_costOf 396 = .ok (.aload_n 0, 1) := dk_42 (dk_at dksX2_costOf_16 22 rfl rfl)
theorem dX2_costOf_397 : decode cX2_costOf 397 = .ok (.iload 5, 2) := dk_21 5 (dk_at dksX2_costOf_17 0 rfl rfl)
theorem dX2_costOf_399 : decode cX2_costOf 399 = .ok (.invokevirtual 303, 3) := dk_182 1 47 (dk_at dksX2_costOf_17 2 rfl rfl)
theorem dX2_costOf_402 : decode cX2_costOf 402 = .ok (.aload_n 0, 1) := dk_42 (dk_at dksX2_costOf_17 5 rfl rfl)
theorem dX2_costOf_403 : decode cX2_costOf 403 = .ok (.getfield 105, 3) := dk_180 0 105 (dk_at dksX2_costOf_17 6 rfl rfl)
theorem dX2_costOf_406 : decode cX2_costOf 406 = .ok (.bipush 8, 2) := dk_16 8 (dk_at dksX2_costOf_17 9 rfl rfl)
theorem dX2_costOf_408 : decode cX2_costOf 408 = .ok (.aload_n 0, 1) := dk_42 (dk_at dksX2_costOf_17 11 rfl rfl)
theorem dX2_costOf_409 : decode cX2_costOf 409 = .ok (.getfield 96, 3) := dk_180 0 96 (dk_at dksX2_costOf_17 12 rfl rfl)
theorem dX2_costOf_412 : decode cX2_costOf 412 = .ok (.iload 5, 2) := dk_21 5 (dk_at dksX2_costOf_17 15 rfl rfl)
theorem dX2_costOf_414 : decode cX2_costOf 414 = .ok (.iaload, 1) := dk_46 (dk_at dksX2_costOf_17 17 rfl rfl)
theorem dX2_costOf_415 : decode cX2_costOf 415 = .ok (.imul, 1) := dk_104 (dk_at dksX2_costOf_17 18 rfl rfl)
theorem dX2_costOf_416 : decode cX2_costOf 416 = .ok (.aload_n 0, 1) := dk_42 (dk_at dksX2_costOf_17 19 rfl rfl)
theorem dX2_costOf_417 : decode cX2_costOf 417 = .ok (.getfield 99, 3) := dk_180 0 99 (dk_at dksX2_costOf_17 20 rfl rfl)
theorem dX2_costOf_420 : decode cX2_costOf 420 = .ok (.iload 5, 2) := dk_21 5 (dk_at dksX2_costOf_18 0 rfl rfl)
theorem dX2_costOf_422 : decode cX2_costOf 422 = .ok (.iaload, 1) := dk_46 (dk_at dksX2_costOf_18 2 rfl rfl)
theorem dX2_costOf_423 : decode cX2_costOf 423 = .ok (.iadd, 1) := dk_96 (dk_at dksX2_costOf_18 3 rfl rfl)
theorem dX2_costOf_424 : decode cX2_costOf 424 = .ok (.iaload, 1) := dk_46 (dk_at dksX2_costOf_18 4 rfl rfl)
theorem dX2_costOf_425 : decode cX2_costOf 425 = .ok (.if_icmp .le 7, 3) := dk_164 0 7 (dk_at dksX2_costOf_18 5 rfl rfl)
theorem dX2_costOf_428 : decode cX2_costOf 428 = .ok (.iconst 1, 1) := dk_4 (dk_at dksX2_costOf_18 8 rfl rfl)
theorem dX2_costOf_429 : decode cX2_costOf 429 = .ok (.goto 4, 3) := dk_167 0 4 (dk_at dksX2_costOf_18 9 rfl rfl)
theorem dX2_costOf_432 : decode cX2_costOf 432 = .ok (.iconst 0, 1) := dk_3 (dk_at dksX2_costOf_18 12 rfl rfl)
theorem dX2_costOf_433 : decode cX2_costOf 433 = .ok (.istore 6, 2) := dk_54 6 (dk_at dksX2_costOf_18 13 rfl rfl)
theorem dX2_costOf_435 : decode cX2_costOf 435 = .ok (.iload 4, 2) := dk_21 4 (dk_at dksX2_costOf_18 15 rfl rfl)
theorem dX2_costOf_437 : decode cX2_costOf 437 = .ok (.iload 6, 2) := dk_21 6 (dk_at dksX2_costOf_18 17 rfl rfl)
theorem dX2_costOf_439 : decode cX2_costOf 439 = .ok (.ifCond .eq 16, 3) := dk_153 0 16 (dk_at dksX2_costOf_18 19 rfl rfl)
theorem dX2_costOf_442 : decode cX2_costOf 442 = .ok (.bipush 60, 2) := dk_16 60 (dk_at dksX2_costOf_18 22 rfl rfl)
theorem dX2_costOf_444 : decode cX2_costOf 444 = .ok (.aload_n 0, 1) := dk_42 (dk_at dksX2_costOf_19 0 rfl rfl)
theorem dX2_costOf_445 : decode cX2_costOf 445 = .ok (.getfield 102, 3) := dk_180 0 102 (dk_at dksX2_costOf_19 1 rfl rfl)
theorem dX2_costOf_448 : decode cX2_costOf 448 = .ok (.iload 5, 2) := dk_21 5 (dk_at dksX2_costOf_19 4 rfl rfl)
theorem dX2_costOf_450 : decode cX2_costOf 450 = .ok (.iaload, 1) := dk_46 (dk_at dksX2_costOf_19 6 rfl rfl)
theorem dX2_costOf_451 : decode cX2_costOf 451 = .ok (.imul, 1) := dk_104 (dk_at dksX2_costOf_19 7 rfl rfl)
theorem dX2_costOf_452 : decode cX2_costOf 452 = .ok (.goto 4, 3) := dk_167 0 4 (dk_at dksX2_costOf_19 8 rfl rfl)
theorem dX2_costOf_455 : decode cX2_costOf 455 = .ok (.iconst 0, 1) := dk_3 (dk_at dksX2_costOf_19 11 rfl rfl)
theorem dX2_costOf_456 : decode cX2_costOf 456 = .ok (.iadd, 1) := dk_96 (dk_at dksX2_costOf_19 12 rfl rfl)
theorem dX2_costOf_457 : decode cX2_costOf 457 = .ok (.istore 4, 2) := dk_54 4 (dk_at dksX2_costOf_19 13 rfl rfl)
theorem dX2_costOf_459 : decode cX2_costOf 459 = .ok (.iinc 5 1, 3) := dk_132 5 1 (dk_at dksX2_costOf_19 15 rfl rfl)
theorem dX2_costOf_462 : decode cX2_costOf 462 = .ok (.goto (-94), 3) := dk_167 255 162 (dk_at dksX2_costOf_19 18 rfl rfl)
theorem dX2_costOf_465 : decode cX2_costOf 465 = .ok (.iload 4, 2) := dk_21 4 (dk_at dksX2_costOf_19 21 rfl rfl)
theorem dX2_costOf_467 : decode cX2_costOf 467 = .ok (.ireturn, 1) := dk_172 (dk_at dksX2_costOf_19 23 rfl rfl)
abbrev cX2_counts : ByteArray := prog_15_method_83_code
def yX2_counts : MethodName := ⟨RX2, "counts", "(II)Z"⟩
def dkwX2_counts_1 : List UInt8 := [182, 1, 38, 153, 0, 7, 4, 167, 0, 4, 3, 172]
abbrev dktX2_counts_1 : List UInt8 := dkwX2_counts_1 ++ []
def dkwX2_counts_0 : List UInt8 := [42, 42, 180, 0, 90, 27, 46, 28, 182, 1, 38, 153, 0, 21, 42, 42, 180, 0, 96, 27, 46, 28]
abbrev dktX2_counts_0 : List UInt8 := dkwX2_counts_0 ++ dktX2_counts_1
theorem dksX2_counts_0 : cX2_counts.data.toList.drop 0 = dktX2_counts_0 := by decide +kernel
theorem dksX2_counts_1 : cX2_counts.data.toList.drop 22 = dktX2_counts_1 := dk_seg dksX2_counts_0 22 rfl rfl
theorem dX2_counts_0 : decode cX2_counts 0 = .ok (.aload_n 0, 1) := dk_42 (dk_at dksX2_counts_0 0 rfl rfl)
theorem dX2_counts_1 : decode cX2_counts 1 = .ok (.aload_n 0, 1) := dk_42 (dk_at dksX2_counts_0 1 rfl rfl)
theorem dX2_counts_2 : decode cX2_counts 2 = .ok (.getfield 90, 3) := dk_180 0 90 (dk_at dksX2_counts_0 2 rfl rfl)
theorem dX2_counts_5 : decode cX2_counts 5 = .ok (.iload_n 1, 1) := dk_27 (dk_at dksX2_counts_0 5 rfl rfl)
theorem dX2_counts_6 : decode cX2_counts 6 = .ok (.iaload, 1) := dk_46 (dk_at dksX2_counts_0 6 rfl rfl)
theorem dX2_counts_7 : decode cX2_counts 7 = .ok (.iload_n 2, 1) := dk_28 (dk_at dksX2_counts_0 7 rfl rfl)
theorem dX2_counts_8 : decode cX2_counts 8 = .ok (.invokevirtual 294, 3) := dk_182 1 38 (dk_at dksX2_counts_0 8 rfl rfl)
theorem dX2_counts_11 : decode cX2_counts 11 = .ok (.ifCond .eq 21, 3) := dk_153 0 21 (dk_at dksX2_counts_0 11 rfl rfl)
theorem dX2_counts_14 : decode cX2_counts 14 = .ok (.aload_n 0, 1) := dk_42 (dk_at dksX2_counts_0 14 rfl rfl)
theorem dX2_counts_15 : decode cX2_counts 15 = .ok (.aload_n 0, 1) := dk_42 (dk_at dksX2_counts_0 15 rfl rfl)
theorem dX2_counts_16 : decode cX2_counts 16 = .ok (.getfield 96, 3) := dk_180 0 96 (dk_at dksX2_counts_0 16 rfl rfl)
theorem dX2_counts_19 : decode cX2_counts 19 = .ok (.iload_n 1, 1) := dk_27 (dk_at dksX2_counts_0 19 rfl rfl)
theorem dX2_counts_20 : decode cX2_counts 20 = .ok (.iaload, 1) := dk_46 (dk_at dksX2_counts_0 20 rfl rfl)
theorem dX2_counts_21 : decode cX2_counts 21 = .ok (.iload_n 2, 1) := dk_28 (dk_at dksX2_counts_0 21 rfl rfl)
theorem dX2_counts_22 : decode cX2_counts 22 = .ok (.invokevirtual 294, 3) := dk_182 1 38 (dk_at dksX2_counts_1 0 rfl rfl)
theorem dX2_counts_25 : decode cX2_counts 25 = .ok (.ifCond .eq 7, 3) := dk_153 0 7 (dk_at dksX2_counts_1 3 rfl rfl)
theorem dX2_counts_28 : decode cX2_counts 28 = .ok (.iconst 1, 1) := dk_4 (dk_at dksX2_counts_1 6 rfl rfl)
theorem dX2_counts_29 : decode cX2_counts 29 = .ok (.goto 4, 3) := dk_167 0 4 (dk_at dksX2_counts_1 7 rfl rfl)
theorem dX2_counts_32 : decode cX2_counts 32 = .ok (.iconst 0, 1) := dk_3 (dk_at dksX2_counts_1 10 rfl rfl)
theorem dX2_counts_33 : decode cX2_counts 33 = .ok (.ireturn, 1) := dk_172 (dk_at dksX2_counts_1 11 rfl rfl)
abbrev cX2_missedBy : ByteArray := prog_15_method_84_code
def yX2_missedBy : MethodName := ⟨RX2, "missedBy", "(I)I"⟩
def dkwX2_missedBy_3 : List UInt8 := [104, 42, 180, 0, 99, 27, 46, 96, 46, 100, 172]
abbrev dktX2_missedBy_3 : List UInt8 := dkwX2_missedBy_3 ++ []
def dkwX2_missedBy_2 : List UInt8 := [180, 0, 33, 16, 8, 28, 104, 29, 96, 46, 46, 96, 42, 180, 0, 39, 16, 8, 42, 180, 0, 96, 27, 46]
abbrev dktX2_missedBy_2 : List UInt8 := dkwX2_missedBy_2 ++ dktX2_missedBy_3
def dkwX2_missedBy_1 : List UInt8 := [46, 42, 180, 0, 105, 16, 8, 28, 104, 29, 96, 4, 100, 46, 96, 54, 4, 21, 4, 42, 180, 0, 9, 42]
abbrev dktX2_missedBy_1 : List UInt8 := dkwX2_missedBy_1 ++ dktX2_missedBy_2
def dkwX2_missedBy_0 : List UInt8 := [42, 180, 0, 90, 27, 46, 61, 42, 180, 0, 93, 27, 46, 62, 42, 180, 0, 36, 16, 8, 28, 104, 29, 96]
abbrev dktX2_missedBy_0 : List UInt8 := dkwX2_missedBy_0 ++ dktX2_missedBy_1
theorem dksX2_missedBy_0 : cX2_missedBy.data.toList.drop 0 = dktX2_missedBy_0 := by decide +kernel
theorem dksX2_missedBy_1 : cX2_missedBy.data.toList.drop 24 = dktX2_missedBy_1 := dk_seg dksX2_missedBy_0 24 rfl rfl
theorem dksX2_missedBy_2 : cX2_missedBy.data.toList.drop 48 = dktX2_missedBy_2 := dk_seg dksX2_missedBy_1 24 rfl rfl
theorem dksX2_missedBy_3 : cX2_missedBy.data.toList.drop 72 = dktX2_missedBy_3 := dk_seg dksX2_missedBy_2 24 rfl rfl
theorem dX2_missedBy_0 : decode cX2_missedBy 0 = .ok (.aload_n 0, 1) := dk_42 (dk_at dksX2_missedBy_0 0 rfl rfl)
theorem dX2_missedBy_1 : decode cX2_missedBy 1 = .ok (.getfield 90, 3) := dk_180 0 90 (dk_at dksX2_missedBy_0 1 rfl rfl)
theorem dX2_missedBy_4 : decode cX2_missedBy 4 = .ok (.iload_n 1, 1) := dk_27 (dk_at dksX2_missedBy_0 4 rfl rfl)
theorem dX2_missedBy_5 : decode cX2_missedBy 5 = .ok (.iaload, 1) := dk_46 (dk_at dksX2_missedBy_0 5 rfl rfl)
theorem dX2_missedBy_6 : decode cX2_missedBy 6 = .ok (.istore_n 2, 1) := dk_61 (dk_at dksX2_missedBy_0 6 rfl rfl)
theorem dX2_missedBy_7 : decode cX2_missedBy 7 = .ok (.aload_n 0, 1) := dk_42 (dk_at dksX2_missedBy_0 7 rfl rfl)
theorem dX2_missedBy_8 : decode cX2_missedBy 8 = .ok (.getfield 93, 3) := dk_180 0 93 (dk_at dksX2_missedBy_0 8 rfl rfl)
theorem dX2_missedBy_11 : decode cX2_missedBy 11 = .ok (.iload_n 1, 1) := dk_27 (dk_at dksX2_missedBy_0 11 rfl rfl)
theorem dX2_missedBy_12 : decode cX2_missedBy 12 = .ok (.iaload, 1) := dk_46 (dk_at dksX2_missedBy_0 12 rfl rfl)
theorem dX2_missedBy_13 : decode cX2_missedBy 13 = .ok (.istore_n 3, 1) := dk_62 (dk_at dksX2_missedBy_0 13 rfl rfl)
theorem dX2_missedBy_14 : decode cX2_missedBy 14 = .ok (.aload_n 0, 1) := dk_42 (dk_at dksX2_missedBy_0 14 rfl rfl)
theorem dX2_missedBy_15 : decode cX2_missedBy 15 = .ok (.getfield 36, 3) := dk_180 0 36 (dk_at dksX2_missedBy_0 15 rfl rfl)
theorem dX2_missedBy_18 : decode cX2_missedBy 18 = .ok (.bipush 8, 2) := dk_16 8 (dk_at dksX2_missedBy_0 18 rfl rfl)
theorem dX2_missedBy_20 : decode cX2_missedBy 20 = .ok (.iload_n 2, 1) := dk_28 (dk_at dksX2_missedBy_0 20 rfl rfl)
theorem dX2_missedBy_21 : decode cX2_missedBy 21 = .ok (.imul, 1) := dk_104 (dk_at dksX2_missedBy_0 21 rfl rfl)
theorem dX2_missedBy_22 : decode cX2_missedBy 22 = .ok (.iload_n 3, 1) := dk_29 (dk_at dksX2_missedBy_0 22 rfl rfl)
theorem dX2_missedBy_23 : decode cX2_missedBy 23 = .ok (.iadd, 1) := dk_96 (dk_at dksX2_missedBy_0 23 rfl rfl)
theorem dX2_missedBy_24 : decode cX2_missedBy 24 = .ok (.iaload, 1) := dk_46 (dk_at dksX2_missedBy_1 0 rfl rfl)
theorem dX2_missedBy_25 : decode cX2_missedBy 25 = .ok (.aload_n 0, 1) := dk_42 (dk_at dksX2_missedBy_1 1 rfl rfl)
theorem dX2_missedBy_26 : decode cX2_missedBy 26 = .ok (.getfield 105, 3) := dk_180 0 105 (dk_at dksX2_missedBy_1 2 rfl rfl)
theorem dX2_missedBy_29 : decode cX2_missedBy 29 = .ok (.bipush 8, 2) := dk_16 8 (dk_at dksX2_missedBy_1 5 rfl rfl)
theorem dX2_missedBy_31 : decode cX2_missedBy 31 = .ok (.iload_n 2, 1) := dk_28 (dk_at dksX2_missedBy_1 7 rfl rfl)
theorem dX2_missedBy_32 : decode cX2_missedBy 32 = .ok (.imul, 1) := dk_104 (dk_at dksX2_missedBy_1 8 rfl rfl)
theorem dX2_missedBy_33 : decode cX2_missedBy 33 = .ok (.iload_n 3, 1) := dk_29 (dk_at dksX2_missedBy_1 9 rfl rfl)
theorem dX2_missedBy_34 : decode cX2_missedBy 34 = .ok (.iadd, 1) := dk_96 (dk_at dksX2_missedBy_1 10 rfl rfl)
theorem dX2_missedBy_35 : decode cX2_missedBy 35 = .ok (.iconst 1, 1) := dk_4 (dk_at dksX2_missedBy_1 11 rfl rfl)
theorem dX2_missedBy_36 : decode cX2_missedBy 36 = .ok (.isub, 1) := dk_100 (dk_at dksX2_missedBy_1 12 rfl rfl)
theorem dX2_missedBy_37 : decode cX2_missedBy 37 = .ok (.iaload, 1) := dk_46 (dk_at dksX2_missedBy_1 13 rfl rfl)
theorem dX2_missedBy_38 : decode cX2_missedBy 38 = .ok (.iadd, 1) := dk_96 (dk_at dksX2_missedBy_1 14 rfl rfl)
theorem dX2_missedBy_39 : decode cX2_missedBy 39 = .ok (.istore 4, 2) := dk_54 4 (dk_at dksX2_missedBy_1 15 rfl rfl)
theorem dX2_missedBy_41 : decode cX2_missedBy 41 = .ok (.iload 4, 2) := dk_21 4 (dk_at dksX2_missedBy_1 17 rfl rfl)
theorem dX2_missedBy_43 : decode cX2_missedBy 43 = .ok (.aload_n 0, 1) := dk_42 (dk_at dksX2_missedBy_1 19 rfl rfl)
theorem dX2_missedBy_44 : decode cX2_missedBy 44 = .ok (.getfield 9, 3) := dk_180 0 9 (dk_at dksX2_missedBy_1 20 rfl rfl)
theorem dX2_missedBy_47 : decode cX2_missedBy 47 = .ok (.aload_n 0, 1) := dk_42 (dk_at dksX2_missedBy_1 23 rfl rfl)
theorem dX2_missedBy_48 : decode cX2_missedBy 48 = .ok (.getfield 33, 3) := dk_180 0 33 (dk_at dksX2_missedBy_2 0 rfl rfl)
theorem dX2_missedBy_51 : decode cX2_missedBy 51 = .ok (.bipush 8, 2) := dk_16 8 (dk_at dksX2_missedBy_2 3 rfl rfl)
theorem dX2_missedBy_53 : decode cX2_missedBy 53 = .ok (.iload_n 2, 1) := dk_28 (dk_at dksX2_missedBy_2 5 rfl rfl)
theorem dX2_missedBy_54 : decode cX2_missedBy 54 = .ok (.imul, 1) := dk_104 (dk_at dksX2_missedBy_2 6 rfl rfl)
theorem dX2_missedBy_55 : decode cX2_missedBy 55 = .ok (.iload_n 3, 1) := dk_29 (dk_at dksX2_missedBy_2 7 rfl rfl)
theorem dX2_missedBy_56 : decode cX2_missedBy 56 = .ok (.iadd, 1) := dk_96 (dk_at dksX2_missedBy_2 8 rfl rfl)
theorem dX2_missedBy_57 : decode cX2_missedBy 57 = .ok (.iaload, 1) := dk_46 (dk_at dksX2_missedBy_2 9 rfl rfl)
theorem dX2_missedBy_58 : decode cX2_missedBy 58 = .ok (.iaload, 1) := dk_46 (dk_at dksX2_missedBy_2 10 rfl rfl)
theorem dX2_missedBy_59 : decode cX2_missedBy 59 = .ok (.iadd, 1) := dk_96 (dk_at dksX2_missedBy_2 11 rfl rfl)
theorem dX2_missedBy_60 : decode cX2_missedBy 60 = .ok (.aload_n 0, 1) := dk_42 (dk_at dksX2_missedBy_2 12 rfl rfl)
theorem dX2_missedBy_61 : decode cX2_missedBy 61 = .ok (.getfield 39, 3) := dk_180 0 39 (dk_at dksX2_missedBy_2 13 rfl rfl)
theorem dX2_missedBy_64 : decode cX2_missedBy 64 = .ok (.bipush 8, 2) := dk_16 8 (dk_at dksX2_missedBy_2 16 rfl rfl)
theorem dX2_missedBy_66 : decode cX2_missedBy 66 = .ok (.aload_n 0, 1) := dk_42 (dk_at dksX2_missedBy_2 18 rfl rfl)
theorem dX2_missedBy_67 : decode cX2_missedBy 67 = .ok (.getfield 96, 3) := dk_180 0 96 (dk_at dksX2_missedBy_2 19 rfl rfl)
theorem dX2_missedBy_70 : decode cX2_missedBy 70 = .ok (.iload_n 1, 1) := dk_27 (dk_at dksX2_missedBy_2 22 rfl rfl)
theorem dX2_missedBy_71 : decode cX2_missedBy 71 = .ok (.iaload, 1) := dk_46 (dk_at dksX2_missedBy_2 23 rfl rfl)
theorem dX2_missedBy_72 : decode cX2_missedBy 72 = .ok (.imul, 1) := dk_104 (dk_at dksX2_missedBy_3 0 rfl rfl)
theorem dX2_missedBy_73 : decode cX2_missedBy 73 = .ok (.aload_n 0, 1) := dk_42 (dk_at dksX2_missedBy_3 1 rfl rfl)
theorem dX2_missedBy_74 : decode cX2_missedBy 74 = .ok (.getfield 99, 3) := dk_180 0 99 (dk_at dksX2_missedBy_3 2 rfl rfl)
theorem dX2_missedBy_77 : decode cX2_missedBy 77 = .ok (.iload_n 1, 1) := dk_27 (dk_at dksX2_missedBy_3 5 rfl rfl)
theorem dX2_missedBy_78 : decode cX2_missedBy 78 = .ok (.iaload, 1) := dk_46 (dk_at dksX2_missedBy_3 6 rfl rfl)
theorem dX2_missedBy_79 : decode cX2_missedBy 79 = .ok (.iadd, 1) := dk_96 (dk_at dksX2_missedBy_3 7 rfl rfl)
theorem dX2_missedBy_80 : decode cX2_missedBy 80 = .ok (.iaload, 1) := dk_46 (dk_at dksX2_missedBy_3 8 rfl rfl)
theorem dX2_missedBy_81 : decode cX2_missedBy 81 = .ok (.isub, 1) := dk_100 (dk_at dksX2_missedBy_3 9 rfl rfl)
theorem dX2_missedBy_82 : decode cX2_missedBy 82 = .ok (.ireturn, 1) := dk_172 (dk_at dksX2_missedBy_3 10 rfl rfl)
abbrev cX2_bestWaits : ByteArray := prog_15_method_87_code
def yX2_bestWaits : MethodName := ⟨RX2, "bestWaits", "(I)I"⟩
def dkwX2_bestWaits_2 : List UInt8 := [162, 0, 9, 21, 5, 62, 21, 4, 61, 132, 4, 1, 167, 255, 216, 28, 172]
abbrev dktX2_bestWaits_2 : List UInt8 := dkwX2_bestWaits_2 ++ []
def dkwX2_bestWaits_1 : List UInt8 := [180, 1, 41, 120, 162, 0, 35, 42, 27, 21, 4, 182, 1, 50, 54, 5, 21, 5, 155, 0, 15, 21, 5, 29]
abbrev dktX2_bestWaits_1 : List UInt8 := dkwX2_bestWaits_1 ++ dktX2_bestWaits_2
def dkwX2_bestWaits_0 : List UInt8 := [42, 27, 4, 182, 0, 154, 153, 0, 5, 3, 172, 3, 61, 18, 150, 62, 3, 54, 4, 21, 4, 4, 42]
abbrev dktX2_bestWaits_0 : List UInt8 := dkwX2_bestWaits_0 ++ dktX2_bestWaits_1
theorem dksX2_bestWaits_0 : cX2_bestWaits.data.toList.drop 0 = dktX2_bestWaits_0 := by decide +kernel
theorem dksX2_bestWaits_1 : cX2_bestWaits.data.toList.drop 23 = dktX2_bestWaits_1 := dk_seg dksX2_bestWaits_0 23 rfl rfl
theorem dksX2_bestWaits_2 : cX2_bestWaits.data.toList.drop 47 = dktX2_bestWaits_2 := dk_seg dksX2_bestWaits_1 24 rfl rfl
theorem dX2_bestWaits_0 : decode cX2_bestWaits 0 = .ok (.aload_n 0, 1) := dk_42 (dk_at dksX2_bestWaits_0 0 rfl rfl)
theorem dX2_bestWaits_1 : decode cX2_bestWaits 1 = .ok (.iload_n 1, 1) := dk_27 (dk_at dksX2_bestWaits_0 1 rfl rfl)
theorem dX2_bestWaits_2 : decode cX2_bestWaits 2 = .ok (.iconst 1, 1) := dk_4 (dk_at dksX2_bestWaits_0 2 rfl rfl)
theorem dX2_bestWaits_3 : decode cX2_bestWaits 3 = .ok (.invokevirtual 154, 3) := dk_182 0 154 (dk_at dksX2_bestWaits_0 3 rfl rfl)
theorem dX2_bestWaits_6 : decode cX2_bestWaits 6 = .ok (.ifCond .eq 5, 3) := dk_153 0 5 (dk_at dksX2_bestWaits_0 6 rfl rfl)
theorem dX2_bestWaits_9 : decode cX2_bestWaits 9 = .ok (.iconst 0, 1) := dk_3 (dk_at dksX2_bestWaits_0 9 rfl rfl)
theorem dX2_bestWaits_10 : decode cX2_bestWaits 10 = .ok (.ireturn, 1) := dk_172 (dk_at dksX2_bestWaits_0 10 rfl rfl)
theorem dX2_bestWaits_11 : decode cX2_bestWaits 11 = .ok (.iconst 0, 1) := dk_3 (dk_at dksX2_bestWaits_0 11 rfl rfl)
theorem dX2_bestWaits_12 : decode cX2_bestWaits 12 = .ok (.istore_n 2, 1) := dk_61 (dk_at dksX2_bestWaits_0 12 rfl rfl)
theorem dX2_bestWaits_13 : decode cX2_bestWaits 13 = .ok (.ldc 150, 2) := dk_18 150 (dk_at dksX2_bestWaits_0 13 rfl rfl)
theorem dX2_bestWaits_15 : decode cX2_bestWaits 15 = .ok (.istore_n 3, 1) := dk_62 (dk_at dksX2_bestWaits_0 15 rfl rfl)
theorem dX2_bestWaits_16 : decode cX2_bestWaits 16 = .ok (.iconst 0, 1) := dk_3 (dk_at dksX2_bestWaits_0 16 rfl rfl)
theorem dX2_bestWaits_17 : decode cX2_bestWaits 17 = .ok (.istore 4, 2) := dk_54 4 (dk_at dksX2_bestWaits_0 17 rfl rfl)
theorem dX2_bestWaits_19 : decode cX2_bestWaits 19 = .ok (.iload 4, 2) := dk_21 4 (dk_at dksX2_bestWaits_0 19 rfl rfl)
theorem dX2_bestWaits_21 : decode cX2_bestWaits 21 = .ok (.iconst 1, 1) := dk_4 (dk_at dksX2_bestWaits_0 21 rfl rfl)
theorem dX2_bestWaits_22 : decode cX2_bestWaits 22 = .ok (.aload_n 0, 1) := dk_42 (dk_at dksX2_bestWaits_0 22 rfl rfl)
theorem dX2_bestWaits_23 : decode cX2_bestWaits 23 = .ok (.getfield 297, 3) := dk_180 1 41 (dk_at dksX2_bestWaits_1 0 rfl rfl)
theorem dX2_bestWaits_26 : decode cX2_bestWaits 26 = .ok (.ishl, 1) := dk_120 (dk_at dksX2_bestWaits_1 3 rfl rfl)
theorem dX2_bestWaits_27 : decode cX2_bestWaits 27 = .ok (.if_icmp .ge 35, 3) := dk_162 0 35 (dk_at dksX2_bestWaits_1 4 rfl rfl)
theorem dX2_bestWaits_30 : decode cX2_bestWaits 30 = .ok (.aload_n 0, 1) := dk_42 (dk_at dksX2_bestWaits_1 7 rfl rfl)
theorem dX2_bestWaits_31 : decode cX2_bestWaits 31 = .ok (.iload_n 1, 1) := dk_27 (dk_at dksX2_bestWaits_1 8 rfl rfl)
theorem dX2_bestWaits_32 : decode cX2_bestWaits 32 = .ok (.iload 4, 2) := dk_21 4 (dk_at dksX2_bestWaits_1 9 rfl rfl)
theorem dX2_bestWaits_34 : decode cX2_bestWaits 34 = .ok (.invokevirtual 306, 3) := dk_182 1 50 (dk_at dksX2_bestWaits_1 11 rfl rfl)
theorem dX2_bestWaits_37 : decode cX2_bestWaits 37 = .ok (.istore 5, 2) := dk_54 5 (dk_at dksX2_bestWaits_1 14 rfl rfl)
theorem dX2_bestWaits_39 : decode cX2_bestWaits 39 = .ok (.iload 5, 2) := dk_21 5 (dk_at dksX2_bestWaits_1 16 rfl rfl)
theorem dX2_bestWaits_41 : decode cX2_bestWaits 41 = .ok (.ifCond .lt 15, 3) := dk_155 0 15 (dk_at dksX2_bestWaits_1 18 rfl rfl)
theorem dX2_bestWaits_44 : decode cX2_bestWaits 44 = .ok (.iload 5, 2) := dk_21 5 (dk_at dksX2_bestWaits_1 21 rfl rfl)
theorem dX2_bestWaits_46 : decode cX2_bestWaits 46 = .ok (.iload_n 3, 1) := dk_29 (dk_at dksX2_bestWaits_1 23 rfl rfl)
theorem dX2_bestWaits_47 : decode cX2_bestWaits 47 = .ok (.if_icmp .ge 9, 3) := dk_162 0 9 (dk_at dksX2_bestWaits_2 0 rfl rfl)
theorem dX2_bestWaits_50 : decode cX2_bestWaits 50 = .ok (.iload 5, 2) := dk_21 5 (dk_at dksX2_bestWaits_2 3 rfl rfl)
theorem dX2_bestWaits_52 : decode cX2_bestWaits 52 = .ok (.istore_n 3, 1) := dk_62 (dk_at dksX2_bestWaits_2 5 rfl rfl)
theorem dX2_bestWaits_53 : decode cX2_bestWaits 53 = .ok (.iload 4, 2) := dk_21 4 (dk_at dksX2_bestWaits_2 6 rfl rfl)
theorem dX2_bestWaits_55 : decode cX2_bestWaits 55 = .ok (.istore_n 2, 1) := dk_61 (dk_at dksX2_bestWaits_2 8 rfl rfl)
theorem dX2_bestWaits_56 : decode cX2_bestWaits 56 = .ok (.iinc 4 1, 3) := dk_132 4 1 (dk_at dksX2_bestWaits_2 9 rfl rfl)
theorem dX2_bestWaits_59 : decode cX2_bestWaits 59 = .ok (.goto (-40), 3) := dk_167 255 216 (dk_at dksX2_bestWaits_2 12 rfl rfl)
theorem dX2_bestWaits_62 : decode cX2_bestWaits 62 = .ok (.iload_n 2, 1) := dk_28 (dk_at dksX2_bestWaits_2 15 rfl rfl)
theorem dX2_bestWaits_63 : decode cX2_bestWaits 63 = .ok (.ireturn, 1) := dk_172 (dk_at dksX2_bestWaits_2 16 rfl rfl)
abbrev cX2_lost : ByteArray := prog_15_method_90_code
def yX2_lost : MethodName := ⟨RX2, "lost", "(II)I"⟩
def dkwX2_lost_1 : List UInt8 := [182, 1, 56, 172]
abbrev dktX2_lost_1 : List UInt8 := dkwX2_lost_1 ++ []
def dkwX2_lost_0 : List UInt8 := [42, 27, 182, 0, 147, 154, 0, 12, 42, 28, 5, 182, 0, 154, 153, 0, 7, 3, 167, 0, 9, 42, 27, 28]
abbrev dktX2_lost_0 : List UInt8 := dkwX2_lost_0 ++ dktX2_lost_1
theorem dksX2_lost_0 : cX2_lost.data.toList.drop 0 = dktX2_lost_0 := by decide +kernel
theorem dksX2_lost_1 : cX2_lost.data.toList.drop 24 = dktX2_lost_1 := dk_seg dksX2_lost_0 24 rfl rfl
theorem dX2_lost_0 : decode cX2_lost 0 = .ok (.aload_n 0, 1) := dk_42 (dk_at dksX2_lost_0 0 rfl rfl)
theorem dX2_lost_1 : decode cX2_lost 1 = .ok (.iload_n 1, 1) := dk_27 (dk_at dksX2_lost_0 1 rfl rfl)
theorem dX2_lost_2 : decode cX2_lost 2 = .ok (.invokevirtual 147, 3) := dk_182 0 147 (dk_at dksX2_lost_0 2 rfl rfl)
theorem dX2_lost_5 : decode cX2_lost 5 = .ok (.ifCond .ne 12, 3) := dk_154 0 12 (dk_at dksX2_lost_0 5 rfl rfl)
theorem dX2_lost_8 : decode cX2_lost 8 = .ok (.aload_n 0, 1) := dk_42 (dk_at dksX2_lost_0 8 rfl rfl)
theorem dX2_lost_9 : decode cX2_lost 9 = .ok (.iload_n 2, 1) := dk_28 (dk_at dksX2_lost_0 9 rfl rfl)
theorem dX2_lost_10 : decode cX2_lost 10 = .ok (.iconst 2, 1) := dk_5 (dk_at dksX2_lost_0 10 rfl rfl)
theorem dX2_lost_11 : decode cX2_lost 11 = .ok (.invokevirtual 154, 3) := dk_182 0 154 (dk_at dksX2_lost_0 11 rfl rfl)
theorem dX2_lost_14 : decode cX2_lost 14 = .ok (.ifCond .eq 7, 3) := dk_153 0 7 (dk_at dksX2_lost_0 14 rfl rfl)
theorem dX2_lost_17 : decode cX2_lost 17 = .ok (.iconst 0, 1) := dk_3 (dk_at dksX2_lost_0 17 rfl rfl)
theorem dX2_lost_18 : decode cX2_lost 18 = .ok (.goto 9, 3) := dk_167 0 9 (dk_at dksX2_lost_0 18 rfl rfl)
theorem dX2_lost_21 : decode cX2_lost 21 = .ok (.aload_n 0, 1) := dk_42 (dk_at dksX2_lost_0 21 rfl rfl)
theorem dX2_lost_22 : decode cX2_lost 22 = .ok (.iload_n 1, 1) := dk_27 (dk_at dksX2_lost_0 22 rfl rfl)
theorem dX2_lost_23 : decode cX2_lost 23 = .ok (.iload_n 2, 1) := dk_28 (dk_at dksX2_lost_0 23 rfl rfl)
theorem dX2_lost_24 : decode cX2_lost 24 = .ok (.invokevirtual 312, 3) := dk_182 1 56 (dk_at dksX2_lost_1 0 rfl rfl)
theorem dX2_lost_27 : decode cX2_lost 27 = .ok (.ireturn, 1) := dk_172 (dk_at dksX2_lost_1 3 rfl rfl)
abbrev cX2_lostBy : ByteArray := prog_15_method_89_code
def yX2_lostBy : MethodName := ⟨RX2, "lostBy", "(II)I"⟩
def dkwX2_lostBy_5 : List UInt8 := [29, 172]
abbrev dktX2_lostBy_5 : List UInt8 := dkwX2_lostBy_5 ++ []
def dkwX2_lostBy_4 : List UInt8 := [132, 3, 1, 132, 5, 1, 167, 255, 189, 132, 4, 1, 167, 255, 171, 42, 2, 181, 0, 19, 42, 182, 0, 144]
abbrev dktX2_lostBy_4 : List UInt8 := dkwX2_lostBy_4 ++ dktX2_lostBy_5
def dkwX2_lostBy_3 : List UInt8 := [21, 5, 96, 46, 18, 150, 162, 0, 21, 42, 21, 4, 21, 5, 28, 3, 182, 0, 243, 18, 150, 161, 0, 6]
abbrev dktX2_lostBy_3 : List UInt8 := dkwX2_lostBy_3 ++ dktX2_lostBy_4
def dkwX2_lostBy_2 : List UInt8 := [159, 0, 51, 21, 4, 27, 159, 0, 45, 21, 5, 27, 159, 0, 39, 42, 180, 0, 108, 16, 12, 21, 4, 104]
abbrev dktX2_lostBy_2 : List UInt8 := dkwX2_lostBy_2 ++ dktX2_lostBy_3
def dkwX2_lostBy_1 : List UInt8 := [180, 0, 123, 162, 0, 82, 3, 54, 5, 21, 5, 42, 180, 0, 123, 162, 0, 64, 21, 4, 21, 5]
abbrev dktX2_lostBy_1 : List UInt8 := dkwX2_lostBy_1 ++ dktX2_lostBy_2
def dkwX2_lostBy_0 : List UInt8 := [42, 28, 3, 182, 1, 53, 42, 27, 181, 0, 19, 42, 182, 0, 144, 3, 62, 3, 54, 4, 21, 4, 42]
abbrev dktX2_lostBy_0 : List UInt8 := dkwX2_lostBy_0 ++ dktX2_lostBy_1
theorem dksX2_lostBy_0 : cX2_lostBy.data.toList.drop 0 = dktX2_lostBy_0 := by decide +kernel
theorem dksX2_lostBy_1 : cX2_lostBy.data.toList.drop 23 = dktX2_lostBy_1 := dk_seg dksX2_lostBy_0 23 rfl rfl
theorem dksX2_lostBy_2 : cX2_lostBy.data.toList.drop 45 = dktX2_lostBy_2 := dk_seg dksX2_lostBy_1 22 rfl rfl
theorem dksX2_lostBy_3 : cX2_lostBy.data.toList.drop 69 = dktX2_lostBy_3 := dk_seg dksX2_lostBy_2 24 rfl rfl
theorem dksX2_lostBy_4 : cX2_lostBy.data.toList.drop 93 = dktX2_lostBy_4 := dk_seg dksX2_lostBy_3 24 rfl rfl
theorem dksX2_lostBy_5 : cX2_lostBy.data.toList.drop 117 = dktX2_lostBy_5 := dk_seg dksX2_lostBy_4 24 rfl rfl
theorem dX2_lostBy_0 : decode cX2_lostBy 0 = .ok (.aload_n 0, 1) := dk_42 (dk_at dksX2_lostBy_0 0 rfl rfl)
theorem dX2_lostBy_1 : decode cX2_lostBy 1 = .ok (.iload_n 2, 1) := dk_28 (dk_at dksX2_lostBy_0 1 rfl rfl)
theorem dX2_lostBy_2 : decode cX2_lostBy 2 = .ok (.iconst 0, 1) := dk_3 (dk_at dksX2_lostBy_0 2 rfl rfl)
theorem dX2_lostBy_3 : decode cX2_lostBy 3 = .ok (.invokevirtual 309, 3) := dk_182 1 53 (dk_at dksX2_lostBy_0 3 rfl rfl)
theorem dX2_lostBy_6 : decode cX2_lostBy 6 = .ok (.aload_n 0, 1) := dk_42 (dk_at dksX2_lostBy_0 6 rfl rfl)
theorem dX2_lostBy_7 : decode cX2_lostBy 7 = .ok (.iload_n 1, 1) := dk_27 (dk_at dksX2_lostBy_0 7 rfl rfl)
theorem dX2_lostBy_8 : decode cX2_lostBy 8 = .ok (.putfield 19, 3) := dk_181 0 19 (dk_at dksX2_lostBy_0 8 rfl rfl)
theorem dX2_lostBy_11 : decode cX2_lostBy 11 = .ok (.aload_n 0, 1) := dk_42 (dk_at dksX2_lostBy_0 11 rfl rfl)
theorem dX2_lostBy_12 : decode cX2_lostBy 12 = .ok (.invokevirtual 144, 3) := dk_182 0 144 (dk_at dksX2_lostBy_0 12 rfl rfl)
theorem dX2_lostBy_15 : decode cX2_lostBy 15 = .ok (.iconst 0, 1) := dk_3 (dk_at dksX2_lostBy_0 15 rfl rfl)
theorem dX2_lostBy_16 : decode cX2_lostBy 16 = .ok (.istore_n 3, 1) := dk_62 (dk_at dksX2_lostBy_0 16 rfl rfl)
theorem dX2_lostBy_17 : decode cX2_lostBy 17 = .ok (.iconst 0, 1) := dk_3 (dk_at dksX2_lostBy_0 17 rfl rfl)
theorem dX2_lostBy_18 : decode cX2_lostBy 18 = .ok (.istore 4, 2) := dk_54 4 (dk_at dksX2_lostBy_0 18 rfl rfl)
theorem dX2_lostBy_20 : decode cX2_lostBy 20 = .ok (.iload 4, 2) := dk_21 4 (dk_at dksX2_lostBy_0 20 rfl rfl)
theorem dX2_lostBy_22 : decode cX2_lostBy 22 = .ok (.aload_n 0, 1) := dk_42 (dk_at dksX2_lostBy_0 22 rfl rfl)
theorem dX2_lostBy_23 : decode cX2_lostBy 23 = .ok (.getfield 123, 3) := dk_180 0 123 (dk_at dksX2_lostBy_1 0 rfl rfl)
theorem dX2_lostBy_26 : decode cX2_lostBy 26 = .ok (.if_icmp .ge 82, 3) := dk_162 0 82 (dk_at dksX2_lostBy_1 3 rfl rfl)
theorem dX2_lostBy_29 : decode cX2_lostBy 29 = .ok (.iconst 0, 1) := dk_3 (dk_at dksX2_lostBy_1 6 rfl rfl)
theorem dX2_lostBy_30 : decode cX2_lostBy 30 = .ok (.istore 5, 2) := dk_54 5 (dk_at dksX2_lostBy_1 7 rfl rfl)
theorem dX2_lostBy_32 : decode cX2_lostBy 32 = .ok (.iload 5, 2) := dk_21 5 (dk_at dksX2_lostBy_1 9 rfl rfl)
theorem dX2_lostBy_34 : decode cX2_lostBy 34 = .ok (.aload_n 0, 1) := dk_42 (dk_at dksX2_lostBy_1 11 rfl rfl)
theorem dX2_lostBy_35 : decode cX2_lostBy 35 = .ok (.getfield 123, 3) := dk_180 0 123 (dk_at dksX2_lostBy_1 12 rfl rfl)
theorem dX2_lostBy_38 : decode cX2_lostBy 38 = .ok (.if_icmp .ge 64, 3) := dk_162 0 64 (dk_at dksX2_lostBy_1 15 rfl rfl)
theorem dX2_lostBy_41 : decode cX2_lostBy 41 = .ok (.iload 4, 2) := dk_21 4 (dk_at dksX2_lostBy_1 18 rfl rfl)
theorem dX2_lostBy_43 : decode cX2_lostBy 43 = .ok (.iload 5, 2) := dk_21 5 (dk_at dksX2_lostBy_1 20 rfl rfl)
theorem dX2_lostBy_45 : decode cX2_lostBy 45 = .ok (.if_icmp .eq 51, 3) := dk_159 0 51 (dk_at dksX2_lostBy_2 0 rfl rfl)
theorem dX2_lostBy_48 : decode cX2_lostBy 48 = .ok (.iload 4, 2) := dk_21 4 (dk_at dksX2_lostBy_2 3 rfl rfl)
theorem dX2_lostBy_50 : decode cX2_lostBy 50 = .ok (.iload_n 1, 1) := dk_27 (dk_at dksX2_lostBy_2 5 rfl rfl)
theorem dX2_lostBy_51 : decode cX2_lostBy 51 = .ok (.if_icmp .eq 45, 3) := dk_159 0 45 (dk_at dksX2_lostBy_2 6 rfl rfl)
theorem dX2_lostBy_54 : decode cX2_lostBy 54 = .ok (.iload 5, 2) := dk_21 5 (dk_at dksX2_lostBy_2 9 rfl rfl)
theorem dX2_lostBy_56 : decode cX2_lostBy 56 = .ok (.iload_n 1, 1) := dk_27 (dk_at dksX2_lostBy_2 11 rfl rfl)
theorem dX2_lostBy_57 : decode cX2_lostBy 57 = .ok (.if_icmp .eq 39, 3) := dk_159 0 39 (dk_at dksX2_lostBy_2 12 rfl rfl)
theorem dX2_lostBy_60 : decode cX2_lostBy 60 = .ok (.aload_n 0, 1) := dk_42 (dk_at dksX2_lostBy_2 15 rfl rfl)
theorem dX2_lostBy_61 : decode cX2_lostBy 61 = .ok (.getfield 108, 3) := dk_180 0 108 (dk_at dksX2_lostBy_2 16 rfl rfl)
theorem dX2_lostBy_64 : decode cX2_lostBy 64 = .ok (.bipush 12, 2) := dk_16 12 (dk_at dksX2_lostBy_2 19 rfl rfl)
theorem dX2_lostBy_66 : decode cX2_lostBy 66 = .ok (.iload 4, 2) := dk_21 4 (dk_at dksX2_lostBy_2 21 rfl rfl)
theorem dX2_lostBy_68 : decode cX2_lostBy 68 = .ok (.imul, 1) := dk_104 (dk_at dksX2_lostBy_2 23 rfl rfl)
theorem dX2_lostBy_69 : decode cX2_lostBy 69 = .ok (.iload 5, 2) := dk_21 5 (dk_at dksX2_lostBy_3 0 rfl rfl)
theorem dX2_lostBy_71 : decode cX2_lostBy 71 = .ok (.iadd, 1) := dk_96 (dk_at dksX2_lostBy_3 2 rfl rfl)
theorem dX2_lostBy_72 : decode cX2_lostBy 72 = .ok (.iaload, 1) := dk_46 (dk_at dksX2_lostBy_3 3 rfl rfl)
theorem dX2_lostBy_73 : decode cX2_lostBy 73 = .ok (.ldc 150, 2) := dk_18 150 (dk_at dksX2_lostBy_3 4 rfl rfl)
theorem dX2_lostBy_75 : decode cX2_lostBy 75 = .ok (.if_icmp .ge 21, 3) := dk_162 0 21 (dk_at dksX2_lostBy_3 6 rfl rfl)
theorem dX2_lostBy_78 : decode cX2_lostBy 78 = .ok (.aload_n 0, 1) := dk_42 (dk_at dksX2_lostBy_3 9 rfl rfl)
theorem dX2_lostBy_79 : decode cX2_lostBy 79 = .ok (.iload 4, 2) := dk_21 4 (dk_at dksX2_lostBy_3 10 rfl rfl)
theorem dX2_lostBy_81 : decode cX2_lostBy 81 = .ok (.iload 5, 2) := dk_21 5 (dk_at dksX2_lostBy_3 12 rfl rfl)
theorem dX2_lostBy_83 : decode cX2_lostBy 83 = .ok (.iload_n 2, 1) := dk_28 (dk_at dksX2_lostBy_3 14 rfl rfl)
theorem dX2_lostBy_84 : decode cX2_lostBy 84 = .ok (.iconst 0, 1) := dk_3 (dk_at dksX2_lostBy_3 15 rfl rfl)
theorem dX2_lostBy_85 : decode cX2_lostBy 85 = .ok (.invokevirtual 243, 3) := dk_182 0 243 (dk_at dksX2_lostBy_3 16 rfl rfl)
theorem dX2_lostBy_88 : decode cX2_lostBy 88 = .ok (.ldc 150, 2) := dk_18 150 (dk_at dksX2_lostBy_3 19 rfl rfl)
theorem dX2_lostBy_90 : decode cX2_lostBy 90 = .ok (.if_icmp .lt 6, 3) := dk_161 0 6 (dk_at dksX2_lostBy_3 21 rfl rfl)
theorem dX2_lostBy_93 : decode cX2_lostBy 93 = .ok (.iinc 3 1, 3) := dk_132 3 1 (dk_at dksX2_lostBy_4 0 rfl rfl)
theorem dX2_lostBy_96 : decode cX2_lostBy 96 = .ok (.iinc 5 1, 3) := dk_132 5 1 (dk_at dksX2_lostBy_4 3 rfl rfl)
theorem dX2_lostBy_99 : decode cX2_lostBy 99 = .ok (.goto (-67), 3) := dk_167 255 189 (dk_at dksX2_lostBy_4 6 rfl rfl)
theorem dX2_lostBy_102 : decode cX2_lostBy 102 = .ok (.iinc 4 1, 3) := dk_132 4 1 (dk_at dksX2_lostBy_4 9 rfl rfl)
theorem dX2_lostBy_105 : decode cX2_lostBy 105 = .ok (.goto (-85), 3) := dk_167 255 171 (dk_at dksX2_lostBy_4 12 rfl rfl)
theorem dX2_lostBy_108 : decode cX2_lostBy 108 = .ok (.aload_n 0, 1) := dk_42 (dk_at dksX2_lostBy_4 15 rfl rfl)
theorem dX2_lostBy_109 : decode cX2_lostBy 109 = .ok (.iconst (-1), 1) := dk_2 (dk_at dksX2_lostBy_4 16 rfl rfl)
theorem dX2_lostBy_110 : decode cX2_lostBy 110 = .ok (.putfield 19, 3) := dk_181 0 19 (dk_at dksX2_lostBy_4 17 rfl rfl)
theorem dX2_lostBy_113 : decode cX2_lostBy 113 = .ok (.aload_n 0, 1) := dk_42 (dk_at dksX2_lostBy_4 20 rfl rfl)
theorem dX2_lostBy_114 : decode cX2_lostBy 114 = .ok (.invokevirtual 144, 3) := dk_182 0 144 (dk_at dksX2_lostBy_4 21 rfl rfl)
theorem dX2_lostBy_117 : decode cX2_lostBy 117 = .ok (.iload_n 3, 1) := dk_29 (dk_at dksX2_lostBy_5 0 rfl rfl)
theorem dX2_lostBy_118 : decode cX2_lostBy 118 = .ok (.ireturn, 1) := dk_172 (dk_at dksX2_lostBy_5 1 rfl rfl)
abbrev cX2_tellAll : ByteArray := prog_15_method_88_code
def yX2_tellAll : MethodName := ⟨RX2, "tellAll", "(II)V"⟩
def dkwX2_tellAll_2 : List UInt8 := [182, 0, 235, 79, 132, 5, 1, 167, 255, 226, 132, 3, 1, 167, 255, 199, 177]
abbrev dktX2_tellAll_2 : List UInt8 := dkwX2_tellAll_2 ++ []
def dkwX2_tellAll_1 : List UInt8 := [21, 5, 42, 180, 0, 123, 162, 0, 27, 42, 180, 0, 108, 16, 12, 29, 104, 21, 5, 96, 42, 21, 5]
abbrev dktX2_tellAll_1 : List UInt8 := dkwX2_tellAll_1 ++ dktX2_tellAll_2
def dkwX2_tellAll_0 : List UInt8 := [3, 62, 29, 42, 180, 0, 123, 162, 0, 55, 42, 29, 29, 27, 28, 182, 0, 243, 54, 4, 3, 54, 5]
abbrev dktX2_tellAll_0 : List UInt8 := dkwX2_tellAll_0 ++ dktX2_tellAll_1
theorem dksX2_tellAll_0 : cX2_tellAll.data.toList.drop 0 = dktX2_tellAll_0 := by decide +kernel
theorem dksX2_tellAll_1 : cX2_tellAll.data.toList.drop 23 = dktX2_tellAll_1 := dk_seg dksX2_tellAll_0 23 rfl rfl
theorem dksX2_tellAll_2 : cX2_tellAll.data.toList.drop 46 = dktX2_tellAll_2 := dk_seg dksX2_tellAll_1 23 rfl rfl
theorem dX2_tellAll_0 : decode cX2_tellAll 0 = .ok (.iconst 0, 1) := dk_3 (dk_at dksX2_tellAll_0 0 rfl rfl)
theorem dX2_tellAll_1 : decode cX2_tellAll 1 = .ok (.istore_n 3, 1) := dk_62 (dk_at dksX2_tellAll_0 1 rfl rfl)
theorem dX2_tellAll_2 : decode cX2_tellAll 2 = .ok (.iload_n 3, 1) := dk_29 (dk_at dksX2_tellAll_0 2 rfl rfl)
theorem dX2_tellAll_3 : decode cX2_tellAll 3 = .ok (.aload_n 0, 1) := dk_42 (dk_at dksX2_tellAll_0 3 rfl rfl)
theorem dX2_tellAll_4 : decode cX2_tellAll 4 = .ok (.getfield 123, 3) := dk_180 0 123 (dk_at dksX2_tellAll_0 4 rfl rfl)
theorem dX2_tellAll_7 : decode cX2_tellAll 7 = .ok (.if_icmp .ge 55, 3) := dk_162 0 55 (dk_at dksX2_tellAll_0 7 rfl rfl)
theorem dX2_tellAll_10 : decode cX2_tellAll 10 = .ok (.aload_n 0, 1) := dk_42 (dk_at dksX2_tellAll_0 10 rfl rfl)
theorem dX2_tellAll_11 : decode cX2_tellAll 11 = .ok (.iload_n 3, 1) := dk_29 (dk_at dksX2_tellAll_0 11 rfl rfl)
theorem dX2_tellAll_12 : decode cX2_tellAll 12 = .ok (.iload_n 3, 1) := dk_29 (dk_at dksX2_tellAll_0 12 rfl rfl)
theorem dX2_tellAll_13 : decode cX2_tellAll 13 = .ok (.iload_n 1, 1) := dk_27 (dk_at dksX2_tellAll_0 13 rfl rfl)
theorem dX2_tellAll_14 : decode cX2_tellAll 14 = .ok (.iload_n 2, 1) := dk_28 (dk_at dksX2_tellAll_0 14 rfl rfl)
theorem dX2_tellAll_15 : decode cX2_tellAll 15 = .ok (.invokevirtual 243, 3) := dk_182 0 243 (dk_at dksX2_tellAll_0 15 rfl rfl)
theorem dX2_tellAll_18 : decode cX2_tellAll 18 = .ok (.istore 4, 2) := dk_54 4 (dk_at dksX2_tellAll_0 18 rfl rfl)
theorem dX2_tellAll_20 : decode cX2_tellAll 20 = .ok (.iconst 0, 1) := dk_3 (dk_at dksX2_tellAll_0 20 rfl rfl)
theorem dX2_tellAll_21 : decode cX2_tellAll 21 = .ok (.istore 5, 2) := dk_54 5 (dk_at dksX2_tellAll_0 21 rfl rfl)
theorem dX2_tellAll_23 : decode cX2_tellAll 23 = .ok (.iload 5, 2) := dk_21 5 (dk_at dksX2_tellAll_1 0 rfl rfl)
theorem dX2_tellAll_25 : decode cX2_tellAll 25 = .ok (.aload_n 0, 1) := dk_42 (dk_at dksX2_tellAll_1 2 rfl rfl)
theorem dX2_tellAll_26 : decode cX2_tellAll 26 = .ok (.getfield 123, 3) := dk_180 0 123 (dk_at dksX2_tellAll_1 3 rfl rfl)
theorem dX2_tellAll_29 : decode cX2_tellAll 29 = .ok (.if_icmp .ge 27, 3) := dk_162 0 27 (dk_at dksX2_tellAll_1 6 rfl rfl)
theorem dX2_tellAll_32 : decode cX2_tellAll 32 = .ok (.aload_n 0, 1) := dk_42 (dk_at dksX2_tellAll_1 9 rfl rfl)
theorem dX2_tellAll_33 : decode cX2_tellAll 33 = .ok (.getfield 108, 3) := dk_180 0 108 (dk_at dksX2_tellAll_1 10 rfl rfl)
theorem dX2_tellAll_36 : decode cX2_tellAll 36 = .ok (.bipush 12, 2) := dk_16 12 (dk_at dksX2_tellAll_1 13 rfl rfl)
theorem dX2_tellAll_38 : decode cX2_tellAll 38 = .ok (.iload_n 3, 1) := dk_29 (dk_at dksX2_tellAll_1 15 rfl rfl)
theorem dX2_tellAll_39 : decode cX2_tellAll 39 = .ok (.imul, 1) := dk_104 (dk_at dksX2_tellAll_1 16 rfl rfl)
theorem dX2_tellAll_40 : decode cX2_tellAll 40 = .ok (.iload 5, 2) := dk_21 5 (dk_at dksX2_tellAll_1 17 rfl rfl)
theorem dX2_tellAll_42 : decode cX2_tellAll 42 = .ok (.iadd, 1) := dk_96 (dk_at dksX2_tellAll_1 19 rfl rfl)
theorem dX2_tellAll_43 : decode cX2_tellAll 43 = .ok (.aload_n 0, 1) := dk_42 (dk_at dksX2_tellAll_1 20 rfl rfl)
theorem dX2_tellAll_44 : decode cX2_tellAll 44 = .ok (.iload 5, 2) := dk_21 5 (dk_at dksX2_tellAll_1 21 rfl rfl)
theorem dX2_tellAll_46 : decode cX2_tellAll 46 = .ok (.invokevirtual 235, 3) := dk_182 0 235 (dk_at dksX2_tellAll_2 0 rfl rfl)
theorem dX2_tellAll_49 : decode cX2_tellAll 49 = .ok (.iastore, 1) := dk_79 (dk_at dksX2_tellAll_2 3 rfl rfl)
theorem dX2_tellAll_50 : decode cX2_tellAll 50 = .ok (.iinc 5 1, 3) := dk_132 5 1 (dk_at dksX2_tellAll_2 4 rfl rfl)
theorem dX2_tellAll_53 : decode cX2_tellAll 53 = .ok (.goto (-30), 3) := dk_167 255 226 (dk_at dksX2_tellAll_2 7 rfl rfl)
theorem dX2_tellAll_56 : decode cX2_tellAll 56 = .ok (.iinc 3 1, 3) := dk_132 3 1 (dk_at dksX2_tellAll_2 10 rfl rfl)
theorem dX2_tellAll_59 : decode cX2_tellAll 59 = .ok (.goto (-57), 3) := dk_167 255 199 (dk_at dksX2_tellAll_2 13 rfl rfl)
theorem dX2_tellAll_62 : decode cX2_tellAll 62 = .ok (.return_, 1) := dk_177 (dk_at dksX2_tellAll_2 16 rfl rfl)
abbrev cX2_bridges : ByteArray := prog_15_method_91_code
def yX2_bridges : MethodName := ⟨RX2, "bridges", "(I)I"⟩
def dkwX2_bridges_2 : List UInt8 := [28, 172]
abbrev dktX2_bridges_2 : List UInt8 := dkwX2_bridges_2 ++ []
def dkwX2_bridges_1 : List UInt8 := [42, 29, 27, 182, 1, 56, 158, 0, 9, 4, 29, 120, 167, 0, 4, 3, 128, 61, 132, 3, 1, 167, 255, 226]
abbrev dktX2_bridges_1 : List UInt8 := dkwX2_bridges_1 ++ dktX2_bridges_2
def dkwX2_bridges_0 : List UInt8 := [42, 27, 4, 182, 0, 154, 153, 0, 5, 3, 172, 3, 61, 3, 62, 29, 42, 180, 0, 123, 162, 0, 28, 28]
abbrev dktX2_bridges_0 : List UInt8 := dkwX2_bridges_0 ++ dktX2_bridges_1
theorem dksX2_bridges_0 : cX2_bridges.data.toList.drop 0 = dktX2_bridges_0 := by decide +kernel
theorem dksX2_bridges_1 : cX2_bridges.data.toList.drop 24 = dktX2_bridges_1 := dk_seg dksX2_bridges_0 24 rfl rfl
theorem dksX2_bridges_2 : cX2_bridges.data.toList.drop 48 = dktX2_bridges_2 := dk_seg dksX2_bridges_1 24 rfl rfl
theorem dX2_bridges_0 : decode cX2_bridges 0 = .ok (.aload_n 0, 1) := dk_42 (dk_at dksX2_bridges_0 0 rfl rfl)
theorem dX2_bridges_1 : decode cX2_bridges 1 = .ok (.iload_n 1, 1) := dk_27 (dk_at dksX2_bridges_0 1 rfl rfl)
theorem dX2_bridges_2 : decode cX2_bridges 2 = .ok (.iconst 1, 1) := dk_4 (dk_at dksX2_bridges_0 2 rfl rfl)
theorem dX2_bridges_3 : decode cX2_bridges 3 = .ok (.invokevirtual 154, 3) := dk_182 0 154 (dk_at dksX2_bridges_0 3 rfl rfl)
theorem dX2_bridges_6 : decode cX2_bridges 6 = .ok (.ifCond .eq 5, 3) := dk_153 0 5 (dk_at dksX2_bridges_0 6 rfl rfl)
theorem dX2_bridges_9 : decode cX2_bridges 9 = .ok (.iconst 0, 1) := dk_3 (dk_at dksX2_bridges_0 9 rfl rfl)
theorem dX2_bridges_10 : decode cX2_bridges 10 = .ok (.ireturn, 1) := dk_172 (dk_at dksX2_bridges_0 10 rfl rfl)
theorem dX2_bridges_11 : decode cX2_bridges 11 = .ok (.iconst 0, 1) := dk_3 (dk_at dksX2_bridges_0 11 rfl rfl)
theorem dX2_bridges_12 : decode cX2_bridges 12 = .ok (.istore_n 2, 1) := dk_61 (dk_at dksX2_bridges_0 12 rfl rfl)
theorem dX2_bridges_13 : decode cX2_bridges 13 = .ok (.iconst 0, 1) := dk_3 (dk_at dksX2_bridges_0 13 rfl rfl)
theorem dX2_bridges_14 : decode cX2_bridges 14 = .ok (.istore_n 3, 1) := dk_62 (dk_at dksX2_bridges_0 14 rfl rfl)
theorem dX2_bridges_15 : decode cX2_bridges 15 = .ok (.iload_n 3, 1) := dk_29 (dk_at dksX2_bridges_0 15 rfl rfl)
theorem dX2_bridges_16 : decode cX2_bridges 16 = .ok (.aload_n 0, 1) := dk_42 (dk_at dksX2_bridges_0 16 rfl rfl)
theorem dX2_bridges_17 : decode cX2_bridges 17 = .ok (.getfield 123, 3) := dk_180 0 123 (dk_at dksX2_bridges_0 17 rfl rfl)
theorem dX2_bridges_20 : decode cX2_bridges 20 = .ok (.if_icmp .ge 28, 3) := dk_162 0 28 (dk_at dksX2_bridges_0 20 rfl rfl)
theorem dX2_bridges_23 : decode cX2_bridges 23 = .ok (.iload_n 2, 1) := dk_28 (dk_at dksX2_bridges_0 23 rfl rfl)
theorem dX2_bridges_24 : decode cX2_bridges 24 = .ok (.aload_n 0, 1) := dk_42 (dk_at dksX2_bridges_1 0 rfl rfl)
theorem dX2_bridges_25 : decode cX2_bridges 25 = .ok (.iload_n 3, 1) := dk_29 (dk_at dksX2_bridges_1 1 rfl rfl)
theorem dX2_bridges_26 : decode cX2_bridges 26 = .ok (.iload_n 1, 1) := dk_27 (dk_at dksX2_bridges_1 2 rfl rfl)
theorem dX2_bridges_27 : decode cX2_bridges 27 = .ok (.invokevirtual 312, 3) := dk_182 1 56 (dk_at dksX2_bridges_1 3 rfl rfl)
theorem dX2_bridges_30 : decode cX2_bridges 30 = .ok (.ifCond .le 9, 3) := dk_158 0 9 (dk_at dksX2_bridges_1 6 rfl rfl)
theorem dX2_bridges_33 : decode cX2_bridges 33 = .ok (.iconst 1, 1) := dk_4 (dk_at dksX2_bridges_1 9 rfl rfl)
theorem dX2_bridges_34 : decode cX2_bridges 34 = .ok (.iload_n 3, 1) := dk_29 (dk_at dksX2_bridges_1 10 rfl rfl)
theorem dX2_bridges_35 : decode cX2_bridges 35 = .ok (.ishl, 1) := dk_120 (dk_at dksX2_bridges_1 11 rfl rfl)
theorem dX2_bridges_36 : decode cX2_bridges 36 = .ok (.goto 4, 3) := dk_167 0 4 (dk_at dksX2_bridges_1 12 rfl rfl)
theorem dX2_bridges_39 : decode cX2_bridges 39 = .ok (.iconst 0, 1) := dk_3 (dk_at dksX2_bridges_1 15 rfl rfl)
theorem dX2_bridges_40 : decode cX2_bridges 40 = .ok (.ior, 1) := dk_128 (dk_at dksX2_bridges_1 16 rfl rfl)
theorem dX2_bridges_41 : decode cX2_bridges 41 = .ok (.istore_n 2, 1) := dk_61 (dk_at dksX2_bridges_1 17 rfl rfl)
theorem dX2_bridges_42 : decode cX2_bridges 42 = .ok (.iinc 3 1, 3) := dk_132 3 1 (dk_at dksX2_bridges_1 18 rfl rfl)
theorem dX2_bridges_45 : decode cX2_bridges 45 = .ok (.goto (-30), 3) := dk_167 255 226 (dk_at dksX2_bridges_1 21 rfl rfl)
theorem dX2_bridges_48 : decode cX2_bridges 48 = .ok (.iload_n 2, 1) := dk_28 (dk_at dksX2_bridges_2 0 rfl rfl)
theorem dX2_bridges_49 : decode cX2_bridges 49 = .ok (.ireturn, 1) := dk_172 (dk_at dksX2_bridges_2 1 rfl rfl)
abbrev cX2_vehicles : ByteArray := prog_15_method_93_code
def yX2_vehicles : MethodName := ⟨RX2, "vehicles", "(I)I"⟩
def dkwX2_vehicles_8 : List UInt8 := [132, 2, 1, 132, 7, 1, 167, 255, 211, 132, 3, 1, 167, 255, 71, 28, 172]
abbrev dktX2_vehicles_8 : List UInt8 := dkwX2_vehicles_8 ++ []
def dkwX2_vehicles_7 : List UInt8 := [180, 0, 114, 21, 6, 46, 8, 96, 42, 180, 0, 117, 21, 7, 46, 163, 0, 9, 132, 6, 1, 167, 0, 6]
abbrev dktX2_vehicles_7 : List UInt8 := dkwX2_vehicles_7 ++ dktX2_vehicles_8
def dkwX2_vehicles_6 : List UInt8 := [167, 255, 148, 3, 54, 6, 3, 54, 7, 21, 7, 21, 4, 162, 0, 44, 21, 6, 21, 5, 162, 0, 28, 42]
abbrev dktX2_vehicles_6 : List UInt8 := dkwX2_vehicles_6 ++ dktX2_vehicles_7
def dkwX2_vehicles_5 : List UInt8 := [180, 0, 30, 21, 6, 46, 96, 4, 100, 46, 184, 1, 59, 167, 0, 5, 21, 5, 54, 5, 132, 6, 1]
abbrev dktX2_vehicles_5 : List UInt8 := dkwX2_vehicles_5 ++ dktX2_vehicles_6
def dkwX2_vehicles_4 : List UInt8 := [182, 1, 63, 29, 160, 0, 35, 42, 180, 0, 114, 21, 5, 42, 180, 0, 36, 16, 8, 21, 6, 104, 42]
abbrev dktX2_vehicles_4 : List UInt8 := dkwX2_vehicles_4 ++ dktX2_vehicles_5
def dkwX2_vehicles_3 : List UInt8 := [180, 0, 39, 16, 8, 21, 6, 104, 46, 184, 1, 59, 167, 0, 5, 21, 4, 54, 4, 42, 21, 6]
abbrev dktX2_vehicles_3 : List UInt8 := dkwX2_vehicles_3 ++ dktX2_vehicles_4
def dkwX2_vehicles_2 : List UInt8 := [153, 0, 89, 42, 180, 0, 33, 16, 8, 21, 6, 104, 46, 29, 160, 0, 25, 42, 180, 0, 117, 21, 4, 42]
abbrev dktX2_vehicles_2 : List UInt8 := dkwX2_vehicles_2 ++ dktX2_vehicles_3
def dkwX2_vehicles_1 : List UInt8 := [54, 4, 3, 54, 5, 3, 54, 6, 21, 6, 42, 180, 0, 137, 162, 0, 105, 42, 21, 6, 27, 182, 1, 38]
abbrev dktX2_vehicles_1 : List UInt8 := dkwX2_vehicles_1 ++ dktX2_vehicles_2
def dkwX2_vehicles_0 : List UInt8 := [42, 27, 4, 182, 0, 154, 153, 0, 5, 3, 172, 3, 61, 3, 62, 29, 42, 180, 0, 123, 162, 0, 183, 3]
abbrev dktX2_vehicles_0 : List UInt8 := dkwX2_vehicles_0 ++ dktX2_vehicles_1
theorem dksX2_vehicles_0 : cX2_vehicles.data.toList.drop 0 = dktX2_vehicles_0 := by decide +kernel
theorem dksX2_vehicles_1 : cX2_vehicles.data.toList.drop 24 = dktX2_vehicles_1 := dk_seg dksX2_vehicles_0 24 rfl rfl
theorem dksX2_vehicles_2 : cX2_vehicles.data.toList.drop 48 = dktX2_vehicles_2 := dk_seg dksX2_vehicles_1 24 rfl rfl
theorem dksX2_vehicles_3 : cX2_vehicles.data.toList.drop 72 = dktX2_vehicles_3 := dk_seg dksX2_vehicles_2 24 rfl rfl
theorem dksX2_vehicles_4 : cX2_vehicles.data.toList.drop 94 = dktX2_vehicles_4 := dk_seg dksX2_vehicles_3 22 rfl rfl
theorem dksX2_vehicles_5 : cX2_vehicles.data.toList.drop 117 = dktX2_vehicles_5 := dk_seg dksX2_vehicles_4 23 rfl rfl
theorem dksX2_vehicles_6 : cX2_vehicles.data.toList.drop 140 = dktX2_vehicles_6 := dk_seg dksX2_vehicles_5 23 rfl rfl
theorem dksX2_vehicles_7 : cX2_vehicles.data.toList.drop 164 = dktX2_vehicles_7 := dk_seg dksX2_vehicles_6 24 rfl rfl
theorem dksX2_vehicles_8 : cX2_vehicles.data.toList.drop 188 = dktX2_vehicles_8 := dk_seg dksX2_vehicles_7 24 rfl rfl
theorem dX2_vehicles_0 : decode cX2_vehicles 0 = .ok (.aload_n 0, 1) := dk_42 (dk_at dksX2_vehicles_0 0 rfl rfl)
theorem dX2_vehicles_1 : decode cX2_vehicles 1 = .ok (.iload_n 1, 1) := dk_27 (dk_at dksX2_vehicles_0 1 rfl rfl)
theorem dX2_vehicles_2 : decode cX2_vehicles 2 = .ok (.iconst 1, 1) := dk_4 (dk_at dksX2_vehicles_0 2 rfl rfl)
theorem dX2_vehicles_3 : decode cX2_vehicles 3 = .ok (.invokevirtual 154, 3) := dk_182 0 154 (dk_at dksX2_vehicles_0 3 rfl rfl)
theorem dX2_vehicles_6 : decode cX2_vehicles 6 = .ok (.ifCond .eq 5, 3) := dk_153 0 5 (dk_at dksX2_vehicles_0 6 rfl rfl)
theorem dX2_vehicles_9 : decode cX2_vehicles 9 = .ok (.iconst 0, 1) := dk_3 (dk_at dksX2_vehicles_0 9 rfl rfl)
theorem dX2_vehicles_10 : decode cX2_vehicles 10 = .ok (.ireturn, 1) := dk_172 (dk_at dksX2_vehicles_0 10 rfl rfl)
theorem dX2_vehicles_11 : decode cX2_vehicles 11 = .ok (.iconst 0, 1) := dk_3 (dk_at dksX2_vehicles_0 11 rfl rfl)
theorem dX2_vehicles_12 : decode cX2_vehicles 12 = .ok (.istore_n 2, 1) := dk_61 (dk_at dksX2_vehicles_0 12 rfl rfl)
theorem dX2_vehicles_13 : decode cX2_vehicles 13 = .ok (.iconst 0, 1) := dk_3 (dk_at dksX2_vehicles_0 13 rfl rfl)
theorem dX2_vehicles_14 : decode cX2_vehicles 14 = .ok (.istore_n 3, 1) := dk_62 (dk_at dksX2_vehicles_0 14 rfl rfl)
theorem dX2_vehicles_15 : decode cX2_vehicles 15 = .ok (.iload_n 3, 1) := dk_29 (dk_at dksX2_vehicles_0 15 rfl rfl)
theorem dX2_vehicles_16 : decode cX2_vehicles 16 = .ok (.aload_n 0, 1) := dk_42 (dk_at dksX2_vehicles_0 16 rfl rfl)
theorem dX2_vehicles_17 : decode cX2_vehicles 17 = .ok (.getfield 123, 3) := dk_180 0 123 (dk_at dksX2_vehicles_0 17 rfl rfl)
theorem dX2_vehicles_20 : decode cX2_vehicles 20 = .ok (.if_icmp .ge 183, 3) := dk_162 0 183 (dk_at dksX2_vehicles_0 20 rfl rfl)
theorem dX2_vehicles_23 : decode cX2_vehicles 23 = .ok (.iconst 0, 1) := dk_3 (dk_at dksX2_vehicles_0 23 rfl rfl)
theorem dX2_vehicles_24 : decode cX2_vehicles 24 = .ok (.istore 4, 2) := dk_54 4 (dk_at dksX2_vehicles_1 0 rfl rfl)
theorem dX2_vehicles_26 : decode cX2_vehicles 26 = .ok (.iconst 0, 1) := dk_3 (dk_at dksX2_vehicles_1 2 rfl rfl)
theorem dX2_vehicles_27 : decode cX2_vehicles 27 = .ok (.istore 5, 2) := dk_54 5 (dk_at dksX2_vehicles_1 3 rfl rfl)
theorem dX2_vehicles_29 : decode cX2_vehicles 29 = .ok (.iconst 0, 1) := dk_3 (dk_at dksX2_vehicles_1 5 rfl rfl)
theorem dX2_vehicles_30 : decode cX2_vehicles 30 = .ok (.istore 6, 2) := dk_54 6 (dk_at dksX2_vehicles_1 6 rfl rfl)
theorem dX2_vehicles_32 : decode cX2_vehicles 32 = .ok (.iload 6, 2) := dk_21 6 (dk_at dksX2_vehicles_1 8 rfl rfl)
theorem dX2_vehicles_34 : decode cX2_vehicles 34 = .ok (.aload_n 0, 1) := dk_42 (dk_at dksX2_vehicles_1 10 rfl rfl)
theorem dX2_vehicles_35 : decode cX2_vehicles 35 = .ok (.getfield 137, 3) := dk_180 0 137 (dk_at dksX2_vehicles_1 11 rfl rfl)
theorem dX2_vehicles_38 : decode cX2_vehicles 38 = .ok (.if_icmp .ge 105, 3) := dk_162 0 105 (dk_at dksX2_vehicles_1 14 rfl rfl)
theorem dX2_vehicles_41 : decode cX2_vehicles 41 = .ok (.aload_n 0, 1) := dk_42 (dk_at dksX2_vehicles_1 17 rfl rfl)
theorem dX2_vehicles_42 : decode cX2_vehicles 42 = .ok (.iload 6, 2) := dk_21 6 (dk_at dksX2_vehicles_1 18 rfl rfl)
theorem dX2_vehicles_44 : decode cX2_vehicles 44 = .ok (.iload_n 1, 1) := dk_27 (dk_at dksX2_vehicles_1 20 rfl rfl)
theorem dX2_vehicles_45 : decode cX2_vehicles 45 = .ok (.invokevirtual 294, 3) := dk_182 1 38 (dk_at dksX2_vehicles_1 21 rfl rfl)
theorem dX2_vehicles_48 : decode cX2_vehicles 48 = .ok (.ifCond .eq 89, 3) := dk_153 0 89 (dk_at dksX2_vehicles_2 0 rfl rfl)
theorem dX2_vehicles_51 : decode cX2_vehicles 51 = .ok (.aload_n 0, 1) := dk_42 (dk_at dksX2_vehicles_2 3 rfl rfl)
theorem dX2_vehicles_52 : decode cX2_vehicles 52 = .ok (.getfield 33, 3) := dk_180 0 33 (dk_at dksX2_vehicles_2 4 rfl rfl)
theorem dX2_vehicles_55 : decode cX2_vehicles 55 = .ok (.bipush 8, 2) := dk_16 8 (dk_at dksX2_vehicles_2 7 rfl rfl)
theorem dX2_vehicles_57 : decode cX2_vehicles 57 = .ok (.iload 6, 2) := dk_21 6 (dk_at dksX2_vehicles_2 9 rfl rfl)
theorem dX2_vehicles_59 : decode cX2_vehicles 59 = .ok (.imul, 1) := dk_104 (dk_at dksX2_vehicles_2 11 rfl rfl)
theorem dX2_vehicles_60 : decode cX2_vehicles 60 = .ok (.iaload, 1) := dk_46 (dk_at dksX2_vehicles_2 12 rfl rfl)
theorem dX2_vehicles_61 : decode cX2_vehicles 61 = .ok (.iload_n 3, 1) := dk_29 (dk_at dksX2_vehicles_2 13 rfl rfl)
theorem dX2_vehicles_62 : decode cX2_vehicles 62 = .ok (.if_icmp .ne 25, 3) := dk_160 0 25 (dk_at dksX2_vehicles_2 14 rfl rfl)
theorem dX2_vehicles_65 : decode cX2_vehicles 65 = .ok (.aload_n 0, 1) := dk_42 (dk_at dksX2_vehicles_2 17 rfl rfl)
theorem dX2_vehicles_66 : decode cX2_vehicles 66 = .ok (.getfield 117, 3) := dk_180 0 117 (dk_at dksX2_vehicles_2 18 rfl rfl)
theorem dX2_vehicles_69 : decode cX2_vehicles 69 = .ok (.iload 4, 2) := dk_21 4 (dk_at dksX2_vehicles_2 21 rfl rfl)
theorem dX2_vehicles_71 : decode cX2_vehicles 71 = .ok (.aload_n 0, 1) := dk_42 (dk_at dksX2_vehicles_2 23 rfl rfl)
theorem dX2_vehicles_72 : decode cX2_vehicles 72 = .ok (.getfield 39, 3) := dk_180 0 39 (dk_at dksX2_vehicles_3 0 rfl rfl)
theorem dX2_vehicles_75 : decode cX2_vehicles 75 = .ok (.bipush 8, 2) := dk_16 8 (dk_at dksX2_vehicles_3 3 rfl rfl)
theorem dX2_vehicles_77 : decode cX2_vehicles 77 = .ok (.iload 6, 2) := dk_21 6 (dk_at dksX2_vehicles_3 5 rfl rfl)
theorem dX2_vehicles_79 : decode cX2_vehicles 79 = .ok (.imul, 1) := dk_104 (dk_at dksX2_vehicles_3 7 rfl rfl)
theorem dX2_vehicles_80 : decode cX2_vehicles 80 = .ok (.iaload, 1) := dk_46 (dk_at dksX2_vehicles_3 8 rfl rfl)
theorem dX2_vehicles_81 : decode cX2_vehicles 81 = .ok (.invokestatic 315, 3) := dk_184 1 59 (dk_at dksX2_vehicles_3 9 rfl rfl)
theorem dX2_vehicles_84 : decode cX2_vehicles 84 = .ok (.goto 5, 3) := dk_167 0 5 (dk_at dksX2_vehicles_3 12 rfl rfl)
theorem dX2_vehicles_87 : decode cX2_vehicles 87 = .ok (.iload 4, 2) := dk_21 4 (dk_at dksX2_vehicles_3 15 rfl rfl)
theorem dX2_vehicles_89 : decode cX2_vehicles 89 = .ok (.istore 4, 2) := dk_54 4 (dk_at dksX2_vehicles_3 17 rfl rfl)
theorem dX2_vehicles_91 : decode cX2_vehicles 91 = .ok (.aload_n 0, 1) := dk_42 (dk_at dksX2_vehicles_3 19 rfl rfl)
theorem dX2_vehicles_92 : decode cX2_vehicles 92 = .ok (.iload 6, 2) := dk_21 6 (dk_at dksX2_vehicles_3 20 rfl rfl)
theorem dX2_vehicles_94 : decode cX2_vehicles 94 = .ok (.invokevirtual 319, 3) := dk_182 1 63 (dk_at dksX2_vehicles_4 0 rfl rfl)
theorem dX2_vehicles_97 : decode cX2_vehicles 97 = .ok (.iload_n 3, 1) := dk_29 (dk_at dksX2_vehicles_4 3 rfl rfl)
theorem dX2_vehicles_98 : decode cX2_vehicles 98 = .ok (.if_icmp .ne 35, 3) := dk_160 0 35 (dk_at dksX2_vehicles_4 4 rfl rfl)
theorem dX2_vehicles_101 : decode cX2_vehicles 101 = .ok (.aload_n 0, 1) := dk_42 (dk_at dksX2_vehicles_4 7 rfl rfl)
theorem dX2_vehicles_102 : decode cX2_vehicles 102 = .ok (.getfield 114, 3) := dk_180 0 114 (dk_at dksX2_vehicles_4 8 rfl rfl)
theorem dX2_vehicles_105 : decode cX2_vehicles 105 = .ok (.iload 5, 2) := dk_21 5 (dk_at dksX2_vehicles_4 11 rfl rfl)
theorem dX2_vehicles_107 : decode cX2_vehicles 107 = .ok (.aload_n 0, 1) := dk_42 (dk_at dksX2_vehicles_4 13 rfl rfl)
theorem dX2_vehicles_108 : decode cX2_vehicles 108 = .ok (.getfield 36, 3) := dk_180 0 36 (dk_at dksX2_vehicles_4 14 rfl rfl)
theorem dX2_vehicles_111 : decode cX2_vehicles 111 = .ok (.bipush 8, 2) := dk_16 8 (dk_at dksX2_vehicles_4 17 rfl rfl)
theorem dX2_vehicles_113 : decode cX2_vehicles 113 = .ok (.iload 6, 2) := dk_21 6 (dk_at dksX2_vehicles_4 19 rfl rfl)
theorem dX2_vehicles_115 : decode cX2_vehicles 115 = .ok (.imul, 1) := dk_104 (dk_at dksX2_vehicles_4 21 rfl rfl)
theorem dX2_vehicles_116 : decode cX2_vehicles 116 = .ok (.aload_n 0, 1) := dk_42 (dk_at dksX2_vehicles_4 22 rfl rfl)
theorem dX2_vehicles_117 : decode cX2_vehicles 117 = .ok (.getfield 30, 3) := dk_180 0 30 (dk_at dksX2_vehicles_5 0 rfl rfl)
theorem dX2_vehicles_120 : decode cX2_vehicles 120 = .ok (.iload 6, 2) := dk_21 6 (dk_at dksX2_vehicles_5 3 rfl rfl)
theorem dX2_vehicles_122 : decode cX2_vehicles 122 = .ok (.iaload, 1) := dk_46 (dk_at dksX2_vehicles_5 5 rfl rfl)
theorem dX2_vehicles_123 : decode cX2_vehicles 123 = .ok (.iadd, 1) := dk_96 (dk_at dksX2_vehicles_5 6 rfl rfl)
theorem dX2_vehicles_124 : decode cX2_vehicles 124 = .ok (.iconst 1, 1) := dk_4 (dk_at dksX2_vehicles_5 7 rfl rfl)
theorem dX2_vehicles_125 : decode cX2_vehicles 125 = .ok (.isub, 1) := dk_100 (dk_at dksX2_vehicles_5 8 rfl rfl)
theorem dX2_vehicles_126 : decode cX2_vehicles 126 = .ok (.iaload, 1) := dk_46 (dk_at dksX2_vehicles_5 9 rfl rfl)
theorem dX2_vehicles_127 : decode cX2_vehicles 127 = .ok (.invokestatic 315, 3) := dk_184 1 59 (dk_at dksX2_vehicles_5 10 rfl rfl)
theorem dX2_vehicles_130 : decode cX2_vehicles 130 = .ok (.goto 5, 3) := dk_167 0 5 (dk_at dksX2_vehicles_5 13 rfl rfl)
theorem dX2_vehicles_133 : decode cX2_vehicles 133 = .ok (.iload 5, 2) := dk_21 5 (dk_at dksX2_vehicles_5 16 rfl rfl)
theorem dX2_vehicles_135 : decode cX2_vehicles 135 = .ok (.istore 5, 2) := dk_54 5 (dk_at dksX2_vehicles_5 18 rfl rfl)
theorem dX2_vehicles_137 : decode cX2_vehicles 137 = .ok (.iinc 6 1, 3) := dk_132 6 1 (dk_at dksX2_vehicles_5 20 rfl rfl)
theorem dX2_vehicles_140 : decode cX2_vehicles 140 = .ok (.goto (-108), 3) := dk_167 255 148 (dk_at dksX2_vehicles_6 0 rfl rfl)
theorem dX2_vehicles_143 : decode cX2_vehicles 143 = .ok (.iconst 0, 1) := dk_3 (dk_at dksX2_vehicles_6 3 rfl rfl)
theorem dX2_vehicles_144 : decode cX2_vehicles 144 = .ok (.istore 6, 2) := dk_54 6 (dk_at dksX2_vehicles_6 4 rfl rfl)
theorem dX2_vehicles_146 : decode cX2_vehicles 146 = .ok (.iconst 0, 1) := dk_3 (dk_at dksX2_vehicles_6 6 rfl rfl)
theorem dX2_vehicles_147 : decode cX2_vehicles 147 = .ok (.istore 7, 2) := dk_54 7 (dk_at dksX2_vehicles_6 7 rfl rfl)
theorem dX2_vehicles_149 : decode cX2_vehicles 149 = .ok (.iload 7, 2) := dk_21 7 (dk_at dksX2_vehicles_6 9 rfl rfl)
theorem dX2_vehicles_151 : decode cX2_vehicles 151 = .ok (.iload 4, 2) := dk_21 4 (dk_at dksX2_vehicles_6 11 rfl rfl)
theorem dX2_vehicles_153 : decode cX2_vehicles 153 = .ok (.if_icmp .ge 44, 3) := dk_162 0 44 (dk_at dksX2_vehicles_6 13 rfl rfl)
theorem dX2_vehicles_156 : decode cX2_vehicles 156 = .ok (.iload 6, 2) := dk_21 6 (dk_at dksX2_vehicles_6 16 rfl rfl)
theorem dX2_vehicles_158 : decode cX2_vehicles 158 = .ok (.iload 5, 2) := dk_21 5 (dk_at dksX2_vehicles_6 18 rfl rfl)
theorem dX2_vehicles_160 : decode cX2_vehicles 160 = .ok (.if_icmp .ge 28, 3) := dk_162 0 28 (dk_at dksX2_vehicles_6 20 rfl rfl)
theorem dX2_vehicles_163 : decode cX2_vehicles 163 = .ok (.aload_n 0, 1) := dk_42 (dk_at dksX2_vehicles_6 23 rfl rfl)
theorem dX2_vehicles_164 : decode cX2_vehicles 164 = .ok (.getfield 114, 3) := dk_180 0 114 (dk_at dksX2_vehicles_7 0 rfl rfl)
theorem dX2_vehicles_167 : decode cX2_vehicles 167 = .ok (.iload 6, 2) := dk_21 6 (dk_at dksX2_vehicles_7 3 rfl rfl)
theorem dX2_vehicles_169 : decode cX2_vehicles 169 = .ok (.iaload, 1) := dk_46 (dk_at dksX2_vehicles_7 5 rfl rfl)
theorem dX2_vehicles_170 : decode cX2_vehicles 170 = .ok (.iconst 5, 1) := dk_8 (dk_at dksX2_vehicles_7 6 rfl rfl)
theorem dX2_vehicles_171 : decode cX2_vehicles 171 = .ok (.iadd, 1) := dk_96 (dk_at dksX2_vehicles_7 7 rfl rfl)
theorem dX2_vehicles_172 : decode cX2_vehicles 172 = .ok (.aload_n 0, 1) := dk_42 (dk_at dksX2_vehicles_7 8 rfl rfl)
theorem dX2_vehicles_173 : decode cX2_vehicles 173 = .ok (.getfield 117, 3) := dk_180 0 117 (dk_at dksX2_vehicles_7 9 rfl rfl)
theorem dX2_vehicles_176 : decode cX2_vehicles 176 = .ok (.iload 7, 2) := dk_21 7 (dk_at dksX2_vehicles_7 12 rfl rfl)
theorem dX2_vehicles_178 : decode cX2_vehicles 178 = .ok (.iaload, 1) := dk_46 (dk_at dksX2_vehicles_7 14 rfl rfl)
theorem dX2_vehicles_179 : decode cX2_vehicles 179 = .ok (.if_icmp .gt 9, 3) := dk_163 0 9 (dk_at dksX2_vehicles_7 15 rfl rfl)
theorem dX2_vehicles_182 : decode cX2_vehicles 182 = .ok (.iinc 6 1, 3) := dk_132 6 1 (dk_at dksX2_vehicles_7 18 rfl rfl)
theorem dX2_vehicles_185 : decode cX2_vehicles 185 = .ok (.goto 6, 3) := dk_167 0 6 (dk_at dksX2_vehicles_7 21 rfl rfl)
theorem dX2_vehicles_188 : decode cX2_vehicles 188 = .ok (.iinc 2 1, 3) := dk_132 2 1 (dk_at dksX2_vehicles_8 0 rfl rfl)
theorem dX2_vehicles_191 : decode cX2_vehicles 191 = .ok (.iinc 7 1, 3) := dk_132 7 1 (dk_at dksX2_vehicles_8 3 rfl rfl)
theorem dX2_vehicles_194 : decode cX2_vehicles 194 = .ok (.goto (-45), 3) := dk_167 255 211 (dk_at dksX2_vehicles_8 6 rfl rfl)
theorem dX2_vehicles_197 : decode cX2_vehicles 197 = .ok (.iinc 3 1, 3) := dk_132 3 1 (dk_at dksX2_vehicles_8 9 rfl rfl)
theorem dX2_vehicles_200 : decode cX2_vehicles 200 = .ok (.goto (-185), 3) := dk_167 255 71 (dk_at dksX2_vehicles_8 12 rfl rfl)
theorem dX2_vehicles_203 : decode cX2_vehicles 203 = .ok (.iload_n 2, 1) := dk_28 (dk_at dksX2_vehicles_8 15 rfl rfl)
theorem dX2_vehicles_204 : decode cX2_vehicles 204 = .ok (.ireturn, 1) := dk_172 (dk_at dksX2_vehicles_8 16 rfl rfl)
abbrev cX2_put : ByteArray := prog_15_method_94_code
def yX2_put : MethodName := ⟨RX2, "put", "([III)I"⟩
def dkwX2_put_1 : List UInt8 := [132, 3, 255, 167, 255, 232, 42, 29, 28, 79, 27, 4, 96, 172]
abbrev dktX2_put_1 : List UInt8 := dkwX2_put_1 ++ []
def dkwX2_put_0 : List UInt8 := [27, 62, 29, 158, 0, 26, 42, 29, 4, 100, 46, 28, 164, 0, 17, 42, 29, 42, 29, 4, 100, 46, 79]
abbrev dktX2_put_0 : List UInt8 := dkwX2_put_0 ++ dktX2_put_1
theorem dksX2_put_0 : cX2_put.data.toList.drop 0 = dktX2_put_0 := by decide +kernel
theorem dksX2_put_1 : cX2_put.data.toList.drop 23 = dktX2_put_1 := dk_seg dksX2_put_0 23 rfl rfl
theorem dX2_put_0 : decode cX2_put 0 = .ok (.iload_n 1, 1) := dk_27 (dk_at dksX2_put_0 0 rfl rfl)
theorem dX2_put_1 : decode cX2_put 1 = .ok (.istore_n 3, 1) := dk_62 (dk_at dksX2_put_0 1 rfl rfl)
theorem dX2_put_2 : decode cX2_put 2 = .ok (.iload_n 3, 1) := dk_29 (dk_at dksX2_put_0 2 rfl rfl)
theorem dX2_put_3 : decode cX2_put 3 = .ok (.ifCond .le 26, 3) := dk_158 0 26 (dk_at dksX2_put_0 3 rfl rfl)
theorem dX2_put_6 : decode cX2_put 6 = .ok (.aload_n 0, 1) := dk_42 (dk_at dksX2_put_0 6 rfl rfl)
theorem dX2_put_7 : decode cX2_put 7 = .ok (.iload_n 3, 1) := dk_29 (dk_at dksX2_put_0 7 rfl rfl)
theorem dX2_put_8 : decode cX2_put 8 = .ok (.iconst 1, 1) := dk_4 (dk_at dksX2_put_0 8 rfl rfl)
theorem dX2_put_9 : decode cX2_put 9 = .ok (.isub, 1) := dk_100 (dk_at dksX2_put_0 9 rfl rfl)
theorem dX2_put_10 : decode cX2_put 10 = .ok (.iaload, 1) := dk_46 (dk_at dksX2_put_0 10 rfl rfl)
theorem dX2_put_11 : decode cX2_put 11 = .ok (.iload_n 2, 1) := dk_28 (dk_at dksX2_put_0 11 rfl rfl)
theorem dX2_put_12 : decode cX2_put 12 = .ok (.if_icmp .le 17, 3) := dk_164 0 17 (dk_at dksX2_put_0 12 rfl rfl)
theorem dX2_put_15 : decode cX2_put 15 = .ok (.aload_n 0, 1) := dk_42 (dk_at dksX2_put_0 15 rfl rfl)
theorem dX2_put_16 : decode cX2_put 16 = .ok (.iload_n 3, 1) := dk_29 (dk_at dksX2_put_0 16 rfl rfl)
theorem dX2_put_17 : decode cX2_put 17 = .ok (.aload_n 0, 1) := dk_42 (dk_at dksX2_put_0 17 rfl rfl)
theorem dX2_put_18 : decode cX2_put 18 = .ok (.iload_n 3, 1) := dk_29 (dk_at dksX2_put_0 18 rfl rfl)
theorem dX2_put_19 : decode cX2_put 19 = .ok (.iconst 1, 1) := dk_4 (dk_at dksX2_put_0 19 rfl rfl)
theorem dX2_put_20 : decode cX2_put 20 = .ok (.isub, 1) := dk_100 (dk_at dksX2_put_0 20 rfl rfl)
theorem dX2_put_21 : decode cX2_put 21 = .ok (.iaload, 1) := dk_46 (dk_at dksX2_put_0 21 rfl rfl)
theorem dX2_put_22 : decode cX2_put 22 = .ok (.iastore, 1) := dk_79 (dk_at dksX2_put_0 22 rfl rfl)
theorem dX2_put_23 : decode cX2_put 23 = .ok (.iinc 3 (-1), 3) := dk_132 3 255 (dk_at dksX2_put_1 0 rfl rfl)
theorem dX2_put_26 : decode cX2_put 26 = .ok (.goto (-24), 3) := dk_167 255 232 (dk_at dksX2_put_1 3 rfl rfl)
theorem dX2_put_29 : decode cX2_put 29 = .ok (.aload_n 0, 1) := dk_42 (dk_at dksX2_put_1 6 rfl rfl)
theorem dX2_put_30 : decode cX2_put 30 = .ok (.iload_n 3, 1) := dk_29 (dk_at dksX2_put_1 7 rfl rfl)
theorem dX2_put_31 : decode cX2_put 31 = .ok (.iload_n 2, 1) := dk_28 (dk_at dksX2_put_1 8 rfl rfl)
theorem dX2_put_32 : decode cX2_put 32 = .ok (.iastore, 1) := dk_79 (dk_at dksX2_put_1 9 rfl rfl)
theorem dX2_put_33 : decode cX2_put 33 = .ok (.iload_n 1, 1) := dk_27 (dk_at dksX2_put_1 10 rfl rfl)
theorem dX2_put_34 : decode cX2_put 34 = .ok (.iconst 1, 1) := dk_4 (dk_at dksX2_put_1 11 rfl rfl)
theorem dX2_put_35 : decode cX2_put 35 = .ok (.iadd, 1) := dk_96 (dk_at dksX2_put_1 12 rfl rfl)
theorem dX2_put_36 : decode cX2_put 36 = .ok (.ireturn, 1) := dk_172 (dk_at dksX2_put_1 13 rfl rfl)
abbrev cX2_endStop : ByteArray := prog_15_method_92_code
def yX2_endStop : MethodName := ⟨RX2, "endStop", "(I)I"⟩
def dkwX2_endStop_0 : List UInt8 := [42, 180, 0, 33, 16, 8, 27, 104, 42, 180, 0, 30, 27, 46, 96, 4, 100, 46, 172]
abbrev dktX2_endStop_0 : List UInt8 := dkwX2_endStop_0 ++ []
theorem dksX2_endStop_0 : cX2_endStop.data.toList.drop 0 = dktX2_endStop_0 := by decide +kernel
theorem dX2_endStop_0 : decode cX2_endStop 0 = .ok (.aload_n 0, 1) := dk_42 (dk_at dksX2_endStop_0 0 rfl rfl)
theorem dX2_endStop_1 : decode cX2_endStop 1 = .ok (.getfield 33, 3) := dk_180 0 33 (dk_at dksX2_endStop_0 1 rfl rfl)
theorem dX2_endStop_4 : decode cX2_endStop 4 = .ok (.bipush 8, 2) := dk_16 8 (dk_at dksX2_endStop_0 4 rfl rfl)
theorem dX2_endStop_6 : decode cX2_endStop 6 = .ok (.iload_n 1, 1) := dk_27 (dk_at dksX2_endStop_0 6 rfl rfl)
theorem dX2_endStop_7 : decode cX2_endStop 7 = .ok (.imul, 1) := dk_104 (dk_at dksX2_endStop_0 7 rfl rfl)
theorem dX2_endStop_8 : decode cX2_endStop 8 = .ok (.aload_n 0, 1) := dk_42 (dk_at dksX2_endStop_0 8 rfl rfl)
theorem dX2_endStop_9 : decode cX2_endStop 9 = .ok (.getfield 30, 3) := dk_180 0 30 (dk_at dksX2_endStop_0 9 rfl rfl)
theorem dX2_endStop_12 : decode cX2_endStop 12 = .ok (.iload_n 1, 1) := dk_27 (dk_at dksX2_endStop_0 12 rfl rfl)
theorem dX2_endStop_13 : decode cX2_endStop 13 = .ok (.iaload, 1) := dk_46 (dk_at dksX2_endStop_0 13 rfl rfl)
theorem dX2_endStop_14 : decode cX2_endStop 14 = .ok (.iadd, 1) := dk_96 (dk_at dksX2_endStop_0 14 rfl rfl)
theorem dX2_endStop_15 : decode cX2_endStop 15 = .ok (.iconst 1, 1) := dk_4 (dk_at dksX2_endStop_0 15 rfl rfl)
theorem dX2_endStop_16 : decode cX2_endStop 16 = .ok (.isub, 1) := dk_100 (dk_at dksX2_endStop_0 16 rfl rfl)
theorem dX2_endStop_17 : decode cX2_endStop 17 = .ok (.iaload, 1) := dk_46 (dk_at dksX2_endStop_0 17 rfl rfl)
theorem dX2_endStop_18 : decode cX2_endStop 18 = .ok (.ireturn, 1) := dk_172 (dk_at dksX2_endStop_0 18 rfl rfl)
abbrev cX2_vehiclesByMatching : ByteArray := prog_15_method_95_code
def yX2_vehiclesByMatching : MethodName := ⟨RX2, "vehiclesByMatching", "(I)I"⟩
def dkwX2_vehiclesByMatching_0 : List UInt8 := [42, 27, 182, 1, 66, 172]
abbrev dktX2_vehiclesByMatching_0 : List UInt8 := dkwX2_vehiclesByMatching_0 ++ []
theorem dksX2_vehiclesByMatching_0 : cX2_vehiclesByMatching.data.toList.drop 0 = dktX2_vehiclesByMatching_0 := by decide +kernel
theorem dX2_vehiclesByMatching_0 : decode cX2_vehiclesByMatching 0 = .ok (.aload_n 0, 1) := dk_42 (dk_at dksX2_vehiclesByMatching_0 0 rfl rfl)
theorem dX2_vehiclesByMatching_1 : decode cX2_vehiclesByMatching 1 = .ok (.iload_n 1, 1) := dk_27 (dk_at dksX2_vehiclesByMatching_0 1 rfl rfl)
theorem dX2_vehiclesByMatching_2 : decode cX2_vehiclesByMatching 2 = .ok (.invokevirtual 322, 3) := dk_182 1 66 (dk_at dksX2_vehiclesByMatching_0 2 rfl rfl)
theorem dX2_vehiclesByMatching_5 : decode cX2_vehiclesByMatching 5 = .ok (.ireturn, 1) := dk_172 (dk_at dksX2_vehiclesByMatching_0 5 rfl rfl)
abbrev cX2_gains : ByteArray := prog_15_method_97_code
def yX2_gains : MethodName := ⟨RX2, "gains", "(IIII)I"⟩
def dkwX2_gains_0 : List UInt8 := [42, 27, 28, 29, 21, 4, 4, 182, 1, 69, 172]
abbrev dktX2_gains_0 : List UInt8 := dkwX2_gains_0 ++ []
theorem dksX2_gains_0 : cX2_gains.data.toList.drop 0 = dktX2_gains_0 := by decide +kernel
theorem dX2_gains_0 : decode cX2_gains 0 = .ok (.aload_n 0, 1) := dk_42 (dk_at dksX2_gains_0 0 rfl rfl)
theorem dX2_gains_1 : decode cX2_gains 1 = .ok (.iload_n 1, 1) := dk_27 (dk_at dksX2_gains_0 1 rfl rfl)
theorem dX2_gains_2 : decode cX2_gains 2 = .ok (.iload_n 2, 1) := dk_28 (dk_at dksX2_gains_0 2 rfl rfl)
theorem dX2_gains_3 : decode cX2_gains 3 = .ok (.iload_n 3, 1) := dk_29 (dk_at dksX2_gains_0 3 rfl rfl)
theorem dX2_gains_4 : decode cX2_gains 4 = .ok (.iload 4, 2) := dk_21 4 (dk_at dksX2_gains_0 4 rfl rfl)
theorem dX2_gains_6 : decode cX2_gains 6 = .ok (.iconst 1, 1) := dk_4 (dk_at dksX2_gains_0 6 rfl rfl)
theorem dX2_gains_7 : decode cX2_gains 7 = .ok (.invokevirtual 325, 3) := dk_182 1 69 (dk_at dksX2_gains_0 7 rfl rfl)
theorem dX2_gains_10 : decode cX2_gains 10 = .ok (.ireturn, 1) := dk_172 (dk_at dksX2_gains_0 10 rfl rfl)
abbrev cX2_other : ByteArray := prog_15_method_96_code
def yX2_other : MethodName := ⟨RX2, "other", "(IIIIZ)I"⟩
def dkwX2_other_8 : List UInt8 := [132, 7, 1, 167, 255, 151, 42, 27, 28, 116, 182, 0, 168, 21, 6, 172]
abbrev dktX2_other_8 : List UInt8 := dkwX2_other_8 ++ []
def dkwX2_other_7 : List UInt8 := [182, 0, 235, 21, 10, 164, 0, 7, 4, 167, 0, 4, 3, 96, 54, 6, 132, 9, 1, 167, 255, 182]
abbrev dktX2_other_7 : List UInt8 := dkwX2_other_7 ++ dktX2_other_8
def dkwX2_other_6 : List UInt8 := [21, 5, 153, 0, 17, 42, 21, 9, 182, 0, 235, 21, 10, 162, 0, 21, 167, 0, 14, 42, 21, 9]
abbrev dktX2_other_6 : List UInt8 := dkwX2_other_6 ++ dktX2_other_7
def dkwX2_other_5 : List UInt8 := [180, 0, 108, 16, 12, 21, 7, 104, 21, 9, 96, 46, 54, 10, 21, 6, 21, 7, 21, 9, 159, 0, 37]
abbrev dktX2_other_5 : List UInt8 := dkwX2_other_5 ++ dktX2_other_6
def dkwX2_other_4 : List UInt8 := [21, 7, 29, 21, 4, 182, 0, 243, 54, 8, 3, 54, 9, 21, 9, 42, 180, 0, 123, 162, 0, 71, 42]
abbrev dktX2_other_4 : List UInt8 := dkwX2_other_4 ++ dktX2_other_5
def dkwX2_other_3 : List UInt8 := [42, 27, 28, 182, 0, 168, 3, 54, 6, 3, 54, 7, 21, 7, 42, 180, 0, 123, 162, 0, 102, 42, 21, 7]
abbrev dktX2_other_3 : List UInt8 := dkwX2_other_3 ++ dktX2_other_4
def dkwX2_other_2 : List UInt8 := [153, 0, 7, 4, 167, 0, 4, 3, 5, 182, 0, 130, 153, 0, 5, 3, 172, 42, 29, 21, 4, 182, 1, 53]
abbrev dktX2_other_2 : List UInt8 := dkwX2_other_2 ++ dktX2_other_3
def dkwX2_other_1 : List UInt8 := [184, 0, 126, 153, 0, 24, 21, 4, 3, 17, 5, 159, 184, 0, 126, 153, 0, 12, 42, 27, 28, 182, 0, 165]
abbrev dktX2_other_1 : List UInt8 := dkwX2_other_1 ++ dktX2_other_2
def dkwX2_other_0 : List UInt8 := [42, 27, 182, 0, 140, 154, 0, 58, 42, 28, 16, 196, 16, 60, 184, 0, 126, 153, 0, 34, 29, 3, 16, 27]
abbrev dktX2_other_0 : List UInt8 := dkwX2_other_0 ++ dktX2_other_1
theorem dksX2_other_0 : cX2_other.data.toList.drop 0 = dktX2_other_0 := by decide +kernel
theorem dksX2_other_1 : cX2_other.data.toList.drop 24 = dktX2_other_1 := dk_seg dksX2_other_0 24 rfl rfl
theorem dksX2_other_2 : cX2_other.data.toList.drop 48 = dktX2_other_2 := dk_seg dksX2_other_1 24 rfl rfl
theorem dksX2_other_3 : cX2_other.data.toList.drop 72 = dktX2_other_3 := dk_seg dksX2_other_2 24 rfl rfl
theorem dksX2_other_4 : cX2_other.data.toList.drop 96 = dktX2_other_4 := dk_seg dksX2_other_3 24 rfl rfl
theorem dksX2_other_5 : cX2_other.data.toList.drop 119 = dktX2_other_5 := dk_seg dksX2_other_4 23 rfl rfl
theorem dksX2_other_6 : cX2_other.data.toList.drop 142 = dktX2_other_6 := dk_seg dksX2_other_5 23 rfl rfl
theorem dksX2_other_7 : cX2_other.data.toList.drop 164 = dktX2_other_7 := dk_seg dksX2_other_6 22 rfl rfl
theorem dksX2_other_8 : cX2_other.data.toList.drop 186 = dktX2_other_8 := dk_seg dksX2_other_7 22 rfl rfl
theorem dX2_other_0 : decode cX2_other 0 = .ok (.aload_n 0, 1) := dk_42 (dk_at dksX2_other_0 0 rfl rfl)
theorem dX2_other_1 : decode cX2_other 1 = .ok (.iload_n 1, 1) := dk_27 (dk_at dksX2_other_0 1 rfl rfl)
theorem dX2_other_2 : decode cX2_other 2 = .ok (.invokevirtual 140, 3) := dk_182 0 140 (dk_at dksX2_other_0 2 rfl rfl)
theorem dX2_other_5 : decode cX2_other 5 = .ok (.ifCond .ne 58, 3) := dk_154 0 58 (dk_at dksX2_other_0 5 rfl rfl)
theorem dX2_other_8 : decode cX2_other 8 = .ok (.aload_n 0, 1) := dk_42 (dk_at dksX2_other_0 8 rfl rfl)
theorem dX2_other_9 : decode cX2_other 9 = .ok (.iload_n 2, 1) := dk_28 (dk_at dksX2_other_0 9 rfl rfl)
theorem dX2_other_10 : decode cX2_other 10 = .ok (.bipush (-60), 2) := dk_16 196 (dk_at dksX2_other_0 10 rfl rfl)
theorem dX2_other_12 : decode cX2_other 12 = .ok (.bipush 60, 2) := dk_16 60 (dk_at dksX2_other_0 12 rfl rfl)
theorem dX2_other_14 : decode cX2_other 14 = .ok (.invokestatic 126, 3) := dk_184 0 126 (dk_at dksX2_other_0 14 rfl rfl)
theorem dX2_other_17 : decode cX2_other 17 = .ok (.ifCond .eq 34, 3) := dk_153 0 34 (dk_at dksX2_other_0 17 rfl rfl)
theorem dX2_other_20 : decode cX2_other 20 = .ok (.iload_n 3, 1) := dk_29 (dk_at dksX2_other_0 20 rfl rfl)
theorem dX2_other_21 : decode cX2_other 21 = .ok (.iconst 0, 1) := dk_3 (dk_at dksX2_other_0 21 rfl rfl)
theorem dX2_other_22 : decode cX2_other 22 = .ok (.bipush 27, 2) := dk_16 27 (dk_at dksX2_other_0 22 rfl rfl)
theorem dX2_other_24 : decode cX2_other 24 = .ok (.invokestatic 126, 3) := dk_184 0 126 (dk_at dksX2_other_1 0 rfl rfl)
theorem dX2_other_27 : decode cX2_other 27 = .ok (.ifCond .eq 24, 3) := dk_153 0 24 (dk_at dksX2_other_1 3 rfl rfl)
theorem dX2_other_30 : decode cX2_other 30 = .ok (.iload 4, 2) := dk_21 4 (dk_at dksX2_other_1 6 rfl rfl)
theorem dX2_other_32 : decode cX2_other 32 = .ok (.iconst 0, 1) := dk_3 (dk_at dksX2_other_1 8 rfl rfl)
theorem dX2_other_33 : decode cX2_other 33 = .ok (.sipush 1439, 3) := dk_17 5 159 (dk_at dksX2_other_1 9 rfl rfl)
theorem dX2_other_36 : decode cX2_other 36 = .ok (.invokestatic 126, 3) := dk_184 0 126 (dk_at dksX2_other_1 12 rfl rfl)
theorem dX2_other_39 : decode cX2_other 39 = .ok (.ifCond .eq 12, 3) := dk_153 0 12 (dk_at dksX2_other_1 15 rfl rfl)
theorem dX2_other_42 : decode cX2_other 42 = .ok (.aload_n 0, 1) := dk_42 (dk_at dksX2_other_1 18 rfl rfl)
theorem dX2_other_43 : decode cX2_other 43 = .ok (.iload_n 1, 1) := dk_27 (dk_at dksX2_other_1 19 rfl rfl)
theorem dX2_other_44 : decode cX2_other 44 = .ok (.iload_n 2, 1) := dk_28 (dk_at dksX2_other_1 20 rfl rfl)
theorem dX2_other_45 : decode cX2_other 45 = .ok (.invokevirtual 165, 3) := dk_182 0 165 (dk_at dksX2_other_1 21 rfl rfl)
theorem dX2_other_48 : decode cX2_other 48 = .ok (.ifCond .eq 7, 3) := dk_153 0 7 (dk_at dksX2_other_2 0 rfl rfl)
theorem dX2_other_51 : decode cX2_other 51 = .ok (.iconst 1, 1) := dk_4 (dk_at dksX2_other_2 3 rfl rfl)
theorem dX2_other_52 : decode cX2_other 52 = .ok (.goto 4, 3) := dk_167 0 4 (dk_at dksX2_other_2 4 rfl rfl)
theorem dX2_other_55 : decode cX2_other 55 = .ok (.iconst 0, 1) := dk_3 (dk_at dksX2_other_2 7 rfl rfl)
theorem dX2_other_56 : decode cX2_other 56 = .ok (.iconst 2, 1) := dk_5 (dk_at dksX2_other_2 8 rfl rfl)
theorem dX2_other_57 : decode cX2_other 57 = .ok (.invokevirtual 130, 3) := dk_182 0 130 (dk_at dksX2_other_2 9 rfl rfl)
theorem dX2_other_60 : decode cX2_other 60 = .ok (.ifCond .eq 5, 3) := dk_153 0 5 (dk_at dksX2_other_2 12 rfl rfl)
theorem dX2_other_63 : decode cX2_other 63 = .ok (.iconst 0, 1) := dk_3 (dk_at dksX2_other_2 15 rfl rfl)
theorem dX2_other_64 : decode cX2_other 64 = .ok (.ireturn, 1) := dk_172 (dk_at dksX2_other_2 16 rfl rfl)
theorem dX2_other_65 : decode cX2_other 65 = .ok (.aload_n 0, 1) := dk_42 (dk_at dksX2_other_2 17 rfl rfl)
theorem dX2_other_66 : decode cX2_other 66 = .ok (.iload_n 3, 1) := dk_29 (dk_at dksX2_other_2 18 rfl rfl)
theorem dX2_other_67 : decode cX2_other 67 = .ok (.iload 4, 2) := dk_21 4 (dk_at dksX2_other_2 19 rfl rfl)
theorem dX2_other_69 : decode cX2_other 69 = .ok (.invokevirtual 309, 3) := dk_182 1 53 (dk_at dksX2_other_2 21 rfl rfl)
theorem dX2_other_72 : decode cX2_other 72 = .ok (.aload_n 0, 1) := dk_42 (dk_at dksX2_other_3 0 rfl rfl)
theorem dX2_other_73 : decode cX2_other 73 = .ok (.iload_n 1, 1) := dk_27 (dk_at dksX2_other_3 1 rfl rfl)
theorem dX2_other_74 : decode cX2_other 74 = .ok (.iload_n 2, 1) := dk_28 (dk_at dksX2_other_3 2 rfl rfl)
theorem dX2_other_75 : decode cX2_other 75 = .ok (.invokevirtual 168, 3) := dk_182 0 168 (dk_at dksX2_other_3 3 rfl rfl)
theorem dX2_other_78 : decode cX2_other 78 = .ok (.iconst 0, 1) := dk_3 (dk_at dksX2_other_3 6 rfl rfl)
theorem dX2_other_79 : decode cX2_other 79 = .ok (.istore 6, 2) := dk_54 6 (dk_at dksX2_other_3 7 rfl rfl)
theorem dX2_other_81 : decode cX2_other 81 = .ok (.iconst 0, 1) := dk_3 (dk_at dksX2_other_3 9 rfl rfl)
theorem dX2_other_82 : decode cX2_other 82 = .ok (.istore 7, 2) := dk_54 7 (dk_at dksX2_other_3 10 rfl rfl)
theorem dX2_other_84 : decode cX2_other 84 = .ok (.iload 7, 2) := dk_21 7 (dk_at dksX2_other_3 12 rfl rfl)
theorem dX2_other_86 : decode cX2_other 86 = .ok (.aload_n 0, 1) := dk_42 (dk_at dksX2_other_3 14 rfl rfl)
theorem dX2_other_87 : decode cX2_other 87 = .ok (.getfield 123, 3) := dk_180 0 123 (dk_at dksX2_other_3 15 rfl rfl)
theorem dX2_other_90 : decode cX2_other 90 = .ok (.if_icmp .ge 102, 3) := dk_162 0 102 (dk_at dksX2_other_3 18 rfl rfl)
theorem dX2_other_93 : decode cX2_other 93 = .ok (.aload_n 0, 1) := dk_42 (dk_at dksX2_other_3 21 rfl rfl)
theorem dX2_other_94 : decode cX2_other 94 = .ok (.iload 7, 2) := dk_21 7 (dk_at dksX2_other_3 22 rfl rfl)
theorem dX2_other_96 : decode cX2_other 96 = .ok (.iload 7, 2) := dk_21 7 (dk_at dksX2_other_4 0 rfl rfl)
theorem dX2_other_98 : decode cX2_other 98 = .ok (.iload_n 3, 1) := dk_29 (dk_at dksX2_other_4 2 rfl rfl)
theorem dX2_other_99 : decode cX2_other 99 = .ok (.iload 4, 2) := dk_21 4 (dk_at dksX2_other_4 3 rfl rfl)
theorem dX2_other_101 : decode cX2_other 101 = .ok (.invokevirtual 243, 3) := dk_182 0 243 (dk_at dksX2_other_4 5 rfl rfl)
theorem dX2_other_104 : decode cX2_other 104 = .ok (.istore 8, 2) := dk_54 8 (dk_at dksX2_other_4 8 rfl rfl)
theorem dX2_other_106 : decode cX2_other 106 = .ok (.iconst 0, 1) := dk_3 (dk_at dksX2_other_4 10 rfl rfl)
theorem dX2_other_107 : decode cX2_other 107 = .ok (.istore 9, 2) := dk_54 9 (dk_at dksX2_other_4 11 rfl rfl)
theorem dX2_other_109 : decode cX2_other 109 = .ok (.iload 9, 2) := dk_21 9 (dk_at dksX2_other_4 13 rfl rfl)
theorem dX2_other_111 : decode cX2_other 111 = .ok (.aload_n 0, 1) := dk_42 (dk_at dksX2_other_4 15 rfl rfl)
theorem dX2_other_112 : decode cX2_other 112 = .ok (.getfield 123, 3) := dk_180 0 123 (dk_at dksX2_other_4 16 rfl rfl)
theorem dX2_other_115 : decode cX2_other 115 = .ok (.if_icmp .ge 71, 3) := dk_162 0 71 (dk_at dksX2_other_4 19 rfl rfl)
theorem dX2_other_118 : decode cX2_other 118 = .ok (.aload_n 0, 1) := dk_42 (dk_at dksX2_other_4 22 rfl rfl)
theorem dX2_other_119 : decode cX2_other 119 = .ok (.getfield 108, 3) := dk_180 0 108 (dk_at dksX2_other_5 0 rfl rfl)
theorem dX2_other_122 : decode cX2_other 122 = .ok (.bipush 12, 2) := dk_16 12 (dk_at dksX2_other_5 3 rfl rfl)
theorem dX2_other_124 : decode cX2_other 124 = .ok (.iload 7, 2) := dk_21 7 (dk_at dksX2_other_5 5 rfl rfl)
theorem dX2_other_126 : decode cX2_other 126 = .ok (.imul, 1) := dk_104 (dk_at dksX2_other_5 7 rfl rfl)
theorem dX2_other_127 : decode cX2_other 127 = .ok (.iload 9, 2) := dk_21 9 (dk_at dksX2_other_5 8 rfl rfl)
theorem dX2_other_129 : decode cX2_other 129 = .ok (.iadd, 1) := dk_96 (dk_at dksX2_other_5 10 rfl rfl)
theorem dX2_other_130 : decode cX2_other 130 = .ok (.iaload, 1) := dk_46 (dk_at dksX2_other_5 11 rfl rfl)
theorem dX2_other_131 : decode cX2_other 131 = .ok (.istore 10, 2) := dk_54 10 (dk_at dksX2_other_5 12 rfl rfl)
theorem dX2_other_133 : decode cX2_other 133 = .ok (.iload 6, 2) := dk_21 6 (dk_at dksX2_other_5 14 rfl rfl)
theorem dX2_other_135 : decode cX2_other 135 = .ok (.iload 7, 2) := dk_21 7 (dk_at dksX2_other_5 16 rfl rfl)
theorem dX2_other_137 : decode cX2_other 137 = .ok (.iload 9, 2) := dk_21 9 (dk_at dksX2_other_5 18 rfl rfl)
theorem dX2_other_139 : decode cX2_other 139 = .ok (.if_icmp .eq 37, 3) := dk_159 0 37 (dk_at dksX2_other_5 20 rfl rfl)
theorem dX2_other_142 : decode cX2_other 142 = .ok (.iload 5, 2) := dk_21 5 (dk_at dksX2_other_6 0 rfl rfl)
theorem dX2_other_144 : decode cX2_other 144 = .ok (.ifCond .eq 17, 3) := dk_153 0 17 (dk_at dksX2_other_6 2 rfl rfl)
theorem dX2_other_147 : decode cX2_other 147 = .ok (.aload_n 0, 1) := dk_42 (dk_at dksX2_other_6 5 rfl rfl)
theorem dX2_other_148 : decode cX2_other 148 = .ok (.iload 9, 2) := dk_21 9 (dk_at dksX2_other_6 6 rfl rfl)
theorem dX2_other_150 : decode cX2_other 150 = .ok (.invokevirtual 235, 3) := dk_182 0 235 (dk_at dksX2_other_6 8 rfl rfl)
theorem dX2_other_153 : decode cX2_other 153 = .ok (.iload 10, 2) := dk_21 10 (dk_at dksX2_other_6 11 rfl rfl)
theorem dX2_other_155 : decode cX2_other 155 = .ok (.if_icmp .ge 21, 3) := dk_162 0 21 (dk_at dksX2_other_6 13 rfl rfl)
theorem dX2_other_158 : decode cX2_other 158 = .ok (.goto 14, 3) := dk_167 0 14 (dk_at dksX2_other_6 16 rfl rfl)
theorem dX2_other_161 : decode cX2_other 161 = .ok (.aload_n 0, 1) := dk_42 (dk_at dksX2_other_6 19 rfl rfl)
theorem dX2_other_162 : decode cX2_other 162 = .ok (.iload 9, 2) := dk_21 9 (dk_at dksX2_other_6 20 rfl rfl)
theorem dX2_other_164 : decode cX2_other 164 = .ok (.invokevirtual 235, 3) := dk_182 0 235 (dk_at dksX2_other_7 0 rfl rfl)
theorem dX2_other_167 : decode cX2_other 167 = .ok (.iload 10, 2) := dk_21 10 (dk_at dksX2_other_7 3 rfl rfl)
theorem dX2_other_169 : decode cX2_other 169 = .ok (.if_icmp .le 7, 3) := dk_164 0 7 (dk_at dksX2_other_7 5 rfl rfl)
theorem dX2_other_172 : decode cX2_other 172 = .ok (.iconst 1, 1) := dk_4 (dk_at dksX2_other_7 8 rfl rfl)
theorem dX2_other_173 : decode cX2_other 173 = .ok (.goto 4, 3) := dk_167 0 4 (dk_at dksX2_other_7 9 rfl rfl)
theorem dX2_other_176 : decode cX2_other 176 = .ok (.iconst 0, 1) := dk_3 (dk_at dksX2_other_7 12 rfl rfl)
theorem dX2_other_177 : decode cX2_other 177 = .ok (.iadd, 1) := dk_96 (dk_at dksX2_other_7 13 rfl rfl)
theorem dX2_other_178 : decode cX2_other 178 = .ok (.istore 6, 2) := dk_54 6 (dk_at dksX2_other_7 14 rfl rfl)
theorem dX2_other_180 : decode cX2_other 180 = .ok (.iinc 9 1, 3) := dk_132 9 1 (dk_at dksX2_other_7 16 rfl rfl)
theorem dX2_other_183 : decode cX2_other 183 = .ok (.goto (-74), 3) := dk_167 255 182 (dk_at dksX2_other_7 19 rfl rfl)
theorem dX2_other_186 : decode cX2_other 186 = .ok (.iinc 7 1, 3) := dk_132 7 1 (dk_at dksX2_other_8 0 rfl rfl)
theorem dX2_other_189 : decode cX2_other 189 = .ok (.goto (-105), 3) := dk_167 255 151 (dk_at dksX2_other_8 3 rfl rfl)
theorem dX2_other_192 : decode cX2_other 192 = .ok (.aload_n 0, 1) := dk_42 (dk_at dksX2_other_8 6 rfl rfl)
theorem dX2_other_193 : decode cX2_other 193 = .ok (.iload_n 1, 1) := dk_27 (dk_at dksX2_other_8 7 rfl rfl)
theorem dX2_other_194 : decode cX2_other 194 = .ok (.iload_n 2, 1) := dk_28 (dk_at dksX2_other_8 8 rfl rfl)
theorem dX2_other_195 : decode cX2_other 195 = .ok (.ineg, 1) := dk_116 (dk_at dksX2_other_8 9 rfl rfl)
theorem dX2_other_196 : decode cX2_other 196 = .ok (.invokevirtual 168, 3) := dk_182 0 168 (dk_at dksX2_other_8 10 rfl rfl)
theorem dX2_other_199 : decode cX2_other 199 = .ok (.iload 6, 2) := dk_21 6 (dk_at dksX2_other_8 13 rfl rfl)
theorem dX2_other_201 : decode cX2_other 201 = .ok (.ireturn, 1) := dk_172 (dk_at dksX2_other_8 15 rfl rfl)
abbrev cX2_loses : ByteArray := prog_15_method_98_code
def yX2_loses : MethodName := ⟨RX2, "loses", "(IIII)I"⟩
def dkwX2_loses_0 : List UInt8 := [42, 27, 28, 29, 21, 4, 3, 182, 1, 69, 172]
abbrev dktX2_loses_0 : List UInt8 := dkwX2_loses_0 ++ []
theorem dksX2_loses_0 : cX2_loses.data.toList.drop 0 = dktX2_loses_0 := by decide +kernel
theorem dX2_loses_0 : decode cX2_loses 0 = .ok (.aload_n 0, 1) := dk_42 (dk_at dksX2_loses_0 0 rfl rfl)
theorem dX2_loses_1 : decode cX2_loses 1 = .ok (.iload_n 1, 1) := dk_27 (dk_at dksX2_loses_0 1 rfl rfl)
theorem dX2_loses_2 : decode cX2_loses 2 = .ok (.iload_n 2, 1) := dk_28 (dk_at dksX2_loses_0 2 rfl rfl)
theorem dX2_loses_3 : decode cX2_loses 3 = .ok (.iload_n 3, 1) := dk_29 (dk_at dksX2_loses_0 3 rfl rfl)
theorem dX2_loses_4 : decode cX2_loses 4 = .ok (.iload 4, 2) := dk_21 4 (dk_at dksX2_loses_0 4 rfl rfl)
theorem dX2_loses_6 : decode cX2_loses 6 = .ok (.iconst 0, 1) := dk_3 (dk_at dksX2_loses_0 6 rfl rfl)
theorem dX2_loses_7 : decode cX2_loses 7 = .ok (.invokevirtual 325, 3) := dk_182 1 69 (dk_at dksX2_loses_0 7 rfl rfl)
theorem dX2_loses_10 : decode cX2_loses 10 = .ok (.ireturn, 1) := dk_172 (dk_at dksX2_loses_0 10 rfl rfl)
abbrev cX2_reachShare : ByteArray := prog_15_method_99_code
def yX2_reachShare : MethodName := ⟨RX2, "reachShare", "(I)F"⟩
def dkwX2_reachShare_5 : List UInt8 := [104, 134, 110, 174]
abbrev dktX2_reachShare_5 : List UInt8 := dkwX2_reachShare_5 ++ []
def dkwX2_reachShare_4 : List UInt8 := [132, 4, 1, 167, 255, 213, 132, 3, 1, 167, 255, 196, 28, 134, 42, 180, 0, 123, 42, 180, 0, 123, 4, 100]
abbrev dktX2_reachShare_4 : List UInt8 := dkwX2_reachShare_4 ++ dktX2_reachShare_5
def dkwX2_reachShare_3 : List UInt8 := [180, 0, 108, 16, 12, 29, 104, 21, 4, 96, 46, 18, 150, 162, 0, 7, 4, 167, 0, 4, 3, 96, 61]
abbrev dktX2_reachShare_3 : List UInt8 := dkwX2_reachShare_3 ++ dktX2_reachShare_4
def dkwX2_reachShare_2 : List UInt8 := [162, 0, 58, 3, 54, 4, 21, 4, 42, 180, 0, 123, 162, 0, 40, 28, 29, 21, 4, 159, 0, 24, 42]
abbrev dktX2_reachShare_2 : List UInt8 := dkwX2_reachShare_2 ++ dktX2_reachShare_3
def dkwX2_reachShare_1 : List UInt8 := [182, 0, 130, 153, 0, 5, 11, 174, 42, 27, 3, 182, 1, 53, 3, 61, 3, 62, 29, 42, 180, 0, 123]
abbrev dktX2_reachShare_1 : List UInt8 := dkwX2_reachShare_1 ++ dktX2_reachShare_2
def dkwX2_reachShare_0 : List UInt8 := [42, 27, 4, 182, 0, 154, 154, 0, 24, 42, 42, 180, 0, 123, 5, 162, 0, 7, 4, 167, 0, 4, 3, 5]
abbrev dktX2_reachShare_0 : List UInt8 := dkwX2_reachShare_0 ++ dktX2_reachShare_1
theorem dksX2_reachShare_0 : cX2_reachShare.data.toList.drop 0 = dktX2_reachShare_0 := by decide +kernel
theorem dksX2_reachShare_1 : cX2_reachShare.data.toList.drop 24 = dktX2_reachShare_1 := dk_seg dksX2_reachShare_0 24 rfl rfl
theorem dksX2_reachShare_2 : cX2_reachShare.data.toList.drop 47 = dktX2_reachShare_2 := dk_seg dksX2_reachShare_1 23 rfl rfl
theorem dksX2_reachShare_3 : cX2_reachShare.data.toList.drop 70 = dktX2_reachShare_3 := dk_seg dksX2_reachShare_2 23 rfl rfl
theorem dksX2_reachShare_4 : cX2_reachShare.data.toList.drop 93 = dktX2_reachShare_4 := dk_seg dksX2_reachShare_3 23 rfl rfl
theorem dksX2_reachShare_5 : cX2_reachShare.data.toList.drop 117 = dktX2_reachShare_5 := dk_seg dksX2_reachShare_4 24 rfl rfl
theorem dX2_reachShare_0 : decode cX2_reachShare 0 = .ok (.aload_n 0, 1) := dk_42 (dk_at dksX2_reachShare_0 0 rfl rfl)
theorem dX2_reachShare_1 : decode cX2_reachShare 1 = .ok (.iload_n 1, 1) := dk_27 (dk_at dksX2_reachShare_0 1 rfl rfl)
theorem dX2_reachShare_2 : decode cX2_reachShare 2 = .ok (.iconst 1, 1) := dk_4 (dk_at dksX2_reachShare_0 2 rfl rfl)
theorem dX2_reachShare_3 : decode cX2_reachShare 3 = .ok (.invokevirtual 154, 3) := dk_182 0 154 (dk_at dksX2_reachShare_0 3 rfl rfl)
theorem dX2_reachShare_6 : decode cX2_reachShare 6 = .ok (.ifCond .ne 24, 3) := dk_154 0 24 (dk_at dksX2_reachShare_0 6 rfl rfl)
theorem dX2_reachShare_9 : decode cX2_reachShare 9 = .ok (.aload_n 0, 1) := dk_42 (dk_at dksX2_reachShare_0 9 rfl rfl)
theorem dX2_reachShare_10 : decode cX2_reachShare 10 = .ok (.aload_n 0, 1) := dk_42 (dk_at dksX2_reachShare_0 10 rfl rfl)
theorem dX2_reachShare_11 : decode cX2_reachShare 11 = .ok (.getfield 123, 3) := dk_180 0 123 (dk_at dksX2_reachShare_0 11 rfl rfl)
theorem dX2_reachShare_14 : decode cX2_reachShare 14 = .ok (.iconst 2, 1) := dk_5 (dk_at dksX2_reachShare_0 14 rfl rfl)
theorem dX2_reachShare_15 : decode cX2_reachShare 15 = .ok (.if_icmp .ge 7, 3) := dk_162 0 7 (dk_at dksX2_reachShare_0 15 rfl rfl)
theorem dX2_reachShare_18 : decode cX2_reachShare 18 = .ok (.iconst 1, 1) := dk_4 (dk_at dksX2_reachShare_0 18 rfl rfl)
theorem dX2_reachShare_19 : decode cX2_reachShare 19 = .ok (.goto 4, 3) := dk_167 0 4 (dk_at dksX2_reachShare_0 19 rfl rfl)
theorem dX2_reachShare_22 : decode cX2_reachShare 22 = .ok (.iconst 0, 1) := dk_3 (dk_at dksX2_reachShare_0 22 rfl rfl)
theorem dX2_reachShare_23 : decode cX2_reachShare 23 = .ok (.iconst 2, 1) := dk_5 (dk_at dksX2_reachShare_0 23 rfl rfl)
theorem dX2_reachShare_24 : decode cX2_reachShare 24 = .ok (.invokevirtual 130, 3) := dk_182 0 130 (dk_at dksX2_reachShare_1 0 rfl rfl)
theorem dX2_reachShare_27 : decode cX2_reachShare 27 = .ok (.ifCond .eq 5, 3) := dk_153 0 5 (dk_at dksX2_reachShare_1 3 rfl rfl)
theorem dX2_reachShare_30 : decode cX2_reachShare 30 = .ok (.fconst 0, 1) := dk_11 (dk_at dksX2_reachShare_1 6 rfl rfl)
theorem dX2_reachShare_31 : decode cX2_reachShare 31 = .ok (.freturn, 1) := dk_174 (dk_at dksX2_reachShare_1 7 rfl rfl)
theorem dX2_reachShare_32 : decode cX2_reachShare 32 = .ok (.aload_n 0, 1) := dk_42 (dk_at dksX2_reachShare_1 8 rfl rfl)
theorem dX2_reachShare_33 : decode cX2_reachShare 33 = .ok (.iload_n 1, 1) := dk_27 (dk_at dksX2_reachShare_1 9 rfl rfl)
theorem dX2_reachShare_34 : decode cX2_reachShare 34 = .ok (.iconst 0, 1) := dk_3 (dk_at dksX2_reachShare_1 10 rfl rfl)
theorem dX2_reachShare_35 : decode cX2_reachShare 35 = .ok (.invokevirtual 309, 3) := dk_182 1 53 (dk_at dksX2_reachShare_1 11 rfl rfl)
theorem dX2_reachShare_38 : decode cX2_reachShare 38 = .ok (.iconst 0, 1) := dk_3 (dk_at dksX2_reachShare_1 14 rfl rfl)
theorem dX2_reachShare_39 : decode cX2_reachShare 39 = .ok (.istore_n 2, 1) := dk_61 (dk_at dksX2_reachShare_1 15 rfl rfl)
theorem dX2_reachShare_40 : decode cX2_reachShare 40 = .ok (.iconst 0, 1) := dk_3 (dk_at dksX2_reachShare_1 16 rfl rfl)
theorem dX2_reachShare_41 : decode cX2_reachShare 41 = .ok (.istore_n 3, 1) := dk_62 (dk_at dksX2_reachShare_1 17 rfl rfl)
theorem dX2_reachShare_42 : decode cX2_reachShare 42 = .ok (.iload_n 3, 1) := dk_29 (dk_at dksX2_reachShare_1 18 rfl rfl)
theorem dX2_reachShare_43 : decode cX2_reachShare 43 = .ok (.aload_n 0, 1) := dk_42 (dk_at dksX2_reachShare_1 19 rfl rfl)
theorem dX2_reachShare_44 : decode cX2_reachShare 44 = .ok (.getfield 123, 3) := dk_180 0 123 (dk_at dksX2_reachShare_1 20 rfl rfl)
theorem dX2_reachShare_47 : decode cX2_reachShare 47 = .ok (.if_icmp .ge 58, 3) := dk_162 0 58 (dk_at dksX2_reachShare_2 0 rfl rfl)
theorem dX2_reachShare_50 : decode cX2_reachShare 50 = .ok (.iconst 0, 1) := dk_3 (dk_at dksX2_reachShare_2 3 rfl rfl)
theorem dX2_reachShare_51 : decode cX2_reachShare 51 = .ok (.istore 4, 2) := dk_54 4 (dk_at dksX2_reachShare_2 4 rfl rfl)
theorem dX2_reachShare_53 : decode cX2_reachShare 53 = .ok (.iload 4, 2) := dk_21 4 (dk_at dksX2_reachShare_2 6 rfl rfl)
theorem dX2_reachShare_55 : decode cX2_reachShare 55 = .ok (.aload_n 0, 1) := dk_42 (dk_at dksX2_reachShare_2 8 rfl rfl)
theorem dX2_reachShare_56 : decode cX2_reachShare 56 = .ok (.getfield 123, 3) := dk_180 0 123 (dk_at dksX2_reachShare_2 9 rfl rfl)
theorem dX2_reachShare_59 : decode cX2_reachShare 59 = .ok (.if_icmp .ge 40, 3) := dk_162 0 40 (dk_at dksX2_reachShare_2 12 rfl rfl)
theorem dX2_reachShare_62 : decode cX2_reachShare 62 = .ok (.iload_n 2, 1) := dk_28 (dk_at dksX2_reachShare_2 15 rfl rfl)
theorem dX2_reachShare_63 : decode cX2_reachShare 63 = .ok (.iload_n 3, 1) := dk_29 (dk_at dksX2_reachShare_2 16 rfl rfl)
theorem dX2_reachShare_64 : decode cX2_reachShare 64 = .ok (.iload 4, 2) := dk_21 4 (dk_at dksX2_reachShare_2 17 rfl rfl)
theorem dX2_reachShare_66 : decode cX2_reachShare 66 = .ok (.if_icmp .eq 24, 3) := dk_159 0 24 (dk_at dksX2_reachShare_2 19 rfl rfl)
theorem dX2_reachShare_69 : decode cX2_reachShare 69 = .ok (.aload_n 0, 1) := dk_42 (dk_at dksX2_reachShare_2 22 rfl rfl)
theorem dX2_reachShare_70 : decode cX2_reachShare 70 = .ok (.getfield 108, 3) := dk_180 0 108 (dk_at dksX2_reachShare_3 0 rfl rfl)
theorem dX2_reachShare_73 : decode cX2_reachShare 73 = .ok (.bipush 12, 2) := dk_16 12 (dk_at dksX2_reachShare_3 3 rfl rfl)
theorem dX2_reachShare_75 : decode cX2_reachShare 75 = .ok (.iload_n 3, 1) := dk_29 (dk_at dksX2_reachShare_3 5 rfl rfl)
theorem dX2_reachShare_76 : decode cX2_reachShare 76 = .ok (.imul, 1) := dk_104 (dk_at dksX2_reachShare_3 6 rfl rfl)
theorem dX2_reachShare_77 : decode cX2_reachShare 77 = .ok (.iload 4, 2) := dk_21 4 (dk_at dksX2_reachShare_3 7 rfl rfl)
theorem dX2_reachShare_79 : decode cX2_reachShare 79 = .ok (.iadd, 1) := dk_96 (dk_at dksX2_reachShare_3 9 rfl rfl)
theorem dX2_reachShare_80 : decode cX2_reachShare 80 = .ok (.iaload, 1) := dk_46 (dk_at dksX2_reachShare_3 10 rfl rfl)
theorem dX2_reachShare_81 : decode cX2_reachShare 81 = .ok (.ldc 150, 2) := dk_18 150 (dk_at dksX2_reachShare_3 11 rfl rfl)
theorem dX2_reachShare_83 : decode cX2_reachShare 83 = .ok (.if_icmp .ge 7, 3) := dk_162 0 7 (dk_at dksX2_reachShare_3 13 rfl rfl)
theorem dX2_reachShare_86 : decode cX2_reachShare 86 = .ok (.iconst 1, 1) := dk_4 (dk_at dksX2_reachShare_3 16 rfl rfl)
theorem dX2_reachShare_87 : decode cX2_reachShare 87 = .ok (.goto 4, 3) := dk_167 0 4 (dk_at dksX2_reachShare_3 17 rfl rfl)
theorem dX2_reachShare_90 : decode cX2_reachShare 90 = .ok (.iconst 0, 1) := dk_3 (dk_at dksX2_reachShare_3 20 rfl rfl)
theorem dX2_reachShare_91 : decode cX2_reachShare 91 = .ok (.iadd, 1) := dk_96 (dk_at dksX2_reachShare_3 21 rfl rfl)
theorem dX2_reachShare_92 : decode cX2_reachShare 92 = .ok (.istore_n 2, 1) := dk_61 (dk_at dksX2_reachShare_3 22 rfl rfl)
theorem dX2_reachShare_93 : decode cX2_reachShare 93 = .ok (.iinc 4 1, 3) := dk_132 4 1 (dk_at dksX2_reachShare_4 0 rfl rfl)
theorem dX2_reachShare_96 : decode cX2_reachShare 96 = .ok (.goto (-43), 3) := dk_167 255 213 (dk_at dksX2_reachShare_4 3 rfl rfl)
theorem dX2_reachShare_99 : decode cX2_reachShare 99 = .ok (.iinc 3 1, 3) := dk_132 3 1 (dk_at dksX2_reachShare_4 6 rfl rfl)
theorem dX2_reachShare_102 : decode cX2_reachShare 102 = .ok (.goto (-60), 3) := dk_167 255 196 (dk_at dksX2_reachShare_4 9 rfl rfl)
theorem dX2_reachShare_105 : decode cX2_reachShare 105 = .ok (.iload_n 2, 1) := dk_28 (dk_at dksX2_reachShare_4 12 rfl rfl)
theorem dX2_reachShare_106 : decode cX2_reachShare 106 = .ok (.i2f, 1) := dk_134 (dk_at dksX2_reachShare_4 13 rfl rfl)
theorem dX2_reachShare_107 : decode cX2_reachShare 107 = .ok (.aload_n 0, 1) := dk_42 (dk_at dksX2_reachShare_4 14 rfl rfl)
theorem dX2_reachShare_108 : decode cX2_reachShare 108 = .ok (.getfield 123, 3) := dk_180 0 123 (dk_at dksX2_reachShare_4 15 rfl rfl)
theorem dX2_reachShare_111 : decode cX2_reachShare 111 = .ok (.aload_n 0, 1) := dk_42 (dk_at dksX2_reachShare_4 18 rfl rfl)
theorem dX2_reachShare_112 : decode cX2_reachShare 112 = .ok (.getfield 123, 3) := dk_180 0 123 (dk_at dksX2_reachShare_4 19 rfl rfl)
theorem dX2_reachShare_115 : decode cX2_reachShare 115 = .ok (.iconst 1, 1) := dk_4 (dk_at dksX2_reachShare_4 22 rfl rfl)
theorem dX2_reachShare_116 : decode cX2_reachShare 116 = .ok (.isub, 1) := dk_100 (dk_at dksX2_reachShare_4 23 rfl rfl)
theorem dX2_reachShare_117 : decode cX2_reachShare 117 = .ok (.imul, 1) := dk_104 (dk_at dksX2_reachShare_5 0 rfl rfl)
theorem dX2_reachShare_118 : decode cX2_reachShare 118 = .ok (.i2f, 1) := dk_134 (dk_at dksX2_reachShare_5 1 rfl rfl)
theorem dX2_reachShare_119 : decode cX2_reachShare 119 = .ok (.fdiv, 1) := dk_110 (dk_at dksX2_reachShare_5 2 rfl rfl)
theorem dX2_reachShare_120 : decode cX2_reachShare 120 = .ok (.freturn, 1) := dk_174 (dk_at dksX2_reachShare_5 3 rfl rfl)
abbrev cX2_meanBetween : ByteArray := prog_15_method_100_code
def yX2_meanBetween : MethodName := ⟨RX2, "meanBetween", "()D"⟩
def dkwX2_meanBetween_4 : List UInt8 := [28, 135, 27, 135, 111, 175]
abbrev dktX2_meanBetween_4 : List UInt8 := dkwX2_meanBetween_4 ++ []
def dkwX2_meanBetween_3 : List UInt8 := [167, 255, 192, 42, 27, 154, 0, 7, 4, 167, 0, 4, 3, 4, 182, 0, 130, 153, 0, 7, 14, 167, 0, 8]
abbrev dktX2_meanBetween_3 : List UInt8 := dkwX2_meanBetween_3 ++ dktX2_meanBetween_4
def dkwX2_meanBetween_2 : List UInt8 := [104, 21, 4, 96, 4, 100, 46, 100, 96, 61, 132, 1, 1, 132, 4, 1, 167, 255, 209, 132, 3, 1]
abbrev dktX2_meanBetween_2 : List UInt8 := dkwX2_meanBetween_2 ++ dktX2_meanBetween_3
def dkwX2_meanBetween_1 : List UInt8 := [46, 162, 0, 42, 28, 42, 180, 0, 36, 16, 8, 29, 104, 21, 4, 96, 46, 42, 180, 0, 39, 16, 8, 29]
abbrev dktX2_meanBetween_1 : List UInt8 := dkwX2_meanBetween_1 ++ dktX2_meanBetween_2
def dkwX2_meanBetween_0 : List UInt8 := [3, 60, 3, 61, 3, 62, 29, 42, 180, 0, 137, 162, 0, 62, 4, 54, 4, 21, 4, 42, 180, 0, 30, 29]
abbrev dktX2_meanBetween_0 : List UInt8 := dkwX2_meanBetween_0 ++ dktX2_meanBetween_1
theorem dksX2_meanBetween_0 : cX2_meanBetween.data.toList.drop 0 = dktX2_meanBetween_0 := by decide +kernel
theorem dksX2_meanBetween_1 : cX2_meanBetween.data.toList.drop 24 = dktX2_meanBetween_1 := dk_seg dksX2_meanBetween_0 24 rfl rfl
theorem dksX2_meanBetween_2 : cX2_meanBetween.data.toList.drop 48 = dktX2_meanBetween_2 := dk_seg dksX2_meanBetween_1 24 rfl rfl
theorem dksX2_meanBetween_3 : cX2_meanBetween.data.toList.drop 70 = dktX2_meanBetween_3 := dk_seg dksX2_meanBetween_2 22 rfl rfl
theorem dksX2_meanBetween_4 : cX2_meanBetween.data.toList.drop 94 = dktX2_meanBetween_4 := dk_seg dksX2_meanBetween_3 24 rfl rfl
theorem dX2_meanBetween_0 : decode cX2_meanBetween 0 = .ok (.iconst 0, 1) := dk_3 (dk_at dksX2_meanBetween_0 0 rfl rfl)
theorem dX2_meanBetween_1 : decode cX2_meanBetween 1 = .ok (.istore_n 1, 1) := dk_60 (dk_at dksX2_meanBetween_0 1 rfl rfl)
theorem dX2_meanBetween_2 : decode cX2_meanBetween 2 = .ok (.iconst 0, 1) := dk_3 (dk_at dksX2_meanBetween_0 2 rfl rfl)
theorem dX2_meanBetween_3 : decode cX2_meanBetween 3 = .ok (.istore_n 2, 1) := dk_61 (dk_at dksX2_meanBetween_0 3 rfl rfl)
theorem dX2_meanBetween_4 : decode cX2_meanBetween 4 = .ok (.iconst 0, 1) := dk_3 (dk_at dksX2_meanBetween_0 4 rfl rfl)
theorem dX2_meanBetween_5 : decode cX2_meanBetween 5 = .ok (.istore_n 3, 1) := dk_62 (dk_at dksX2_meanBetween_0 5 rfl rfl)
theorem dX2_meanBetween_6 : decode cX2_meanBetween 6 = .ok (.iload_n 3, 1) := dk_29 (dk_at dksX2_meanBetween_0 6 rfl rfl)
theorem dX2_meanBetween_7 : decode cX2_meanBetween 7 = .ok (.aload_n 0, 1) := dk_42 (dk_at dksX2_meanBetween_0 7 rfl rfl)
theorem dX2_meanBetween_8 : decode cX2_meanBetween 8 = .ok (.getfield 137, 3) := dk_180 0 137 (dk_at dksX2_meanBetween_0 8 rfl rfl)
theorem dX2_meanBetween_11 : decode cX2_meanBetween 11 = .ok (.if_icmp .ge 62, 3) := dk_162 0 62 (dk_at dksX2_meanBetween_0 11 rfl rfl)
theorem dX2_meanBetween_14 : decode cX2_meanBetween 14 = .ok (.iconst 1, 1) := dk_4 (dk_at dksX2_meanBetween_0 14 rfl rfl)
theorem dX2_meanBetween_15 : decode cX2_meanBetween 15 = .ok (.istore 4, 2) := dk_54 4 (dk_at dksX2_meanBetween_0 15 rfl rfl)
theorem dX2_meanBetween_17 : decode cX2_meanBetween 17 = .ok (.iload 4, 2) := dk_21 4 (dk_at dksX2_meanBetween_0 17 rfl rfl)
theorem dX2_meanBetween_19 : decode cX2_meanBetween 19 = .ok (.aload_n 0, 1) := dk_42 (dk_at dksX2_meanBetween_0 19 rfl rfl)
theorem dX2_meanBetween_20 : decode cX2_meanBetween 20 = .ok (.getfield 30, 3) := dk_180 0 30 (dk_at dksX2_meanBetween_0 20 rfl rfl)
theorem dX2_meanBetween_23 : decode cX2_meanBetween 23 = .ok (.iload_n 3, 1) := dk_29 (dk_at dksX2_meanBetween_0 23 rfl rfl)
theorem dX2_meanBetween_24 : decode cX2_meanBetween 24 = .ok (.iaload, 1) := dk_46 (dk_at dksX2_meanBetween_1 0 rfl rfl)
theorem dX2_meanBetween_25 : decode cX2_meanBetween 25 = .ok (.if_icmp .ge 42, 3) := dk_162 0 42 (dk_at dksX2_meanBetween_1 1 rfl rfl)
theorem dX2_meanBetween_28 : decode cX2_meanBetween 28 = .ok (.iload_n 2, 1) := dk_28 (dk_at dksX2_meanBetween_1 4 rfl rfl)
theorem dX2_meanBetween_29 : decode cX2_meanBetween 29 = .ok (.aload_n 0, 1) := dk_42 (dk_at dksX2_meanBetween_1 5 rfl rfl)
theorem dX2_meanBetween_30 : decode cX2_meanBetween 30 = .ok (.getfield 36, 3) := dk_180 0 36 (dk_at dksX2_meanBetween_1 6 rfl rfl)
theorem dX2_meanBetween_33 : decode cX2_meanBetween 33 = .ok (.bipush 8, 2) := dk_16 8 (dk_at dksX2_meanBetween_1 9 rfl rfl)
theorem dX2_meanBetween_35 : decode cX2_meanBetween 35 = .ok (.iload_n 3, 1) := dk_29 (dk_at dksX2_meanBetween_1 11 rfl rfl)
theorem dX2_meanBetween_36 : decode cX2_meanBetween 36 = .ok (.imul, 1) := dk_104 (dk_at dksX2_meanBetween_1 12 rfl rfl)
theorem dX2_meanBetween_37 : decode cX2_meanBetween 37 = .ok (.iload 4, 2) := dk_21 4 (dk_at dksX2_meanBetween_1 13 rfl rfl)
theorem dX2_meanBetween_39 : decode cX2_meanBetween 39 = .ok (.iadd, 1) := dk_96 (dk_at dksX2_meanBetween_1 15 rfl rfl)
theorem dX2_meanBetween_40 : decode cX2_meanBetween 40 = .ok (.iaload, 1) := dk_46 (dk_at dksX2_meanBetween_1 16 rfl rfl)
theorem dX2_meanBetween_41 : decode cX2_meanBetween 41 = .ok (.aload_n 0, 1) := dk_42 (dk_at dksX2_meanBetween_1 17 rfl rfl)
theorem dX2_meanBetween_42 : decode cX2_meanBetween 42 = .ok (.getfield 39, 3) := dk_180 0 39 (dk_at dksX2_meanBetween_1 18 rfl rfl)
theorem dX2_meanBetween_45 : decode cX2_meanBetween 45 = .ok (.bipush 8, 2) := dk_16 8 (dk_at dksX2_meanBetween_1 21 rfl rfl)
theorem dX2_meanBetween_47 : decode cX2_meanBetween 47 = .ok (.iload_n 3, 1) := dk_29 (dk_at dksX2_meanBetween_1 23 rfl rfl)
theorem dX2_meanBetween_48 : decode cX2_meanBetween 48 = .ok (.imul, 1) := dk_104 (dk_at dksX2_meanBetween_2 0 rfl rfl)
theorem dX2_meanBetween_49 : decode cX2_meanBetween 49 = .ok (.iload 4, 2) := dk_21 4 (dk_at dksX2_meanBetween_2 1 rfl rfl)
theorem dX2_meanBetween_51 : decode cX2_meanBetween 51 = .ok (.iadd, 1) := dk_96 (dk_at dksX2_meanBetween_2 3 rfl rfl)
theorem dX2_meanBetween_52 : decode cX2_meanBetween 52 = .ok (.iconst 1, 1) := dk_4 (dk_at dksX2_meanBetween_2 4 rfl rfl)
theorem dX2_meanBetween_53 : decode cX2_meanBetween 53 = .ok (.isub, 1) := dk_100 (dk_at dksX2_meanBetween_2 5 rfl rfl)
theorem dX2_meanBetween_54 : decode cX2_meanBetween 54 = .ok (.iaload, 1) := dk_46 (dk_at dksX2_meanBetween_2 6 rfl rfl)
theorem dX2_meanBetween_55 : decode cX2_meanBetween 55 = .ok (.isub, 1) := dk_100 (dk_at dksX2_meanBetween_2 7 rfl rfl)
theorem dX2_meanBetween_56 : decode cX2_meanBetween 56 = .ok (.iadd, 1) := dk_96 (dk_at dksX2_meanBetween_2 8 rfl rfl)
theorem dX2_meanBetween_57 : decode cX2_meanBetween 57 = .ok (.istore_n 2, 1) := dk_61 (dk_at dksX2_meanBetween_2 9 rfl rfl)
theorem dX2_meanBetween_58 : decode cX2_meanBetween 58 = .ok (.iinc 1 1, 3) := dk_132 1 1 (dk_at dksX2_meanBetween_2 10 rfl rfl)
theorem dX2_meanBetween_61 : decode cX2_meanBetween 61 = .ok (.iinc 4 1, 3) := dk_132 4 1 (dk_at dksX2_meanBetween_2 13 rfl rfl)
theorem dX2_meanBetween_64 : decode cX2_meanBetween 64 = .ok (.goto (-47), 3) := dk_167 255 209 (dk_at dksX2_meanBetween_2 16 rfl rfl)
theorem dX2_meanBetween_67 : decode cX2_meanBetween 67 = .ok (.iinc 3 1, 3) := dk_132 3 1 (dk_at dksX2_meanBetween_2 19 rfl rfl)
theorem dX2_meanBetween_70 : decode cX2_meanBetween 70 = .ok (.goto (-64), 3) := dk_167 255 192 (dk_at dksX2_meanBetween_3 0 rfl rfl)
theorem dX2_meanBetween_73 : decode cX2_meanBetween 73 = .ok (.aload_n 0, 1) := dk_42 (dk_at dksX2_meanBetween_3 3 rfl rfl)
theorem dX2_meanBetween_74 : decode cX2_meanBetween 74 = .ok (.iload_n 1, 1) := dk_27 (dk_at dksX2_meanBetween_3 4 rfl rfl)
theorem dX2_meanBetween_75 : decode cX2_meanBetween 75 = .ok (.ifCond .ne 7, 3) := dk_154 0 7 (dk_at dksX2_meanBetween_3 5 rfl rfl)
theorem dX2_meanBetween_78 : decode cX2_meanBetween 78 = .ok (.iconst 1, 1) := dk_4 (dk_at dksX2_meanBetween_3 8 rfl rfl)
theorem dX2_meanBetween_79 : decode cX2_meanBetween 79 = .ok (.goto 4, 3) := dk_167 0 4 (dk_at dksX2_meanBetween_3 9 rfl rfl)
theorem dX2_meanBetween_82 : decode cX2_meanBetween 82 = .ok (.iconst 0, 1) := dk_3 (dk_at dksX2_meanBetween_3 12 rfl rfl)
theorem dX2_meanBetween_83 : decode cX2_meanBetween 83 = .ok (.iconst 1, 1) := dk_4 (dk_at dksX2_meanBetween_3 13 rfl rfl)
theorem dX2_meanBetween_84 : decode cX2_meanBetween 84 = .ok (.invokevirtual 130, 3) := dk_182 0 130 (dk_at dksX2_meanBetween_3 14 rfl rfl)
theorem dX2_meanBetween_87 : decode cX2_meanBetween 87 = .ok (.ifCond .eq 7, 3) := dk_153 0 7 (dk_at dksX2_meanBetween_3 17 rfl rfl)
theorem dX2_meanBetween_90 : decode cX2_meanBetween 90 = .ok (.dconst 0, 1) := dk_14 (dk_at dksX2_meanBetween_3 20 rfl rfl)
theorem dX2_meanBetween_91 : decode cX2_meanBetween 91 = .ok (.goto 8, 3) := dk_167 0 8 (dk_at dksX2_meanBetween_3 21 rfl rfl)
theorem dX2_meanBetween_94 : decode cX2_meanBetween 94 = .ok (.iload_n 2, 1) := dk_28 (dk_at dksX2_meanBetween_4 0 rfl rfl)
theorem dX2_meanBetween_95 : decode cX2_meanBetween 95 = .ok (.i2d, 1) := dk_135 (dk_at dksX2_meanBetween_4 1 rfl rfl)
theorem dX2_meanBetween_96 : decode cX2_meanBetween 96 = .ok (.iload_n 1, 1) := dk_27 (dk_at dksX2_meanBetween_4 2 rfl rfl)
theorem dX2_meanBetween_97 : decode cX2_meanBetween 97 = .ok (.i2d, 1) := dk_135 (dk_at dksX2_meanBetween_4 3 rfl rfl)
theorem dX2_meanBetween_98 : decode cX2_meanBetween 98 = .ok (.ddiv, 1) := dk_111 (dk_at dksX2_meanBetween_4 4 rfl rfl)
theorem dX2_meanBetween_99 : decode cX2_meanBetween 99 = .ok (.dreturn, 1) := dk_175 (dk_at dksX2_meanBetween_4 5 rfl rfl)
abbrev cX2_checksum : ByteArray := prog_15_method_101_code
def yX2_checksum : MethodName := ⟨RX2, "checksum", "()J"⟩
def dkwX2_checksum_9 : List UInt8 := [20, 1, 75, 31, 105, 42, 180, 0, 172, 133, 97, 173]
abbrev dktX2_checksum_9 : List UInt8 := dkwX2_checksum_9 ++ []
def dkwX2_checksum_8 : List UInt8 := [153, 0, 7, 4, 167, 0, 4, 3, 133, 97, 64, 132, 4, 1, 167, 255, 218, 132, 3, 1, 167, 255, 201]
abbrev dktX2_checksum_8 : List UInt8 := dkwX2_checksum_8 ++ dktX2_checksum_9
def dkwX2_checksum_7 : List UInt8 := [16, 28, 162, 0, 37, 20, 1, 75, 31, 105, 42, 180, 0, 23, 16, 28, 29, 104, 21, 4, 96, 51]
abbrev dktX2_checksum_7 : List UInt8 := dkwX2_checksum_7 ++ dktX2_checksum_8
def dkwX2_checksum_6 : List UInt8 := [167, 255, 182, 132, 3, 1, 167, 255, 151, 3, 62, 29, 42, 180, 0, 134, 162, 0, 53, 3, 54, 4, 21, 4]
abbrev dktX2_checksum_6 : List UInt8 := dkwX2_checksum_6 ++ dktX2_checksum_7
def dkwX2_checksum_5 : List UInt8 := [20, 1, 75, 31, 105, 42, 180, 0, 39, 16, 8, 29, 104, 21, 4, 96, 46, 133, 97, 64, 132, 4, 1]
abbrev dktX2_checksum_5 : List UInt8 := dkwX2_checksum_5 ++ dktX2_checksum_6
def dkwX2_checksum_4 : List UInt8 := [46, 133, 97, 64, 20, 1, 75, 31, 105, 42, 180, 0, 36, 16, 8, 29, 104, 21, 4, 96, 46, 133, 97, 64]
abbrev dktX2_checksum_4 : List UInt8 := dkwX2_checksum_4 ++ dktX2_checksum_5
def dkwX2_checksum_3 : List UInt8 := [180, 0, 30, 29, 46, 162, 0, 69, 20, 1, 75, 31, 105, 42, 180, 0, 33, 16, 8, 29, 104, 21, 4, 96]
abbrev dktX2_checksum_3 : List UInt8 := dkwX2_checksum_3 ++ dktX2_checksum_4
def dkwX2_checksum_2 : List UInt8 := [162, 0, 103, 20, 1, 75, 31, 105, 42, 180, 0, 27, 29, 46, 133, 97, 64, 3, 54, 4, 21, 4, 42]
abbrev dktX2_checksum_2 : List UInt8 := dkwX2_checksum_2 ++ dktX2_checksum_3
def dkwX2_checksum_1 : List UInt8 := [42, 180, 0, 9, 29, 46, 133, 97, 64, 132, 3, 1, 167, 255, 231, 3, 62, 29, 42, 180, 0, 137]
abbrev dktX2_checksum_1 : List UInt8 := dkwX2_checksum_1 ++ dktX2_checksum_2
def dkwX2_checksum_0 : List UInt8 := [42, 3, 181, 0, 120, 20, 1, 73, 64, 3, 62, 29, 42, 180, 0, 123, 162, 0, 23, 20, 1, 75, 31, 105]
abbrev dktX2_checksum_0 : List UInt8 := dkwX2_checksum_0 ++ dktX2_checksum_1
theorem dksX2_checksum_0 : cX2_checksum.data.toList.drop 0 = dktX2_checksum_0 := by decide +kernel
theorem dksX2_checksum_1 : cX2_checksum.data.toList.drop 24 = dktX2_checksum_1 := dk_seg dksX2_checksum_0 24 rfl rfl
theorem dksX2_checksum_2 : cX2_checksum.data.toList.drop 46 = dktX2_checksum_2 := dk_seg dksX2_checksum_1 22 rfl rfl
theorem dksX2_checksum_3 : cX2_checksum.data.toList.drop 69 = dktX2_checksum_3 := dk_seg dksX2_checksum_2 23 rfl rfl
theorem dksX2_checksum_4 : cX2_checksum.data.toList.drop 93 = dktX2_checksum_4 := dk_seg dksX2_checksum_3 24 rfl rfl
theorem dksX2_checksum_5 : cX2_checksum.data.toList.drop 117 = dktX2_checksum_5 := dk_seg dksX2_checksum_4 24 rfl rfl
theorem dksX2_checksum_6 : cX2_checksum.data.toList.drop 140 = dktX2_checksum_6 := dk_seg dksX2_checksum_5 23 rfl rfl
theorem dksX2_checksum_7 : cX2_checksum.data.toList.drop 164 = dktX2_checksum_7 := dk_seg dksX2_checksum_6 24 rfl rfl
theorem dksX2_checksum_8 : cX2_checksum.data.toList.drop 186 = dktX2_checksum_8 := dk_seg dksX2_checksum_7 22 rfl rfl
theorem dksX2_checksum_9 : cX2_checksum.data.toList.drop 209 = dktX2_checksum_9 := dk_seg dksX2_checksum_8 23 rfl rfl
theorem dX2_checksum_0 : decode cX2_checksum 0 = .ok (.aload_n 0, 1) := dk_42 (dk_at dksX2_checksum_0 0 rfl rfl)
theorem dX2_checksum_1 : decode cX2_checksum 1 = .ok (.iconst 0, 1) := dk_3 (dk_at dksX2_checksum_0 1 rfl rfl)
theorem dX2_checksum_2 : decode cX2_checksum 2 = .ok (.putfield 120, 3) := dk_181 0 120 (dk_at dksX2_checksum_0 2 rfl rfl)
theorem dX2_checksum_5 : decode cX2_checksum 5 = .ok (.ldc2_w 329, 3) := dk_20 1 73 (dk_at dksX2_checksum_0 5 rfl rfl)
theorem dX2_checksum_8 : decode cX2_checksum 8 = .ok (.lstore_n 1, 1) := dk_64 (dk_at dksX2_checksum_0 8 rfl rfl)
theorem dX2_checksum_9 : decode cX2_checksum 9 = .ok (.iconst 0, 1) := dk_3 (dk_at dksX2_checksum_0 9 rfl rfl)
theorem dX2_checksum_10 : decode cX2_checksum 10 = .ok (.istore_n 3, 1) := dk_62 (dk_at dksX2_checksum_0 10 rfl rfl)
theorem dX2_checksum_11 : decode cX2_checksum 11 = .ok (.iload_n 3, 1) := dk_29 (dk_at dksX2_checksum_0 11 rfl rfl)
theorem dX2_checksum_12 : decode cX2_checksum 12 = .ok (.aload_n 0, 1) := dk_42 (dk_at dksX2_checksum_0 12 rfl rfl)
theorem dX2_checksum_13 : decode cX2_checksum 13 = .ok (.getfield 123, 3) := dk_180 0 123 (dk_at dksX2_checksum_0 13 rfl rfl)
theorem dX2_checksum_16 : decode cX2_checksum 16 = .ok (.if_icmp .ge 23, 3) := dk_162 0 23 (dk_at dksX2_checksum_0 16 rfl rfl)
theorem dX2_checksum_19 : decode cX2_checksum 19 = .ok (.ldc2_w 331, 3) := dk_20 1 75 (dk_at dksX2_checksum_0 19 rfl rfl)
theorem dX2_checksum_22 : decode cX2_checksum 22 = .ok (.lload_n 1, 1) := dk_31 (dk_at dksX2_checksum_0 22 rfl rfl)
theorem dX2_checksum_23 : decode cX2_checksum 23 = .ok (.lmul, 1) := dk_105 (dk_at dksX2_checksum_0 23 rfl rfl)
theorem dX2_checksum_24 : decode cX2_checksum 24 = .ok (.aload_n 0, 1) := dk_42 (dk_at dksX2_checksum_1 0 rfl rfl)
theorem dX2_checksum_25 : decode cX2_checksum 25 = .ok (.getfield 9, 3) := dk_180 0 9 (dk_at dksX2_checksum_1 1 rfl rfl)
theorem dX2_checksum_28 : decode cX2_checksum 28 = .ok (.iload_n 3, 1) := dk_29 (dk_at dksX2_checksum_1 4 rfl rfl)
theorem dX2_checksum_29 : decode cX2_checksum 29 = .ok (.iaload, 1) := dk_46 (dk_at dksX2_checksum_1 5 rfl rfl)
theorem dX2_checksum_30 : decode cX2_checksum 30 = .ok (.i2l, 1) := dk_133 (dk_at dksX2_checksum_1 6 rfl rfl)
theorem dX2_checksum_31 : decode cX2_checksum 31 = .ok (.ladd, 1) := dk_97 (dk_at dksX2_checksum_1 7 rfl rfl)
theorem dX2_checksum_32 : decode cX2_checksum 32 = .ok (.lstore_n 1, 1) := dk_64 (dk_at dksX2_checksum_1 8 rfl rfl)
theorem dX2_checksum_33 : decode cX2_checksum 33 = .ok (.iinc 3 1, 3) := dk_132 3 1 (dk_at dksX2_checksum_1 9 rfl rfl)
theorem dX2_checksum_36 : decode cX2_checksum 36 = .ok (.goto (-25), 3) := dk_167 255 231 (dk_at dksX2_checksum_1 12 rfl rfl)
theorem dX2_checksum_39 : decode cX2_checksum 39 = .ok (.iconst 0, 1) := dk_3 (dk_at dksX2_checksum_1 15 rfl rfl)
theorem dX2_checksum_40 : decode cX2_checksum 40 = .ok (.istore_n 3, 1) := dk_62 (dk_at dksX2_checksum_1 16 rfl rfl)
theorem dX2_checksum_41 : decode cX2_checksum 41 = .ok (.iload_n 3, 1) := dk_29 (dk_at dksX2_checksum_1 17 rfl rfl)
theorem dX2_checksum_42 : decode cX2_checksum 42 = .ok (.aload_n 0, 1) := dk_42 (dk_at dksX2_checksum_1 18 rfl rfl)
theorem dX2_checksum_43 : decode cX2_checksum 43 = .ok (.getfield 137, 3) := dk_180 0 137 (dk_at dksX2_checksum_1 19 rfl rfl)
theorem dX2_checksum_46 : decode cX2_checksum 46 = .ok (.if_icmp .ge 103, 3) := dk_162 0 103 (dk_at dksX2_checksum_2 0 rfl rfl)
theorem dX2_checksum_49 : decode cX2_checksum 49 = .ok (.ldc2_w 331, 3) := dk_20 1 75 (dk_at dksX2_checksum_2 3 rfl rfl)
theorem dX2_checksum_52 : decode cX2_checksum 52 = .ok (.lload_n 1, 1) := dk_31 (dk_at dksX2_checksum_2 6 rfl rfl)
theorem dX2_checksum_53 : decode cX2_checksum 53 = .ok (.lmul, 1) := dk_105 (dk_at dksX2_checksum_2 7 rfl rfl)
theorem dX2_checksum_54 : decode cX2_checksum 54 = .ok (.aload_n 0, 1) := dk_42 (dk_at dksX2_checksum_2 8 rfl rfl)
theorem dX2_checksum_55 : decode cX2_checksum 55 = .ok (.getfield 27, 3) := dk_180 0 27 (dk_at dksX2_checksum_2 9 rfl rfl)
theorem dX2_checksum_58 : decode cX2_checksum 58 = .ok (.iload_n 3, 1) := dk_29 (dk_at dksX2_checksum_2 12 rfl rfl)
theorem dX2_checksum_59 : decode cX2_checksum 59 = .ok (.iaload, 1) := dk_46 (dk_at dksX2_checksum_2 13 rfl rfl)
theorem dX2_checksum_60 : decode cX2_checksum 60 = .ok (.i2l, 1) := dk_133 (dk_at dksX2_checksum_2 14 rfl rfl)
theorem dX2_checksum_61 : decode cX2_checksum 61 = .ok (.ladd, 1) := dk_97 (dk_at dksX2_checksum_2 15 rfl rfl)
theorem dX2_checksum_62 : decode cX2_checksum 62 = .ok (.lstore_n 1, 1) := dk_64 (dk_at dksX2_checksum_2 16 rfl rfl)
theorem dX2_checksum_63 : decode cX2_checksum 63 = .ok (.iconst 0, 1) := dk_3 (dk_at dksX2_checksum_2 17 rfl rfl)
theorem dX2_checksum_64 : decode cX2_checksum 64 = .ok (.istore 4, 2) := dk_54 4 (dk_at dksX2_checksum_2 18 rfl rfl)
theorem dX2_checksum_66 : decode cX2_checksum 66 = .ok (.iload 4, 2) := dk_21 4 (dk_at dksX2_checksum_2 20 rfl rfl)
theorem dX2_checksum_68 : decode cX2_checksum 68 = .ok (.aload_n 0, 1) := dk_42 (dk_at dksX2_checksum_2 22 rfl rfl)
theorem dX2_checksum_69 : decode cX2_checksum 69 = .ok (.getfield 30, 3) := dk_180 0 30 (dk_at dksX2_checksum_3 0 rfl rfl)
theorem dX2_checksum_72 : decode cX2_checksum 72 = .ok (.iload_n 3, 1) := dk_29 (dk_at dksX2_checksum_3 3 rfl rfl)
theorem dX2_checksum_73 : decode cX2_checksum 73 = .ok (.iaload, 1) := dk_46 (dk_at dksX2_checksum_3 4 rfl rfl)
theorem dX2_checksum_74 : decode cX2_checksum 74 = .ok (.if_icmp .ge 69, 3) := dk_162 0 69 (dk_at dksX2_checksum_3 5 rfl rfl)
theorem dX2_checksum_77 : decode cX2_checksum 77 = .ok (.ldc2_w 331, 3) := dk_20 1 75 (dk_at dksX2_checksum_3 8 rfl rfl)
theorem dX2_checksum_80 : decode cX2_checksum 80 = .ok (.lload_n 1, 1) := dk_31 (dk_at dksX2_checksum_3 11 rfl rfl)
theorem dX2_checksum_81 : decode cX2_checksum 81 = .ok (.lmul, 1) := dk_105 (dk_at dksX2_checksum_3 12 rfl rfl)
theorem dX2_checksum_82 : decode cX2_checksum 82 = .ok (.aload_n 0, 1) := dk_42 (dk_at dksX2_checksum_3 13 rfl rfl)
theorem dX2_checksum_83 : decode cX2_checksum 83 = .ok (.getfield 33, 3) := dk_180 0 33 (dk_at dksX2_checksum_3 14 rfl rfl)
theorem dX2_checksum_86 : decode cX2_checksum 86 = .ok (.bipush 8, 2) := dk_16 8 (dk_at dksX2_checksum_3 17 rfl rfl)
theorem dX2_checksum_88 : decode cX2_checksum 88 = .ok (.iload_n 3, 1) := dk_29 (dk_at dksX2_checksum_3 19 rfl rfl)
theorem dX2_checksum_89 : decode cX2_checksum 89 = .ok (.imul, 1) := dk_104 (dk_at dksX2_checksum_3 20 rfl rfl)
theorem dX2_checksum_90 : decode cX2_checksum 90 = .ok (.iload 4, 2) := dk_21 4 (dk_at dksX2_checksum_3 21 rfl rfl)
theorem dX2_checksum_92 : decode cX2_checksum 92 = .ok (.iadd, 1) := dk_96 (dk_at dksX2_checksum_3 23 rfl rfl)
theorem dX2_checksum_93 : decode cX2_checksum 93 = .ok (.iaload, 1) := dk_46 (dk_at dksX2_checksum_4 0 rfl rfl)
theorem dX2_checksum_94 : decode cX2_checksum 94 = .ok (.i2l, 1) := dk_133 (dk_at dksX2_checksum_4 1 rfl rfl)
theorem dX2_checksum_95 : decode cX2_checksum 95 = .ok (.ladd, 1) := dk_97 (dk_at dksX2_checksum_4 2 rfl rfl)
theorem dX2_checksum_96 : decode cX2_checksum 96 = .ok (.lstore_n 1, 1) := dk_64 (dk_at dksX2_checksum_4 3 rfl rfl)
theorem dX2_checksum_97 : decode cX2_checksum 97 = .ok (.ldc2_w 331, 3) := dk_20 1 75 (dk_at dksX2_checksum_4 4 rfl rfl)
theorem dX2_checksum_100 : decode cX2_checksum 100 = .ok (.lload_n 1, 1) := dk_31 (dk_at dksX2_checksum_4 7 rfl rfl)
theorem dX2_checksum_101 : decode cX2_checksum 101 = .ok (.lmul, 1) := dk_105 (dk_at dksX2_checksum_4 8 rfl rfl)
theorem dX2_checksum_102 : decode cX2_checksum 102 = .ok (.aload_n 0, 1) := dk_42 (dk_at dksX2_checksum_4 9 rfl rfl)
theorem dX2_checksum_103 : decode cX2_checksum 103 = .ok (.getfield 36, 3) := dk_180 0 36 (dk_at dksX2_checksum_4 10 rfl rfl)
theorem dX2_checksum_106 : decode cX2_checksum 106 = .ok (.bipush 8, 2) := dk_16 8 (dk_at dksX2_checksum_4 13 rfl rfl)
theorem dX2_checksum_108 : decode cX2_checksum 108 = .ok (.iload_n 3, 1) := dk_29 (dk_at dksX2_checksum_4 15 rfl rfl)
theorem dX2_checksum_109 : decode cX2_checksum 109 = .ok (.imul, 1) := dk_104 (dk_at dksX2_checksum_4 16 rfl rfl)
theorem dX2_checksum_110 : decode cX2_checksum 110 = .ok (.iload 4, 2) := dk_21 4 (dk_at dksX2_checksum_4 17 rfl rfl)
theorem dX2_checksum_112 : decode cX2_checksum 112 = .ok (.iadd, 1) := dk_96 (dk_at dksX2_checksum_4 19 rfl rfl)
theorem dX2_checksum_113 : decode cX2_checksum 113 = .ok (.iaload, 1) := dk_46 (dk_at dksX2_checksum_4 20 rfl rfl)
theorem dX2_checksum_114 : decode cX2_checksum 114 = .ok (.i2l, 1) := dk_133 (dk_at dksX2_checksum_4 21 rfl rfl)
theorem dX2_checksum_115 : decode cX2_checksum 115 = .ok (.ladd, 1) := dk_97 (dk_at dksX2_checksum_4 22 rfl rfl)
theorem dX2_checksum_116 : decode cX2_checksum 116 = .ok (.lstore_n 1, 1) := dk_64 (dk_at dksX2_checksum_4 23 rfl rfl)
theorem dX2_checksum_117 : decode cX2_checksum 117 = .ok (.ldc2_w 331, 3) := dk_20 1 75 (dk_at dksX2_checksum_5 0 rfl rfl)
theorem dX2_checksum_120 : decode cX2_checksum 120 = .ok (.lload_n 1, 1) := dk_31 (dk_at dksX2_checksum_5 3 rfl rfl)
theorem dX2_checksum_121 : decode cX2_checksum 121 = .ok (.lmul, 1) := dk_105 (dk_at dksX2_checksum_5 4 rfl rfl)
theorem dX2_checksum_122 : decode cX2_checksum 122 = .ok (.aload_n 0, 1) := dk_42 (dk_at dksX2_checksum_5 5 rfl rfl)
theorem dX2_checksum_123 : decode cX2_checksum 123 = .ok (.getfield 39, 3) := dk_180 0 39 (dk_at dksX2_checksum_5 6 rfl rfl)
theorem dX2_checksum_126 : decode cX2_checksum 126 = .ok (.bipush 8, 2) := dk_16 8 (dk_at dksX2_checksum_5 9 rfl rfl)
theorem dX2_checksum_128 : decode cX2_checksum 128 = .ok (.iload_n 3, 1) := dk_29 (dk_at dksX2_checksum_5 11 rfl rfl)
theorem dX2_checksum_129 : decode cX2_checksum 129 = .ok (.imul, 1) := dk_104 (dk_at dksX2_checksum_5 12 rfl rfl)
theorem dX2_checksum_130 : decode cX2_checksum 130 = .ok (.iload 4, 2) := dk_21 4 (dk_at dksX2_checksum_5 13 rfl rfl)
theorem dX2_checksum_132 : decode cX2_checksum 132 = .ok (.iadd, 1) := dk_96 (dk_at dksX2_checksum_5 15 rfl rfl)
theorem dX2_checksum_133 : decode cX2_checksum 133 = .ok (.iaload, 1) := dk_46 (dk_at dksX2_checksum_5 16 rfl rfl)
theorem dX2_checksum_134 : decode cX2_checksum 134 = .ok (.i2l, 1) := dk_133 (dk_at dksX2_checksum_5 17 rfl rfl)
theorem dX2_checksum_135 : decode cX2_checksum 135 = .ok (.ladd, 1) := dk_97 (dk_at dksX2_checksum_5 18 rfl rfl)
theorem dX2_checksum_136 : decode cX2_checksum 136 = .ok (.lstore_n 1, 1) := dk_64 (dk_at dksX2_checksum_5 19 rfl rfl)
theorem dX2_checksum_137 : decode cX2_checksum 137 = .ok (.iinc 4 1, 3) := dk_132 4 1 (dk_at dksX2_checksum_5 20 rfl rfl)
theorem dX2_checksum_140 : decode cX2_checksum 140 = .ok (.goto (-74), 3) := dk_167 255 182 (dk_at dksX2_checksum_6 0 rfl rfl)
theorem dX2_checksum_143 : decode cX2_checksum 143 = .ok (.iinc 3 1, 3) := dk_132 3 1 (dk_at dksX2_checksum_6 3 rfl rfl)
theorem dX2_checksum_146 : decode cX2_checksum 146 = .ok (.goto (-105), 3) := dk_167 255 151 (dk_at dksX2_checksum_6 6 rfl rfl)
theorem dX2_checksum_149 : decode cX2_checksum 149 = .ok (.iconst 0, 1) := dk_3 (dk_at dksX2_checksum_6 9 rfl rfl)
theorem dX2_checksum_150 : decode cX2_checksum 150 = .ok (.istore_n 3, 1) := dk_62 (dk_at dksX2_checksum_6 10 rfl rfl)
theorem dX2_checksum_151 : decode cX2_checksum 151 = .ok (.iload_n 3, 1) := dk_29 (dk_at dksX2_checksum_6 11 rfl rfl)
theorem dX2_checksum_152 : decode cX2_checksum 152 = .ok (.aload_n 0, 1) := dk_42 (dk_at dksX2_checksum_6 12 rfl rfl)
theorem dX2_checksum_153 : decode cX2_checksum 153 = .ok (.getfield 134, 3) := dk_180 0 134 (dk_at dksX2_checksum_6 13 rfl rfl)
theorem dX2_checksum_156 : decode cX2_checksum 156 = .ok (.if_icmp .ge 53, 3) := dk_162 0 53 (dk_at dksX2_checksum_6 16 rfl rfl)
theorem dX2_checksum_159 : decode cX2_checksum 159 = .ok (.iconst 0, 1) := dk_3 (dk_at dksX2_checksum_6 19 rfl rfl)
theorem dX2_checksum_160 : decode cX2_checksum 160 = .ok (.istore 4, 2) := dk_54 4 (dk_at dksX2_checksum_6 20 rfl rfl)
theorem dX2_checksum_162 : decode cX2_checksum 162 = .ok (.iload 4, 2) := dk_21 4 (dk_at dksX2_checksum_6 22 rfl rfl)
theorem dX2_checksum_164 : decode cX2_checksum 164 = .ok (.bipush 28, 2) := dk_16 28 (dk_at dksX2_checksum_7 0 rfl rfl)
theorem dX2_checksum_166 : decode cX2_checksum 166 = .ok (.if_icmp .ge 37, 3) := dk_162 0 37 (dk_at dksX2_checksum_7 2 rfl rfl)
theorem dX2_checksum_169 : decode cX2_checksum 169 = .ok (.ldc2_w 331, 3) := dk_20 1 75 (dk_at dksX2_checksum_7 5 rfl rfl)
theorem dX2_checksum_172 : decode cX2_checksum 172 = .ok (.lload_n 1, 1) := dk_31 (dk_at dksX2_checksum_7 8 rfl rfl)
theorem dX2_checksum_173 : decode cX2_checksum 173 = .ok (.lmul, 1) := dk_105 (dk_at dksX2_checksum_7 9 rfl rfl)
theorem dX2_checksum_174 : decode cX2_checksum 174 = .ok (.aload_n 0, 1) := dk_42 (dk_at dksX2_checksum_7 10 rfl rfl)
theorem dX2_checksum_175 : decode cX2_checksum 175 = .ok (.getfield 23, 3) := dk_180 0 23 (dk_at dksX2_checksum_7 11 rfl rfl)
theorem dX2_checksum_178 : decode cX2_checksum 178 = .ok (.bipush 28, 2) := dk_16 28 (dk_at dksX2_checksum_7 14 rfl rfl)
theorem dX2_checksum_180 : decode cX2_checksum 180 = .ok (.iload_n 3, 1) := dk_29 (dk_at dksX2_checksum_7 16 rfl rfl)
theorem dX2_checksum_181 : decode cX2_checksum 181 = .ok (.imul, 1) := dk_104 (dk_at dksX2_checksum_7 17 rfl rfl)
theorem dX2_checksum_182 : decode cX2_checksum 182 = .ok (.iload 4, 2) := dk_21 4 (dk_at dksX2_checksum_7 18 rfl rfl)
theorem dX2_checksum_184 : decode cX2_checksum 184 = .ok (.iadd, 1) := dk_96 (dk_at dksX2_checksum_7 20 rfl rfl)
theorem dX2_checksum_185 : decode cX2_checksum 185 = .ok (.baload, 1) := dk_51 (dk_at dksX2_checksum_7 21 rfl rfl)
theorem dX2_checksum_186 : decode cX2_checksum 186 = .ok (.ifCond .eq 7, 3) := dk_153 0 7 (dk_at dksX2_checksum_8 0 rfl rfl)
theorem dX2_checksum_189 : decode cX2_checksum 189 = .ok (.iconst 1, 1) := dk_4 (dk_at dksX2_checksum_8 3 rfl rfl)
theorem dX2_checksum_190 : decode cX2_checksum 190 = .ok (.goto 4, 3) := dk_167 0 4 (dk_at dksX2_checksum_8 4 rfl rfl)
theorem dX2_checksum_193 : decode cX2_checksum 193 = .ok (.iconst 0, 1) := dk_3 (dk_at dksX2_checksum_8 7 rfl rfl)
theorem dX2_checksum_194 : decode cX2_checksum 194 = .ok (.i2l, 1) := dk_133 (dk_at dksX2_checksum_8 8 rfl rfl)
theorem dX2_checksum_195 : decode cX2_checksum 195 = .ok (.ladd, 1) := dk_97 (dk_at dksX2_checksum_8 9 rfl rfl)
theorem dX2_checksum_196 : decode cX2_checksum 196 = .ok (.lstore_n 1, 1) := dk_64 (dk_at dksX2_checksum_8 10 rfl rfl)
theorem dX2_checksum_197 : decode cX2_checksum 197 = .ok (.iinc 4 1, 3) := dk_132 4 1 (dk_at dksX2_checksum_8 11 rfl rfl)
theorem dX2_checksum_200 : decode cX2_checksum 200 = .ok (.goto (-38), 3) := dk_167 255 218 (dk_at dksX2_checksum_8 14 rfl rfl)
theorem dX2_checksum_203 : decode cX2_checksum 203 = .ok (.iinc 3 1, 3) := dk_132 3 1 (dk_at dksX2_checksum_8 17 rfl rfl)
theorem dX2_checksum_206 : decode cX2_checksum 206 = .ok (.goto (-55), 3) := dk_167 255 201 (dk_at dksX2_checksum_8 20 rfl rfl)
theorem dX2_checksum_209 : decode cX2_checksum 209 = .ok (.ldc2_w 331, 3) := dk_20 1 75 (dk_at dksX2_checksum_9 0 rfl rfl)
theorem dX2_checksum_212 : decode cX2_checksum 212 = .ok (.lload_n 1, 1) := dk_31 (dk_at dksX2_checksum_9 3 rfl rfl)
theorem dX2_checksum_213 : decode cX2_checksum 213 = .ok (.lmul, 1) := dk_105 (dk_at dksX2_checksum_9 4 rfl rfl)
theorem dX2_checksum_214 : decode cX2_checksum 214 = .ok (.aload_n 0, 1) := dk_42 (dk_at dksX2_checksum_9 5 rfl rfl)
theorem dX2_checksum_215 : decode cX2_checksum 215 = .ok (.getfield 172, 3) := dk_180 0 172 (dk_at dksX2_checksum_9 6 rfl rfl)
theorem dX2_checksum_218 : decode cX2_checksum 218 = .ok (.i2l, 1) := dk_133 (dk_at dksX2_checksum_9 9 rfl rfl)
theorem dX2_checksum_219 : decode cX2_checksum 219 = .ok (.ladd, 1) := dk_97 (dk_at dksX2_checksum_9 10 rfl rfl)
theorem dX2_checksum_220 : decode cX2_checksum 220 = .ok (.lreturn, 1) := dk_173 (dk_at dksX2_checksum_9 11 rfl rfl)
abbrev cX2_isSound : ByteArray := prog_15_method_102_code
def yX2_isSound : MethodName := ⟨RX2, "isSound", "(I)Z"⟩
def dkwX2_isSound_0 : List UInt8 := [42, 27, 4, 182, 0, 154, 154, 0, 7, 4, 167, 0, 4, 3, 172]
abbrev dktX2_isSound_0 : List UInt8 := dkwX2_isSound_0 ++ []
theorem dksX2_isSound_0 : cX2_isSound.data.toList.drop 0 = dktX2_isSound_0 := by decide +kernel
theorem dX2_isSound_0 : decode cX2_isSound 0 = .ok (.aload_n 0, 1) := dk_42 (dk_at dksX2_isSound_0 0 rfl rfl)
theorem dX2_isSound_1 : decode cX2_isSound 1 = .ok (.iload_n 1, 1) := dk_27 (dk_at dksX2_isSound_0 1 rfl rfl)
theorem dX2_isSound_2 : decode cX2_isSound 2 = .ok (.iconst 1, 1) := dk_4 (dk_at dksX2_isSound_0 2 rfl rfl)
theorem dX2_isSound_3 : decode cX2_isSound 3 = .ok (.invokevirtual 154, 3) := dk_182 0 154 (dk_at dksX2_isSound_0 3 rfl rfl)
theorem dX2_isSound_6 : decode cX2_isSound 6 = .ok (.ifCond .ne 7, 3) := dk_154 0 7 (dk_at dksX2_isSound_0 6 rfl rfl)
theorem dX2_isSound_9 : decode cX2_isSound 9 = .ok (.iconst 1, 1) := dk_4 (dk_at dksX2_isSound_0 9 rfl rfl)
theorem dX2_isSound_10 : decode cX2_isSound 10 = .ok (.goto 4, 3) := dk_167 0 4 (dk_at dksX2_isSound_0 10 rfl rfl)
theorem dX2_isSound_13 : decode cX2_isSound 13 = .ok (.iconst 0, 1) := dk_3 (dk_at dksX2_isSound_0 13 rfl rfl)
theorem dX2_isSound_14 : decode cX2_isSound 14 = .ok (.ireturn, 1) := dk_172 (dk_at dksX2_isSound_0 14 rfl rfl)
theorem q133 : (Jvm.Cond.initialized "LastbusModel") ∈ lw_all := lw_g (lw_at lw_m1 11 rfl) rfl
theorem q989 : (Jvm.Cond.selects "LastbusModel" ({ cls := "java/lang/Object", name := "getClass", desc := "()Ljava/lang/Class;" } : Jvm.MethodName) ({ cls := "java/lang/Object", name := "getClass", desc := "()Ljava/lang/Class;" } : Jvm.MethodName)) ∈ lw_all := lw_g (lw_at lw_m4 147 rfl) rfl
theorem q3088 : (Jvm.Cond.instantiable "LastbusModel" (50 : Nat)) ∈ lw_all := lw_g (lw_at lw_m13 86 rfl) rfl
theorem q3090 : (Jvm.Cond.instanceMethod ({ cls := "LastbusModel", name := "<init>", desc := "()V" } : Jvm.MethodName)) ∈ lw_all := lw_g (lw_at lw_m13 88 rfl) rfl
theorem q3091 : (Jvm.Cond.code ({ cls := "LastbusModel", name := "<init>", desc := "()V" } : Jvm.MethodName) prog_15_method_1_code (1 : Nat) (Option.none : Option Jvm.ClassFile.FieldType)) ∈ lw_all := lw_g (lw_at lw_m13 89 rfl) rfl
theorem q3092 : (Jvm.Cond.methodLink "LastbusModel" (1 : Nat) ({ cls := "java/lang/Object", name := "<init>", desc := "()V" } : Jvm.MethodName)) ∈ lw_all := lw_g (lw_at lw_m13 90 rfl) rfl
theorem q3093 : (Jvm.Cond.fieldLink "LastbusModel" (120 : Nat) "LastbusModel" "thrown" "I") ∈ lw_all := lw_g (lw_at lw_m13 91 rfl) rfl
theorem q3094 : (Jvm.Cond.fieldLink "LastbusModel" (123 : Nat) "LastbusModel" "stops" "I") ∈ lw_all := lw_g (lw_at lw_m13 92 rfl) rfl
theorem q3095 : (Jvm.Cond.fieldLink "LastbusModel" (9 : Nat) "LastbusModel" "change" "[I") ∈ lw_all := lw_g (lw_at lw_m13 93 rfl) rfl
theorem q3096 : (Jvm.Cond.fieldLink "LastbusModel" (13 : Nat) "LastbusModel" "told" "[I") ∈ lw_all := lw_g (lw_at lw_m13 94 rfl) rfl
theorem q3097 : (Jvm.Cond.fieldLink "LastbusModel" (16 : Nat) "LastbusModel" "way" "[I") ∈ lw_all := lw_g (lw_at lw_m13 95 rfl) rfl
theorem q3098 : (Jvm.Cond.fieldLink "LastbusModel" (19 : Nat) "LastbusModel" "cut" "I") ∈ lw_all := lw_g (lw_at lw_m13 96 rfl) rfl
theorem q3099 : (Jvm.Cond.fieldLink "LastbusModel" (134 : Nat) "LastbusModel" "services" "I") ∈ lw_all := lw_g (lw_at lw_m13 97 rfl) rfl
theorem q3100 : (Jvm.Cond.fieldLink "LastbusModel" (23 : Nat) "LastbusModel" "on" "[Z") ∈ lw_all := lw_g (lw_at lw_m13 98 rfl) rfl
theorem q3101 : (Jvm.Cond.fieldLink "LastbusModel" (137 : Nat) "LastbusModel" "trips" "I") ∈ lw_all := lw_g (lw_at lw_m13 99 rfl) rfl
theorem q3102 : (Jvm.Cond.fieldLink "LastbusModel" (27 : Nat) "LastbusModel" "serviceOf" "[I") ∈ lw_all := lw_g (lw_at lw_m13 100 rfl) rfl
theorem q3103 : (Jvm.Cond.fieldLink "LastbusModel" (30 : Nat) "LastbusModel" "calls" "[I") ∈ lw_all := lw_g (lw_at lw_m13 101 rfl) rfl
theorem q3104 : (Jvm.Cond.fieldLink "LastbusModel" (33 : Nat) "LastbusModel" "stopOf" "[I") ∈ lw_all := lw_g (lw_at lw_m13 102 rfl) rfl
theorem q3105 : (Jvm.Cond.fieldLink "LastbusModel" (36 : Nat) "LastbusModel" "arrival" "[I") ∈ lw_all := lw_g (lw_at lw_m13 103 rfl) rfl
theorem q3106 : (Jvm.Cond.fieldLink "LastbusModel" (39 : Nat) "LastbusModel" "departure" "[I") ∈ lw_all := lw_g (lw_at lw_m13 104 rfl) rfl
theorem q3107 : (Jvm.Cond.fieldLink "LastbusModel" (188 : Nat) "LastbusModel" "lates" "I") ∈ lw_all := lw_g (lw_at lw_m13 105 rfl) rfl
theorem q3108 : (Jvm.Cond.fieldLink "LastbusModel" (42 : Nat) "LastbusModel" "lateDay" "[I") ∈ lw_all := lw_g (lw_at lw_m13 106 rfl) rfl
theorem q3109 : (Jvm.Cond.fieldLink "LastbusModel" (45 : Nat) "LastbusModel" "lateTrip" "[I") ∈ lw_all := lw_g (lw_at lw_m13 107 rfl) rfl
theorem q3110 : (Jvm.Cond.fieldLink "LastbusModel" (48 : Nat) "LastbusModel" "lateCall" "[I") ∈ lw_all := lw_g (lw_at lw_m13 108 rfl) rfl
theorem q3111 : (Jvm.Cond.fieldLink "LastbusModel" (51 : Nat) "LastbusModel" "lateBy" "[I") ∈ lw_all := lw_g (lw_at lw_m13 109 rfl) rfl
theorem q3112 : (Jvm.Cond.fieldLink "LastbusModel" (172 : Nat) "LastbusModel" "signs" "I") ∈ lw_all := lw_g (lw_at lw_m13 110 rfl) rfl
theorem q3113 : (Jvm.Cond.fieldLink "LastbusModel" (54 : Nat) "LastbusModel" "typed" "[I") ∈ lw_all := lw_g (lw_at lw_m13 111 rfl) rfl
theorem q3114 : (Jvm.Cond.fieldLink "LastbusModel" (57 : Nat) "LastbusModel" "fault" "I") ∈ lw_all := lw_g (lw_at lw_m13 112 rfl) rfl
theorem q3115 : (Jvm.Cond.fieldLink "LastbusModel" (198 : Nat) "LastbusModel" "today" "I") ∈ lw_all := lw_g (lw_at lw_m13 113 rfl) rfl
theorem q3116 : (Jvm.Cond.fieldLink "LastbusModel" (60 : Nat) "LastbusModel" "free" "[I") ∈ lw_all := lw_g (lw_at lw_m13 114 rfl) rfl
theorem q3117 : (Jvm.Cond.fieldLink "LastbusModel" (63 : Nat) "LastbusModel" "ridden" "[I") ∈ lw_all := lw_g (lw_at lw_m13 115 rfl) rfl
theorem q3118 : (Jvm.Cond.fieldLink "LastbusModel" (204 : Nat) "LastbusModel" "isChanged" "Z") ∈ lw_all := lw_g (lw_at lw_m13 116 rfl) rfl
theorem q3119 : (Jvm.Cond.fieldLink "LastbusModel" (66 : Nat) "LastbusModel" "freeAt" "[I") ∈ lw_all := lw_g (lw_at lw_m13 117 rfl) rfl
theorem q3120 : (Jvm.Cond.fieldLink "LastbusModel" (69 : Nat) "LastbusModel" "riddenAt" "[I") ∈ lw_all := lw_g (lw_at lw_m13 118 rfl) rfl
theorem q3121 : (Jvm.Cond.fieldLink "LastbusModel" (250 : Nat) "LastbusModel" "rounds" "I") ∈ lw_all := lw_g (lw_at lw_m13 119 rfl) rfl
theorem q3122 : (Jvm.Cond.fieldLink "LastbusModel" (72 : Nat) "LastbusModel" "rides" "I") ∈ lw_all := lw_g (lw_at lw_m13 120 rfl) rfl
theorem q3123 : (Jvm.Cond.fieldLink "LastbusModel" (75 : Nat) "LastbusModel" "rideRun" "[I") ∈ lw_all := lw_g (lw_at lw_m13 121 rfl) rfl
theorem q3124 : (Jvm.Cond.fieldLink "LastbusModel" (78 : Nat) "LastbusModel" "rideOn" "[I") ∈ lw_all := lw_g (lw_at lw_m13 122 rfl) rfl
theorem q3125 : (Jvm.Cond.fieldLink "LastbusModel" (81 : Nat) "LastbusModel" "rideOff" "[I") ∈ lw_all := lw_g (lw_at lw_m13 123 rfl) rfl
theorem q3126 : (Jvm.Cond.fieldLink "LastbusModel" (279 : Nat) "LastbusModel" "pairMany" "I") ∈ lw_all := lw_g (lw_at lw_m13 124 rfl) rfl
theorem q3127 : (Jvm.Cond.fieldLink "LastbusModel" (84 : Nat) "LastbusModel" "leaves" "[I") ∈ lw_all := lw_g (lw_at lw_m13 125 rfl) rfl
theorem q3128 : (Jvm.Cond.fieldLink "LastbusModel" (87 : Nat) "LastbusModel" "comes" "[I") ∈ lw_all := lw_g (lw_at lw_m13 126 rfl) rfl
theorem q3129 : (Jvm.Cond.fieldLink "LastbusModel" (297 : Nat) "LastbusModel" "wishes" "I") ∈ lw_all := lw_g (lw_at lw_m13 127 rfl) rfl
theorem q3130 : (Jvm.Cond.fieldLink "LastbusModel" (90 : Nat) "LastbusModel" "wishTrip" "[I") ∈ lw_all := lw_g (lw_at lw_m13 128 rfl) rfl
theorem q3131 : (Jvm.Cond.fieldLink "LastbusModel" (93 : Nat) "LastbusModel" "wishCall" "[I") ∈ lw_all := lw_g (lw_at lw_m13 129 rfl) rfl
theorem q3132 : (Jvm.Cond.fieldLink "LastbusModel" (96 : Nat) "LastbusModel" "wishOther" "[I") ∈ lw_all := lw_g (lw_at lw_m13 130 rfl) rfl
theorem q3133 : (Jvm.Cond.fieldLink "LastbusModel" (99 : Nat) "LastbusModel" "wishOtherCall" "[I") ∈ lw_all := lw_g (lw_at lw_m13 131 rfl) rfl
theorem q3134 : (Jvm.Cond.fieldLink "LastbusModel" (102 : Nat) "LastbusModel" "travellers" "[I") ∈ lw_all := lw_g (lw_at lw_m13 132 rfl) rfl
theorem q3135 : (Jvm.Cond.fieldLink "LastbusModel" (105 : Nat) "LastbusModel" "waits" "[I") ∈ lw_all := lw_g (lw_at lw_m13 133 rfl) rfl
theorem q3136 : (Jvm.Cond.fieldLink "LastbusModel" (108 : Nat) "LastbusModel" "before" "[I") ∈ lw_all := lw_g (lw_at lw_m13 134 rfl) rfl
theorem q3137 : (Jvm.Cond.fieldLink "LastbusModel" (111 : Nat) "LastbusModel" "row" "[I") ∈ lw_all := lw_g (lw_at lw_m13 135 rfl) rfl
theorem q3138 : (Jvm.Cond.fieldLink "LastbusModel" (175 : Nat) "LastbusModel" "rowMany" "I") ∈ lw_all := lw_g (lw_at lw_m13 136 rfl) rfl
theorem q3139 : (Jvm.Cond.fieldLink "LastbusModel" (114 : Nat) "LastbusModel" "ends" "[I") ∈ lw_all := lw_g (lw_at lw_m13 137 rfl) rfl
theorem q3140 : (Jvm.Cond.fieldLink "LastbusModel" (117 : Nat) "LastbusModel" "begins" "[I") ∈ lw_all := lw_g (lw_at lw_m13 138 rfl) rfl
theorem q3141 : (Jvm.Cond.fieldLink "LastbusModel" (262 : Nat) "LastbusModel" "choiceRides" "I") ∈ lw_all := lw_g (lw_at lw_m13 139 rfl) rfl
theorem q3142 : (Jvm.Cond.fieldLink "LastbusModel" (265 : Nat) "LastbusModel" "choiceAt" "I") ∈ lw_all := lw_g (lw_at lw_m13 140 rfl) rfl
theorem q3143 : (Jvm.Cond.lays "LastbusModel" "LastbusModel" "thrown" "I") ∈ lw_all := lw_g (lw_at lw_m13 141 rfl) rfl
theorem q3144 : (Jvm.Cond.soleField "LastbusModel" "thrown") ∈ lw_all := lw_g (lw_at lw_m13 142 rfl) rfl
theorem q3145 : (Jvm.Cond.lays "LastbusModel" "LastbusModel" "stops" "I") ∈ lw_all := lw_g (lw_at lw_m13 143 rfl) rfl
theorem q3146 : (Jvm.Cond.soleField "LastbusModel" "stops") ∈ lw_all := lw_g (lw_at lw_m13 144 rfl) rfl
theorem q3147 : (Jvm.Cond.laysFinal "LastbusModel" "LastbusModel" "change" "[I") ∈ lw_all := lw_g (lw_at lw_m13 145 rfl) rfl
theorem q3148 : (Jvm.Cond.soleField "LastbusModel" "change") ∈ lw_all := lw_g (lw_at lw_m13 146 rfl) rfl
theorem q3149 : (Jvm.Cond.laysFinal "LastbusModel" "LastbusModel" "told" "[I") ∈ lw_all := lw_g (lw_at lw_m13 147 rfl) rfl
theorem q3150 : (Jvm.Cond.soleField "LastbusModel" "told") ∈ lw_all := lw_g (lw_at lw_m13 148 rfl) rfl
theorem q3151 : (Jvm.Cond.laysFinal "LastbusModel" "LastbusModel" "way" "[I") ∈ lw_all := lw_g (lw_at lw_m13 149 rfl) rfl
theorem q3152 : (Jvm.Cond.soleField "LastbusModel" "way") ∈ lw_all := lw_g (lw_at lw_m13 150 rfl) rfl
theorem q3153 : (Jvm.Cond.lays "LastbusModel" "LastbusModel" "cut" "I") ∈ lw_all := lw_g (lw_at lw_m13 151 rfl) rfl
theorem q3154 : (Jvm.Cond.soleField "LastbusModel" "cut") ∈ lw_all := lw_g (lw_at lw_m13 152 rfl) rfl
theorem q3155 : (Jvm.Cond.lays "LastbusModel" "LastbusModel" "services" "I") ∈ lw_all := lw_g (lw_at lw_m13 153 rfl) rfl
theorem q3156 : (Jvm.Cond.soleField "LastbusModel" "services") ∈ lw_all := lw_g (lw_at lw_m13 154 rfl) rfl
theorem q3157 : (Jvm.Cond.laysFinal "LastbusModel" "LastbusModel" "on" "[Z") ∈ lw_all := lw_g (lw_at lw_m13 155 rfl) rfl
theorem q3158 : (Jvm.Cond.soleField "LastbusModel" "on") ∈ lw_all := lw_g (lw_at lw_m13 156 rfl) rfl
theorem q3159 : (Jvm.Cond.lays "LastbusModel" "LastbusModel" "trips" "I") ∈ lw_all := lw_g (lw_at lw_m13 157 rfl) rfl
theorem q3160 : (Jvm.Cond.soleField "LastbusModel" "trips") ∈ lw_all := lw_g (lw_at lw_m13 158 rfl) rfl
theorem q3161 : (Jvm.Cond.laysFinal "LastbusModel" "LastbusModel" "serviceOf" "[I") ∈ lw_all := lw_g (lw_at lw_m13 159 rfl) rfl
theorem q3162 : (Jvm.Cond.soleField "LastbusModel" "serviceOf") ∈ lw_all := lw_g (lw_at lw_m13 160 rfl) rfl
theorem q3163 : (Jvm.Cond.laysFinal "LastbusModel" "LastbusModel" "calls" "[I") ∈ lw_all := lw_g (lw_at lw_m13 161 rfl) rfl
theorem q3164 : (Jvm.Cond.soleField "LastbusModel" "calls") ∈ lw_all := lw_g (lw_at lw_m13 162 rfl) rfl
theorem q3165 : (Jvm.Cond.laysFinal "LastbusModel" "LastbusModel" "stopOf" "[I") ∈ lw_all := lw_g (lw_at lw_m13 163 rfl) rfl
theorem q3166 : (Jvm.Cond.soleField "LastbusModel" "stopOf") ∈ lw_all := lw_g (lw_at lw_m13 164 rfl) rfl
theorem q3167 : (Jvm.Cond.laysFinal "LastbusModel" "LastbusModel" "arrival" "[I") ∈ lw_all := lw_g (lw_at lw_m13 165 rfl) rfl
theorem q3168 : (Jvm.Cond.soleField "LastbusModel" "arrival") ∈ lw_all := lw_g (lw_at lw_m13 166 rfl) rfl
theorem q3169 : (Jvm.Cond.laysFinal "LastbusModel" "LastbusModel" "departure" "[I") ∈ lw_all := lw_g (lw_at lw_m13 167 rfl) rfl
theorem q3170 : (Jvm.Cond.soleField "LastbusModel" "departure") ∈ lw_all := lw_g (lw_at lw_m13 168 rfl) rfl
theorem q3171 : (Jvm.Cond.lays "LastbusModel" "LastbusModel" "lates" "I") ∈ lw_all := lw_g (lw_at lw_m13 169 rfl) rfl
theorem q3172 : (Jvm.Cond.soleField "LastbusModel" "lates") ∈ lw_all := lw_g (lw_at lw_m13 170 rfl) rfl
theorem q3173 : (Jvm.Cond.laysFinal "LastbusModel" "LastbusModel" "lateDay" "[I") ∈ lw_all := lw_g (lw_at lw_m13 171 rfl) rfl
theorem q3174 : (Jvm.Cond.soleField "LastbusModel" "lateDay") ∈ lw_all := lw_g (lw_at lw_m13 172 rfl) rfl
theorem q3175 : (Jvm.Cond.laysFinal "LastbusModel" "LastbusModel" "lateTrip" "[I") ∈ lw_all := lw_g (lw_at lw_m13 173 rfl) rfl
theorem q3176 : (Jvm.Cond.soleField "LastbusModel" "lateTrip") ∈ lw_all := lw_g (lw_at lw_m13 174 rfl) rfl
theorem q3177 : (Jvm.Cond.laysFinal "LastbusModel" "LastbusModel" "lateCall" "[I") ∈ lw_all := lw_g (lw_at lw_m13 175 rfl) rfl
theorem q3178 : (Jvm.Cond.soleField "LastbusModel" "lateCall") ∈ lw_all := lw_g (lw_at lw_m13 176 rfl) rfl
theorem q3179 : (Jvm.Cond.laysFinal "LastbusModel" "LastbusModel" "lateBy" "[I") ∈ lw_all := lw_g (lw_at lw_m13 177 rfl) rfl
theorem q3180 : (Jvm.Cond.soleField "LastbusModel" "lateBy") ∈ lw_all := lw_g (lw_at lw_m13 178 rfl) rfl
theorem q3181 : (Jvm.Cond.lays "LastbusModel" "LastbusModel" "signs" "I") ∈ lw_all := lw_g (lw_at lw_m13 179 rfl) rfl
theorem q3182 : (Jvm.Cond.soleField "LastbusModel" "signs") ∈ lw_all := lw_g (lw_at lw_m13 180 rfl) rfl
theorem q3183 : (Jvm.Cond.laysFinal "LastbusModel" "LastbusModel" "typed" "[I") ∈ lw_all := lw_g (lw_at lw_m13 181 rfl) rfl
theorem q3184 : (Jvm.Cond.soleField "LastbusModel" "typed") ∈ lw_all := lw_g (lw_at lw_m13 182 rfl) rfl
theorem q3185 : (Jvm.Cond.lays "LastbusModel" "LastbusModel" "fault" "I") ∈ lw_all := lw_g (lw_at lw_m13 183 rfl) rfl
theorem q3186 : (Jvm.Cond.soleField "LastbusModel" "fault") ∈ lw_all := lw_g (lw_at lw_m13 184 rfl) rfl
theorem q3187 : (Jvm.Cond.lays "LastbusModel" "LastbusModel" "today" "I") ∈ lw_all := lw_g (lw_at lw_m13 185 rfl) rfl
theorem q3188 : (Jvm.Cond.soleField "LastbusModel" "today") ∈ lw_all := lw_g (lw_at lw_m13 186 rfl) rfl
theorem q3189 : (Jvm.Cond.laysFinal "LastbusModel" "LastbusModel" "free" "[I") ∈ lw_all := lw_g (lw_at lw_m13 187 rfl) rfl
theorem q3190 : (Jvm.Cond.soleField "LastbusModel" "free") ∈ lw_all := lw_g (lw_at lw_m13 188 rfl) rfl
theorem q3191 : (Jvm.Cond.laysFinal "LastbusModel" "LastbusModel" "ridden" "[I") ∈ lw_all := lw_g (lw_at lw_m13 189 rfl) rfl
theorem q3192 : (Jvm.Cond.soleField "LastbusModel" "ridden") ∈ lw_all := lw_g (lw_at lw_m13 190 rfl) rfl
theorem q3193 : (Jvm.Cond.lays "LastbusModel" "LastbusModel" "isChanged" "Z") ∈ lw_all := lw_g (lw_at lw_m13 191 rfl) rfl
theorem q3194 : (Jvm.Cond.soleField "LastbusModel" "isChanged") ∈ lw_all := lw_g (lw_at lw_m13 192 rfl) rfl
theorem q3195 : (Jvm.Cond.laysFinal "LastbusModel" "LastbusModel" "freeAt" "[I") ∈ lw_all := lw_g (lw_at lw_m13 193 rfl) rfl
theorem q3196 : (Jvm.Cond.soleField "LastbusModel" "freeAt") ∈ lw_all := lw_g (lw_at lw_m13 194 rfl) rfl
theorem q3197 : (Jvm.Cond.laysFinal "LastbusModel" "LastbusModel" "riddenAt" "[I") ∈ lw_all := lw_g (lw_at lw_m13 195 rfl) rfl
theorem q3198 : (Jvm.Cond.soleField "LastbusModel" "riddenAt") ∈ lw_all := lw_g (lw_at lw_m13 196 rfl) rfl
theorem q3199 : (Jvm.Cond.lays "LastbusModel" "LastbusModel" "rounds" "I") ∈ lw_all := lw_g (lw_at lw_m13 197 rfl) rfl
theorem q3200 : (Jvm.Cond.soleField "LastbusModel" "rounds") ∈ lw_all := lw_g (lw_at lw_m13 198 rfl) rfl
theorem q3201 : (Jvm.Cond.lays "LastbusModel" "LastbusModel" "rides" "I") ∈ lw_all := lw_g (lw_at lw_m13 199 rfl) rfl
theorem q3202 : (Jvm.Cond.soleField "LastbusModel" "rides") ∈ lw_all := lw_g (lw_at lw_m13 200 rfl) rfl
theorem q3203 : (Jvm.Cond.laysFinal "LastbusModel" "LastbusModel" "rideRun" "[I") ∈ lw_all := lw_g (lw_at lw_m13 201 rfl) rfl
theorem q3204 : (Jvm.Cond.soleField "LastbusModel" "rideRun") ∈ lw_all := lw_g (lw_at lw_m13 202 rfl) rfl
theorem q3205 : (Jvm.Cond.laysFinal "LastbusModel" "LastbusModel" "rideOn" "[I") ∈ lw_all := lw_g (lw_at lw_m13 203 rfl) rfl
theorem q3206 : (Jvm.Cond.soleField "LastbusModel" "rideOn") ∈ lw_all := lw_g (lw_at lw_m13 204 rfl) rfl
theorem q3207 : (Jvm.Cond.laysFinal "LastbusModel" "LastbusModel" "rideOff" "[I") ∈ lw_all := lw_g (lw_at lw_m13 205 rfl) rfl
theorem q3208 : (Jvm.Cond.soleField "LastbusModel" "rideOff") ∈ lw_all := lw_g (lw_at lw_m13 206 rfl) rfl
theorem q3209 : (Jvm.Cond.lays "LastbusModel" "LastbusModel" "pairMany" "I") ∈ lw_all := lw_g (lw_at lw_m13 207 rfl) rfl
theorem q3210 : (Jvm.Cond.soleField "LastbusModel" "pairMany") ∈ lw_all := lw_g (lw_at lw_m13 208 rfl) rfl
theorem q3211 : (Jvm.Cond.laysFinal "LastbusModel" "LastbusModel" "leaves" "[I") ∈ lw_all := lw_g (lw_at lw_m13 209 rfl) rfl
theorem q3212 : (Jvm.Cond.soleField "LastbusModel" "leaves") ∈ lw_all := lw_g (lw_at lw_m13 210 rfl) rfl
theorem q3213 : (Jvm.Cond.laysFinal "LastbusModel" "LastbusModel" "comes" "[I") ∈ lw_all := lw_g (lw_at lw_m13 211 rfl) rfl
theorem q3214 : (Jvm.Cond.soleField "LastbusModel" "comes") ∈ lw_all := lw_g (lw_at lw_m13 212 rfl) rfl
theorem q3215 : (Jvm.Cond.lays "LastbusModel" "LastbusModel" "wishes" "I") ∈ lw_all := lw_g (lw_at lw_m13 213 rfl) rfl
theorem q3216 : (Jvm.Cond.soleField "LastbusModel" "wishes") ∈ lw_all := lw_g (lw_at lw_m13 214 rfl) rfl
theorem q3217 : (Jvm.Cond.laysFinal "LastbusModel" "LastbusModel" "wishTrip" "[I") ∈ lw_all := lw_g (lw_at lw_m13 215 rfl) rfl
theorem q3218 : (Jvm.Cond.soleField "LastbusModel" "wishTrip") ∈ lw_all := lw_g (lw_at lw_m13 216 rfl) rfl
theorem q3219 : (Jvm.Cond.laysFinal "LastbusModel" "LastbusModel" "wishCall" "[I") ∈ lw_all := lw_g (lw_at lw_m13 217 rfl) rfl
theorem q3220 : (Jvm.Cond.soleField "LastbusModel" "wishCall") ∈ lw_all := lw_g (lw_at lw_m13 218 rfl) rfl
theorem q3221 : (Jvm.Cond.laysFinal "LastbusModel" "LastbusModel" "wishOther" "[I") ∈ lw_all := lw_g (lw_at lw_m13 219 rfl) rfl
theorem q3222 : (Jvm.Cond.soleField "LastbusModel" "wishOther") ∈ lw_all := lw_g (lw_at lw_m13 220 rfl) rfl
theorem q3223 : (Jvm.Cond.laysFinal "LastbusModel" "LastbusModel" "wishOtherCall" "[I") ∈ lw_all := lw_g (lw_at lw_m13 221 rfl) rfl
theorem q3224 : (Jvm.Cond.soleField "LastbusModel" "wishOtherCall") ∈ lw_all := lw_g (lw_at lw_m13 222 rfl) rfl
theorem q3225 : (Jvm.Cond.laysFinal "LastbusModel" "LastbusModel" "travellers" "[I") ∈ lw_all := lw_g (lw_at lw_m13 223 rfl) rfl
theorem q3226 : (Jvm.Cond.soleField "LastbusModel" "travellers") ∈ lw_all := lw_g (lw_at lw_m13 224 rfl) rfl
theorem q3227 : (Jvm.Cond.laysFinal "LastbusModel" "LastbusModel" "waits" "[I") ∈ lw_all := lw_g (lw_at lw_m13 225 rfl) rfl
theorem q3228 : (Jvm.Cond.soleField "LastbusModel" "waits") ∈ lw_all := lw_g (lw_at lw_m13 226 rfl) rfl
theorem q3229 : (Jvm.Cond.laysFinal "LastbusModel" "LastbusModel" "before" "[I") ∈ lw_all := lw_g (lw_at lw_m13 227 rfl) rfl
theorem q3230 : (Jvm.Cond.soleField "LastbusModel" "before") ∈ lw_all := lw_g (lw_at lw_m13 228 rfl) rfl
theorem q3231 : (Jvm.Cond.laysFinal "LastbusModel" "LastbusModel" "row" "[I") ∈ lw_all := lw_g (lw_at lw_m13 229 rfl) rfl
theorem q3232 : (Jvm.Cond.soleField "LastbusModel" "row") ∈ lw_all := lw_g (lw_at lw_m13 230 rfl) rfl
theorem q3233 : (Jvm.Cond.lays "LastbusModel" "LastbusModel" "rowMany" "I") ∈ lw_all := lw_g (lw_at lw_m13 231 rfl) rfl
theorem q3234 : (Jvm.Cond.soleField "LastbusModel" "rowMany") ∈ lw_all := lw_g (lw_at lw_m13 232 rfl) rfl
theorem q3235 : (Jvm.Cond.laysFinal "LastbusModel" "LastbusModel" "ends" "[I") ∈ lw_all := lw_g (lw_at lw_m13 233 rfl) rfl
theorem q3236 : (Jvm.Cond.soleField "LastbusModel" "ends") ∈ lw_all := lw_g (lw_at lw_m13 234 rfl) rfl
theorem q3237 : (Jvm.Cond.laysFinal "LastbusModel" "LastbusModel" "begins" "[I") ∈ lw_all := lw_g (lw_at lw_m13 235 rfl) rfl
theorem q3238 : (Jvm.Cond.soleField "LastbusModel" "begins") ∈ lw_all := lw_g (lw_at lw_m13 236 rfl) rfl
theorem q3239 : (Jvm.Cond.lays "LastbusModel" "LastbusModel" "choiceRides" "I") ∈ lw_all := lw_g (lw_at lw_m13 237 rfl) rfl
theorem q3240 : (Jvm.Cond.soleField "LastbusModel" "choiceRides") ∈ lw_all := lw_g (lw_at lw_m13 238 rfl) rfl
theorem q3241 : (Jvm.Cond.lays "LastbusModel" "LastbusModel" "choiceAt" "I") ∈ lw_all := lw_g (lw_at lw_m13 239 rfl) rfl
theorem q3242 : (Jvm.Cond.soleField "LastbusModel" "choiceAt") ∈ lw_all := lw_g (lw_at lw_m14 0 rfl) rfl
theorem q3243 : (Jvm.Cond.superclass "LastbusModel" "java/lang/Object") ∈ lw_all := lw_g (lw_at lw_m14 1 rfl) rfl
theorem q3246 : (Jvm.Cond.instanceMethod ({ cls := "LastbusModel", name := "thrown", desc := "()I" } : Jvm.MethodName)) ∈ lw_all := lw_g (lw_at lw_m14 4 rfl) rfl
theorem q3247 : (Jvm.Cond.selects "LastbusModel" ({ cls := "LastbusModel", name := "thrown", desc := "()I" } : Jvm.MethodName) ({ cls := "LastbusModel", name := "thrown", desc := "()I" } : Jvm.MethodName)) ∈ lw_all := lw_g (lw_at lw_m14 5 rfl) rfl
theorem q3248 : (Jvm.Cond.code ({ cls := "LastbusModel", name := "thrown", desc := "()I" } : Jvm.MethodName) prog_15_method_2_code (1 : Nat) (Option.some Jvm.ClassFile.FieldType.int)) ∈ lw_all := lw_g (lw_at lw_m14 6 rfl) rfl
theorem q3250 : (Jvm.Cond.instanceMethod ({ cls := "LastbusModel", name := "stop", desc := "(I)I" } : Jvm.MethodName)) ∈ lw_all := lw_g (lw_at lw_m14 8 rfl) rfl
theorem q3251 : (Jvm.Cond.selects "LastbusModel" ({ cls := "LastbusModel", name := "stop", desc := "(I)I" } : Jvm.MethodName) ({ cls := "LastbusModel", name := "stop", desc := "(I)I" } : Jvm.MethodName)) ∈ lw_all := lw_g (lw_at lw_m14 9 rfl) rfl
theorem q3252 : (Jvm.Cond.code ({ cls := "LastbusModel", name := "stop", desc := "(I)I" } : Jvm.MethodName) prog_15_method_10_code (2 : Nat) (Option.some Jvm.ClassFile.FieldType.int)) ∈ lw_all := lw_g (lw_at lw_m14 10 rfl) rfl
theorem q3253 : (Jvm.Cond.methodLink "LastbusModel" (126 : Nat) ({ cls := "LastbusModel", name := "isIn", desc := "(III)Z" } : Jvm.MethodName)) ∈ lw_all := lw_g (lw_at lw_m14 11 rfl) rfl
theorem q3254 : (Jvm.Cond.static ({ cls := "LastbusModel", name := "isIn", desc := "(III)Z" } : Jvm.MethodName)) ∈ lw_all := lw_g (lw_at lw_m14 12 rfl) rfl
theorem q3255 : (Jvm.Cond.code ({ cls := "LastbusModel", name := "isIn", desc := "(III)Z" } : Jvm.MethodName) prog_15_method_4_code (3 : Nat) (Option.some Jvm.ClassFile.FieldType.boolean)) ∈ lw_all := lw_g (lw_at lw_m14 13 rfl) rfl
theorem q3256 : (Jvm.Cond.methodLink "LastbusModel" (130 : Nat) ({ cls := "LastbusModel", name := "isThrown", desc := "(ZI)Z" } : Jvm.MethodName)) ∈ lw_all := lw_g (lw_at lw_m14 14 rfl) rfl
theorem q3257 : (Jvm.Cond.privateMethod ({ cls := "LastbusModel", name := "isThrown", desc := "(ZI)Z" } : Jvm.MethodName)) ∈ lw_tbl := lw_at lw_m14 15 rfl
theorem q3258 : (Jvm.Cond.instanceMethod ({ cls := "LastbusModel", name := "isThrown", desc := "(ZI)Z" } : Jvm.MethodName)) ∈ lw_all := lw_g (lw_at lw_m14 16 rfl) rfl
theorem q3259 : (Jvm.Cond.code ({ cls := "LastbusModel", name := "isThrown", desc := "(ZI)Z" } : Jvm.MethodName) prog_15_method_3_code (3 : Nat) (Option.some Jvm.ClassFile.FieldType.boolean)) ∈ lw_all := lw_g (lw_at lw_m14 17 rfl) rfl
theorem q3260 : (Jvm.Cond.methodLink "LastbusModel" (144 : Nat) ({ cls := "LastbusModel", name := "walks", desc := "()V" } : Jvm.MethodName)) ∈ lw_all := lw_g (lw_at lw_m14 18 rfl) rfl
theorem q3261 : (Jvm.Cond.privateMethod ({ cls := "LastbusModel", name := "walks", desc := "()V" } : Jvm.MethodName)) ∈ lw_tbl := lw_at lw_m14 19 rfl
theorem q3262 : (Jvm.Cond.instanceMethod ({ cls := "LastbusModel", name := "walks", desc := "()V" } : Jvm.MethodName)) ∈ lw_all := lw_g (lw_at lw_m14 20 rfl) rfl
theorem q3263 : (Jvm.Cond.code ({ cls := "LastbusModel", name := "walks", desc := "()V" } : Jvm.MethodName) prog_15_method_13_code (5 : Nat) (Option.none : Option Jvm.ClassFile.FieldType)) ∈ lw_all := lw_g (lw_at lw_m14 21 rfl) rfl
theorem q3264 : (Jvm.Cond.constant "LastbusModel" (150 : Nat) (1000000 : Int32)) ∈ lw_all := lw_g (lw_at lw_m14 22 rfl) rfl
theorem q3266 : (Jvm.Cond.instanceMethod ({ cls := "LastbusModel", name := "setChange", desc := "(II)I" } : Jvm.MethodName)) ∈ lw_all := lw_g (lw_at lw_m14 24 rfl) rfl
theorem q3267 : (Jvm.Cond.selects "LastbusModel" ({ cls := "LastbusModel", name := "setChange", desc := "(II)I" } : Jvm.MethodName) ({ cls := "LastbusModel", name := "setChange", desc := "(II)I" } : Jvm.MethodName)) ∈ lw_all := lw_g (lw_at lw_m14 25 rfl) rfl
theorem q3268 : (Jvm.Cond.code ({ cls := "LastbusModel", name := "setChange", desc := "(II)I" } : Jvm.MethodName) prog_15_method_11_code (4 : Nat) (Option.some Jvm.ClassFile.FieldType.int)) ∈ lw_all := lw_g (lw_at lw_m14 26 rfl) rfl
theorem q3269 : (Jvm.Cond.methodLink "LastbusModel" (147 : Nat) ({ cls := "LastbusModel", name := "isNoStop", desc := "(I)Z" } : Jvm.MethodName)) ∈ lw_all := lw_g (lw_at lw_m14 27 rfl) rfl
theorem q3270 : (Jvm.Cond.privateMethod ({ cls := "LastbusModel", name := "isNoStop", desc := "(I)Z" } : Jvm.MethodName)) ∈ lw_tbl := lw_at lw_m14 28 rfl
theorem q3271 : (Jvm.Cond.instanceMethod ({ cls := "LastbusModel", name := "isNoStop", desc := "(I)Z" } : Jvm.MethodName)) ∈ lw_all := lw_g (lw_at lw_m14 29 rfl) rfl
theorem q3272 : (Jvm.Cond.code ({ cls := "LastbusModel", name := "isNoStop", desc := "(I)Z" } : Jvm.MethodName) prog_15_method_5_code (2 : Nat) (Option.some Jvm.ClassFile.FieldType.boolean)) ∈ lw_all := lw_g (lw_at lw_m14 30 rfl) rfl
theorem q3274 : (Jvm.Cond.instanceMethod ({ cls := "LastbusModel", name := "walk", desc := "(III)I" } : Jvm.MethodName)) ∈ lw_all := lw_g (lw_at lw_m14 32 rfl) rfl
theorem q3275 : (Jvm.Cond.selects "LastbusModel" ({ cls := "LastbusModel", name := "walk", desc := "(III)I" } : Jvm.MethodName) ({ cls := "LastbusModel", name := "walk", desc := "(III)I" } : Jvm.MethodName)) ∈ lw_all := lw_g (lw_at lw_m14 33 rfl) rfl
theorem q3276 : (Jvm.Cond.code ({ cls := "LastbusModel", name := "walk", desc := "(III)I" } : Jvm.MethodName) prog_15_method_12_code (5 : Nat) (Option.some Jvm.ClassFile.FieldType.int)) ∈ lw_all := lw_g (lw_at lw_m14 34 rfl) rfl
theorem q3278 : (Jvm.Cond.instanceMethod ({ cls := "LastbusModel", name := "walkTime", desc := "(II)I" } : Jvm.MethodName)) ∈ lw_all := lw_g (lw_at lw_m14 36 rfl) rfl
theorem q3279 : (Jvm.Cond.selects "LastbusModel" ({ cls := "LastbusModel", name := "walkTime", desc := "(II)I" } : Jvm.MethodName) ({ cls := "LastbusModel", name := "walkTime", desc := "(II)I" } : Jvm.MethodName)) ∈ lw_all := lw_g (lw_at lw_m14 37 rfl) rfl
theorem q3280 : (Jvm.Cond.code ({ cls := "LastbusModel", name := "walkTime", desc := "(II)I" } : Jvm.MethodName) prog_15_method_14_code (3 : Nat) (Option.some Jvm.ClassFile.FieldType.int)) ∈ lw_all := lw_g (lw_at lw_m14 38 rfl) rfl
theorem q3282 : (Jvm.Cond.instanceMethod ({ cls := "LastbusModel", name := "service", desc := "()I" } : Jvm.MethodName)) ∈ lw_all := lw_g (lw_at lw_m14 40 rfl) rfl
theorem q3283 : (Jvm.Cond.selects "LastbusModel" ({ cls := "LastbusModel", name := "service", desc := "()I" } : Jvm.MethodName) ({ cls := "LastbusModel", name := "service", desc := "()I" } : Jvm.MethodName)) ∈ lw_all := lw_g (lw_at lw_m14 41 rfl) rfl
theorem q3284 : (Jvm.Cond.code ({ cls := "LastbusModel", name := "service", desc := "()I" } : Jvm.MethodName) prog_15_method_15_code (1 : Nat) (Option.some Jvm.ClassFile.FieldType.int)) ∈ lw_all := lw_g (lw_at lw_m14 42 rfl) rfl
theorem q3286 : (Jvm.Cond.instanceMethod ({ cls := "LastbusModel", name := "week", desc := "(IIII)I" } : Jvm.MethodName)) ∈ lw_all := lw_g (lw_at lw_m14 44 rfl) rfl
theorem q3287 : (Jvm.Cond.selects "LastbusModel" ({ cls := "LastbusModel", name := "week", desc := "(IIII)I" } : Jvm.MethodName) ({ cls := "LastbusModel", name := "week", desc := "(IIII)I" } : Jvm.MethodName)) ∈ lw_all := lw_g (lw_at lw_m14 45 rfl) rfl
theorem q3288 : (Jvm.Cond.code ({ cls := "LastbusModel", name := "week", desc := "(IIII)I" } : Jvm.MethodName) prog_15_method_16_code (7 : Nat) (Option.some Jvm.ClassFile.FieldType.int)) ∈ lw_all := lw_g (lw_at lw_m14 46 rfl) rfl
theorem q3289 : (Jvm.Cond.methodLink "LastbusModel" (151 : Nat) ({ cls := "LastbusModel", name := "isNoService", desc := "(I)Z" } : Jvm.MethodName)) ∈ lw_all := lw_g (lw_at lw_m14 47 rfl) rfl
theorem q3290 : (Jvm.Cond.privateMethod ({ cls := "LastbusModel", name := "isNoService", desc := "(I)Z" } : Jvm.MethodName)) ∈ lw_tbl := lw_at lw_m14 48 rfl
theorem q3291 : (Jvm.Cond.instanceMethod ({ cls := "LastbusModel", name := "isNoService", desc := "(I)Z" } : Jvm.MethodName)) ∈ lw_all := lw_g (lw_at lw_m14 49 rfl) rfl
theorem q3292 : (Jvm.Cond.code ({ cls := "LastbusModel", name := "isNoService", desc := "(I)Z" } : Jvm.MethodName) prog_15_method_7_code (2 : Nat) (Option.some Jvm.ClassFile.FieldType.boolean)) ∈ lw_all := lw_g (lw_at lw_m14 50 rfl) rfl
theorem q3294 : (Jvm.Cond.instanceMethod ({ cls := "LastbusModel", name := "putDay", desc := "(IIZ)Z" } : Jvm.MethodName)) ∈ lw_all := lw_g (lw_at lw_m14 52 rfl) rfl
theorem q3295 : (Jvm.Cond.selects "LastbusModel" ({ cls := "LastbusModel", name := "putDay", desc := "(IIZ)Z" } : Jvm.MethodName) ({ cls := "LastbusModel", name := "putDay", desc := "(IIZ)Z" } : Jvm.MethodName)) ∈ lw_all := lw_g (lw_at lw_m14 53 rfl) rfl
theorem q3296 : (Jvm.Cond.code ({ cls := "LastbusModel", name := "putDay", desc := "(IIZ)Z" } : Jvm.MethodName) prog_15_method_17_code (5 : Nat) (Option.some Jvm.ClassFile.FieldType.boolean)) ∈ lw_all := lw_g (lw_at lw_m14 54 rfl) rfl
theorem q3297 : (Jvm.Cond.methodLink "LastbusModel" (154 : Nat) ({ cls := "LastbusModel", name := "isNoDay", desc := "(II)Z" } : Jvm.MethodName)) ∈ lw_all := lw_g (lw_at lw_m14 55 rfl) rfl
theorem q3298 : (Jvm.Cond.privateMethod ({ cls := "LastbusModel", name := "isNoDay", desc := "(II)Z" } : Jvm.MethodName)) ∈ lw_tbl := lw_at lw_m14 56 rfl
theorem q3299 : (Jvm.Cond.instanceMethod ({ cls := "LastbusModel", name := "isNoDay", desc := "(II)Z" } : Jvm.MethodName)) ∈ lw_all := lw_g (lw_at lw_m14 57 rfl) rfl
theorem q3300 : (Jvm.Cond.code ({ cls := "LastbusModel", name := "isNoDay", desc := "(II)Z" } : Jvm.MethodName) prog_15_method_6_code (3 : Nat) (Option.some Jvm.ClassFile.FieldType.boolean)) ∈ lw_all := lw_g (lw_at lw_m14 58 rfl) rfl
theorem q3302 : (Jvm.Cond.instanceMethod ({ cls := "LastbusModel", name := "runsOn", desc := "(II)Z" } : Jvm.MethodName)) ∈ lw_all := lw_g (lw_at lw_m14 60 rfl) rfl
theorem q3303 : (Jvm.Cond.selects "LastbusModel" ({ cls := "LastbusModel", name := "runsOn", desc := "(II)Z" } : Jvm.MethodName) ({ cls := "LastbusModel", name := "runsOn", desc := "(II)Z" } : Jvm.MethodName)) ∈ lw_all := lw_g (lw_at lw_m14 61 rfl) rfl
theorem q3304 : (Jvm.Cond.code ({ cls := "LastbusModel", name := "runsOn", desc := "(II)Z" } : Jvm.MethodName) prog_15_method_18_code (3 : Nat) (Option.some Jvm.ClassFile.FieldType.boolean)) ∈ lw_all := lw_g (lw_at lw_m14 62 rfl) rfl
theorem q3306 : (Jvm.Cond.instanceMethod ({ cls := "LastbusModel", name := "nextDay", desc := "(II)I" } : Jvm.MethodName)) ∈ lw_all := lw_g (lw_at lw_m14 64 rfl) rfl
theorem q3307 : (Jvm.Cond.selects "LastbusModel" ({ cls := "LastbusModel", name := "nextDay", desc := "(II)I" } : Jvm.MethodName) ({ cls := "LastbusModel", name := "nextDay", desc := "(II)I" } : Jvm.MethodName)) ∈ lw_all := lw_g (lw_at lw_m14 65 rfl) rfl
theorem q3308 : (Jvm.Cond.code ({ cls := "LastbusModel", name := "nextDay", desc := "(II)I" } : Jvm.MethodName) prog_15_method_19_code (4 : Nat) (Option.some Jvm.ClassFile.FieldType.int)) ∈ lw_all := lw_g (lw_at lw_m14 66 rfl) rfl
theorem q3310 : (Jvm.Cond.instanceMethod ({ cls := "LastbusModel", name := "trip", desc := "(III)I" } : Jvm.MethodName)) ∈ lw_all := lw_g (lw_at lw_m14 68 rfl) rfl
theorem q3311 : (Jvm.Cond.selects "LastbusModel" ({ cls := "LastbusModel", name := "trip", desc := "(III)I" } : Jvm.MethodName) ({ cls := "LastbusModel", name := "trip", desc := "(III)I" } : Jvm.MethodName)) ∈ lw_all := lw_g (lw_at lw_m14 69 rfl) rfl
theorem q3312 : (Jvm.Cond.code ({ cls := "LastbusModel", name := "trip", desc := "(III)I" } : Jvm.MethodName) prog_15_method_20_code (4 : Nat) (Option.some Jvm.ClassFile.FieldType.int)) ∈ lw_all := lw_g (lw_at lw_m14 70 rfl) rfl
theorem q3313 : (Jvm.Cond.methodLink "LastbusModel" (158 : Nat) ({ cls := "LastbusModel", name := "added", desc := "(III)I" } : Jvm.MethodName)) ∈ lw_all := lw_g (lw_at lw_m14 71 rfl) rfl
theorem q3314 : (Jvm.Cond.privateMethod ({ cls := "LastbusModel", name := "added", desc := "(III)I" } : Jvm.MethodName)) ∈ lw_tbl := lw_at lw_m14 72 rfl
theorem q3315 : (Jvm.Cond.instanceMethod ({ cls := "LastbusModel", name := "added", desc := "(III)I" } : Jvm.MethodName)) ∈ lw_all := lw_g (lw_at lw_m14 73 rfl) rfl
theorem q3316 : (Jvm.Cond.code ({ cls := "LastbusModel", name := "added", desc := "(III)I" } : Jvm.MethodName) prog_15_method_21_code (4 : Nat) (Option.some Jvm.ClassFile.FieldType.int)) ∈ lw_all := lw_g (lw_at lw_m14 74 rfl) rfl
theorem q3318 : (Jvm.Cond.instanceMethod ({ cls := "LastbusModel", name := "call", desc := "(IIII)I" } : Jvm.MethodName)) ∈ lw_all := lw_g (lw_at lw_m14 76 rfl) rfl
theorem q3319 : (Jvm.Cond.selects "LastbusModel" ({ cls := "LastbusModel", name := "call", desc := "(IIII)I" } : Jvm.MethodName) ({ cls := "LastbusModel", name := "call", desc := "(IIII)I" } : Jvm.MethodName)) ∈ lw_all := lw_g (lw_at lw_m14 77 rfl) rfl
theorem q3320 : (Jvm.Cond.code ({ cls := "LastbusModel", name := "call", desc := "(IIII)I" } : Jvm.MethodName) prog_15_method_22_code (7 : Nat) (Option.some Jvm.ClassFile.FieldType.int)) ∈ lw_all := lw_g (lw_at lw_m14 78 rfl) rfl
theorem q3321 : (Jvm.Cond.methodLink "LastbusModel" (140 : Nat) ({ cls := "LastbusModel", name := "isNoTrip", desc := "(I)Z" } : Jvm.MethodName)) ∈ lw_all := lw_g (lw_at lw_m14 79 rfl) rfl
theorem q3322 : (Jvm.Cond.privateMethod ({ cls := "LastbusModel", name := "isNoTrip", desc := "(I)Z" } : Jvm.MethodName)) ∈ lw_tbl := lw_at lw_m14 80 rfl
theorem q3323 : (Jvm.Cond.instanceMethod ({ cls := "LastbusModel", name := "isNoTrip", desc := "(I)Z" } : Jvm.MethodName)) ∈ lw_all := lw_g (lw_at lw_m14 81 rfl) rfl
theorem q3324 : (Jvm.Cond.code ({ cls := "LastbusModel", name := "isNoTrip", desc := "(I)Z" } : Jvm.MethodName) prog_15_method_8_code (2 : Nat) (Option.some Jvm.ClassFile.FieldType.boolean)) ∈ lw_all := lw_g (lw_at lw_m14 82 rfl) rfl
theorem q3326 : (Jvm.Cond.instanceMethod ({ cls := "LastbusModel", name := "trips", desc := "()I" } : Jvm.MethodName)) ∈ lw_all := lw_g (lw_at lw_m14 84 rfl) rfl
theorem q3327 : (Jvm.Cond.selects "LastbusModel" ({ cls := "LastbusModel", name := "trips", desc := "()I" } : Jvm.MethodName) ({ cls := "LastbusModel", name := "trips", desc := "()I" } : Jvm.MethodName)) ∈ lw_all := lw_g (lw_at lw_m14 85 rfl) rfl
theorem q3328 : (Jvm.Cond.code ({ cls := "LastbusModel", name := "trips", desc := "()I" } : Jvm.MethodName) prog_15_method_23_code (1 : Nat) (Option.some Jvm.ClassFile.FieldType.int)) ∈ lw_all := lw_g (lw_at lw_m14 86 rfl) rfl
theorem q3330 : (Jvm.Cond.instanceMethod ({ cls := "LastbusModel", name := "calls", desc := "(I)I" } : Jvm.MethodName)) ∈ lw_all := lw_g (lw_at lw_m14 88 rfl) rfl
theorem q3331 : (Jvm.Cond.selects "LastbusModel" ({ cls := "LastbusModel", name := "calls", desc := "(I)I" } : Jvm.MethodName) ({ cls := "LastbusModel", name := "calls", desc := "(I)I" } : Jvm.MethodName)) ∈ lw_all := lw_g (lw_at lw_m14 89 rfl) rfl
theorem q3332 : (Jvm.Cond.code ({ cls := "LastbusModel", name := "calls", desc := "(I)I" } : Jvm.MethodName) prog_15_method_24_code (2 : Nat) (Option.some Jvm.ClassFile.FieldType.int)) ∈ lw_all := lw_g (lw_at lw_m14 90 rfl) rfl
theorem q3334 : (Jvm.Cond.instanceMethod ({ cls := "LastbusModel", name := "stopAt", desc := "(II)I" } : Jvm.MethodName)) ∈ lw_all := lw_g (lw_at lw_m14 92 rfl) rfl
theorem q3335 : (Jvm.Cond.selects "LastbusModel" ({ cls := "LastbusModel", name := "stopAt", desc := "(II)I" } : Jvm.MethodName) ({ cls := "LastbusModel", name := "stopAt", desc := "(II)I" } : Jvm.MethodName)) ∈ lw_all := lw_g (lw_at lw_m14 93 rfl) rfl
theorem q3336 : (Jvm.Cond.code ({ cls := "LastbusModel", name := "stopAt", desc := "(II)I" } : Jvm.MethodName) prog_15_method_25_code (3 : Nat) (Option.some Jvm.ClassFile.FieldType.int)) ∈ lw_all := lw_g (lw_at lw_m14 94 rfl) rfl
theorem q3337 : (Jvm.Cond.methodLink "LastbusModel" (162 : Nat) ({ cls := "LastbusModel", name := "isNoCall", desc := "(II)Z" } : Jvm.MethodName)) ∈ lw_all := lw_g (lw_at lw_m14 95 rfl) rfl
theorem q3338 : (Jvm.Cond.privateMethod ({ cls := "LastbusModel", name := "isNoCall", desc := "(II)Z" } : Jvm.MethodName)) ∈ lw_tbl := lw_at lw_m14 96 rfl
theorem q3339 : (Jvm.Cond.instanceMethod ({ cls := "LastbusModel", name := "isNoCall", desc := "(II)Z" } : Jvm.MethodName)) ∈ lw_all := lw_g (lw_at lw_m14 97 rfl) rfl
theorem q3340 : (Jvm.Cond.code ({ cls := "LastbusModel", name := "isNoCall", desc := "(II)Z" } : Jvm.MethodName) prog_15_method_9_code (3 : Nat) (Option.some Jvm.ClassFile.FieldType.boolean)) ∈ lw_all := lw_g (lw_at lw_m14 98 rfl) rfl
theorem q3342 : (Jvm.Cond.instanceMethod ({ cls := "LastbusModel", name := "timeAt", desc := "(IIZ)I" } : Jvm.MethodName)) ∈ lw_all := lw_g (lw_at lw_m14 100 rfl) rfl
theorem q3343 : (Jvm.Cond.selects "LastbusModel" ({ cls := "LastbusModel", name := "timeAt", desc := "(IIZ)I" } : Jvm.MethodName) ({ cls := "LastbusModel", name := "timeAt", desc := "(IIZ)I" } : Jvm.MethodName)) ∈ lw_all := lw_g (lw_at lw_m14 101 rfl) rfl
theorem q3344 : (Jvm.Cond.code ({ cls := "LastbusModel", name := "timeAt", desc := "(IIZ)I" } : Jvm.MethodName) prog_15_method_26_code (4 : Nat) (Option.some Jvm.ClassFile.FieldType.int)) ∈ lw_all := lw_g (lw_at lw_m14 102 rfl) rfl
theorem q3346 : (Jvm.Cond.instanceMethod ({ cls := "LastbusModel", name := "shift", desc := "(II)I" } : Jvm.MethodName)) ∈ lw_all := lw_g (lw_at lw_m14 104 rfl) rfl
theorem q3347 : (Jvm.Cond.selects "LastbusModel" ({ cls := "LastbusModel", name := "shift", desc := "(II)I" } : Jvm.MethodName) ({ cls := "LastbusModel", name := "shift", desc := "(II)I" } : Jvm.MethodName)) ∈ lw_all := lw_g (lw_at lw_m14 105 rfl) rfl
theorem q3348 : (Jvm.Cond.code ({ cls := "LastbusModel", name := "shift", desc := "(II)I" } : Jvm.MethodName) prog_15_method_29_code (3 : Nat) (Option.some Jvm.ClassFile.FieldType.int)) ∈ lw_all := lw_g (lw_at lw_m14 106 rfl) rfl
theorem q3349 : (Jvm.Cond.methodLink "LastbusModel" (165 : Nat) ({ cls := "LastbusModel", name := "isShiftWrong", desc := "(II)Z" } : Jvm.MethodName)) ∈ lw_all := lw_g (lw_at lw_m14 107 rfl) rfl
theorem q3350 : (Jvm.Cond.privateMethod ({ cls := "LastbusModel", name := "isShiftWrong", desc := "(II)Z" } : Jvm.MethodName)) ∈ lw_tbl := lw_at lw_m14 108 rfl
theorem q3351 : (Jvm.Cond.instanceMethod ({ cls := "LastbusModel", name := "isShiftWrong", desc := "(II)Z" } : Jvm.MethodName)) ∈ lw_all := lw_g (lw_at lw_m14 109 rfl) rfl
theorem q3352 : (Jvm.Cond.code ({ cls := "LastbusModel", name := "isShiftWrong", desc := "(II)Z" } : Jvm.MethodName) prog_15_method_27_code (5 : Nat) (Option.some Jvm.ClassFile.FieldType.boolean)) ∈ lw_all := lw_g (lw_at lw_m14 110 rfl) rfl
theorem q3353 : (Jvm.Cond.methodLink "LastbusModel" (168 : Nat) ({ cls := "LastbusModel", name := "move", desc := "(II)V" } : Jvm.MethodName)) ∈ lw_all := lw_g (lw_at lw_m14 111 rfl) rfl
theorem q3354 : (Jvm.Cond.privateMethod ({ cls := "LastbusModel", name := "move", desc := "(II)V" } : Jvm.MethodName)) ∈ lw_tbl := lw_at lw_m14 112 rfl
theorem q3355 : (Jvm.Cond.instanceMethod ({ cls := "LastbusModel", name := "move", desc := "(II)V" } : Jvm.MethodName)) ∈ lw_all := lw_g (lw_at lw_m14 113 rfl) rfl
theorem q3356 : (Jvm.Cond.code ({ cls := "LastbusModel", name := "move", desc := "(II)V" } : Jvm.MethodName) prog_15_method_28_code (4 : Nat) (Option.none : Option Jvm.ClassFile.FieldType)) ∈ lw_all := lw_g (lw_at lw_m14 114 rfl) rfl
theorem q3358 : (Jvm.Cond.instanceMethod ({ cls := "LastbusModel", name := "type", desc := "(C)I" } : Jvm.MethodName)) ∈ lw_all := lw_g (lw_at lw_m14 116 rfl) rfl
theorem q3359 : (Jvm.Cond.selects "LastbusModel" ({ cls := "LastbusModel", name := "type", desc := "(C)I" } : Jvm.MethodName) ({ cls := "LastbusModel", name := "type", desc := "(C)I" } : Jvm.MethodName)) ∈ lw_all := lw_g (lw_at lw_m14 117 rfl) rfl
theorem q3360 : (Jvm.Cond.code ({ cls := "LastbusModel", name := "type", desc := "(C)I" } : Jvm.MethodName) prog_15_method_30_code (2 : Nat) (Option.some Jvm.ClassFile.FieldType.int)) ∈ lw_all := lw_g (lw_at lw_m14 118 rfl) rfl
theorem q3362 : (Jvm.Cond.instanceMethod ({ cls := "LastbusModel", name := "typeNumber", desc := "(I)I" } : Jvm.MethodName)) ∈ lw_all := lw_g (lw_at lw_m14 120 rfl) rfl
theorem q3363 : (Jvm.Cond.selects "LastbusModel" ({ cls := "LastbusModel", name := "typeNumber", desc := "(I)I" } : Jvm.MethodName) ({ cls := "LastbusModel", name := "typeNumber", desc := "(I)I" } : Jvm.MethodName)) ∈ lw_all := lw_g (lw_at lw_m14 121 rfl) rfl
theorem q3364 : (Jvm.Cond.code ({ cls := "LastbusModel", name := "typeNumber", desc := "(I)I" } : Jvm.MethodName) prog_15_method_31_code (5 : Nat) (Option.some Jvm.ClassFile.FieldType.int)) ∈ lw_all := lw_g (lw_at lw_m14 122 rfl) rfl
theorem q3366 : (Jvm.Cond.instanceMethod ({ cls := "LastbusModel", name := "erase", desc := "()I" } : Jvm.MethodName)) ∈ lw_all := lw_g (lw_at lw_m14 124 rfl) rfl
theorem q3367 : (Jvm.Cond.selects "LastbusModel" ({ cls := "LastbusModel", name := "erase", desc := "()I" } : Jvm.MethodName) ({ cls := "LastbusModel", name := "erase", desc := "()I" } : Jvm.MethodName)) ∈ lw_all := lw_g (lw_at lw_m14 125 rfl) rfl
theorem q3368 : (Jvm.Cond.code ({ cls := "LastbusModel", name := "erase", desc := "()I" } : Jvm.MethodName) prog_15_method_32_code (2 : Nat) (Option.some Jvm.ClassFile.FieldType.int)) ∈ lw_all := lw_g (lw_at lw_m14 126 rfl) rfl
theorem q3370 : (Jvm.Cond.instanceMethod ({ cls := "LastbusModel", name := "readRow", desc := "()I" } : Jvm.MethodName)) ∈ lw_all := lw_g (lw_at lw_m14 128 rfl) rfl
theorem q3371 : (Jvm.Cond.selects "LastbusModel" ({ cls := "LastbusModel", name := "readRow", desc := "()I" } : Jvm.MethodName) ({ cls := "LastbusModel", name := "readRow", desc := "()I" } : Jvm.MethodName)) ∈ lw_all := lw_g (lw_at lw_m14 129 rfl) rfl
theorem q3372 : (Jvm.Cond.code ({ cls := "LastbusModel", name := "readRow", desc := "()I" } : Jvm.MethodName) prog_15_method_36_code (5 : Nat) (Option.some Jvm.ClassFile.FieldType.int)) ∈ lw_all := lw_g (lw_at lw_m14 130 rfl) rfl
theorem q3373 : (Jvm.Cond.methodLink "LastbusModel" (180 : Nat) ({ cls := "LastbusModel", name := "read", desc := "()I" } : Jvm.MethodName)) ∈ lw_all := lw_g (lw_at lw_m14 131 rfl) rfl
theorem q3374 : (Jvm.Cond.privateMethod ({ cls := "LastbusModel", name := "read", desc := "()I" } : Jvm.MethodName)) ∈ lw_tbl := lw_at lw_m14 132 rfl
theorem q3375 : (Jvm.Cond.instanceMethod ({ cls := "LastbusModel", name := "read", desc := "()I" } : Jvm.MethodName)) ∈ lw_all := lw_g (lw_at lw_m14 133 rfl) rfl
theorem q3376 : (Jvm.Cond.code ({ cls := "LastbusModel", name := "read", desc := "()I" } : Jvm.MethodName) prog_15_method_33_code (7 : Nat) (Option.some Jvm.ClassFile.FieldType.int)) ∈ lw_all := lw_g (lw_at lw_m14 134 rfl) rfl
theorem q3377 : (Jvm.Cond.methodLink "LastbusModel" (178 : Nat) ({ cls := "LastbusModel", name := "told", desc := "(II)V" } : Jvm.MethodName)) ∈ lw_all := lw_g (lw_at lw_m14 135 rfl) rfl
theorem q3378 : (Jvm.Cond.privateMethod ({ cls := "LastbusModel", name := "told", desc := "(II)V" } : Jvm.MethodName)) ∈ lw_tbl := lw_at lw_m14 136 rfl
theorem q3379 : (Jvm.Cond.instanceMethod ({ cls := "LastbusModel", name := "told", desc := "(II)V" } : Jvm.MethodName)) ∈ lw_all := lw_g (lw_at lw_m14 137 rfl) rfl
theorem q3380 : (Jvm.Cond.code ({ cls := "LastbusModel", name := "told", desc := "(II)V" } : Jvm.MethodName) prog_15_method_34_code (3 : Nat) (Option.none : Option Jvm.ClassFile.FieldType)) ∈ lw_all := lw_g (lw_at lw_m14 138 rfl) rfl
theorem q3381 : (Jvm.Cond.methodLink "LastbusModel" (184 : Nat) ({ cls := "LastbusModel", name := "isRowWrong", desc := "()Z" } : Jvm.MethodName)) ∈ lw_all := lw_g (lw_at lw_m14 139 rfl) rfl
theorem q3382 : (Jvm.Cond.privateMethod ({ cls := "LastbusModel", name := "isRowWrong", desc := "()Z" } : Jvm.MethodName)) ∈ lw_tbl := lw_at lw_m14 140 rfl
theorem q3383 : (Jvm.Cond.instanceMethod ({ cls := "LastbusModel", name := "isRowWrong", desc := "()Z" } : Jvm.MethodName)) ∈ lw_all := lw_g (lw_at lw_m14 141 rfl) rfl
theorem q3384 : (Jvm.Cond.code ({ cls := "LastbusModel", name := "isRowWrong", desc := "()Z" } : Jvm.MethodName) prog_15_method_35_code (5 : Nat) (Option.some Jvm.ClassFile.FieldType.boolean)) ∈ lw_all := lw_g (lw_at lw_m14 142 rfl) rfl
theorem q3386 : (Jvm.Cond.instanceMethod ({ cls := "LastbusModel", name := "faultAt", desc := "()I" } : Jvm.MethodName)) ∈ lw_all := lw_g (lw_at lw_m14 144 rfl) rfl
theorem q3387 : (Jvm.Cond.selects "LastbusModel" ({ cls := "LastbusModel", name := "faultAt", desc := "()I" } : Jvm.MethodName) ({ cls := "LastbusModel", name := "faultAt", desc := "()I" } : Jvm.MethodName)) ∈ lw_all := lw_g (lw_at lw_m14 145 rfl) rfl
theorem q3388 : (Jvm.Cond.code ({ cls := "LastbusModel", name := "faultAt", desc := "()I" } : Jvm.MethodName) prog_15_method_37_code (1 : Nat) (Option.some Jvm.ClassFile.FieldType.int)) ∈ lw_all := lw_g (lw_at lw_m14 146 rfl) rfl
theorem q3390 : (Jvm.Cond.instanceMethod ({ cls := "LastbusModel", name := "late", desc := "(IIII)I" } : Jvm.MethodName)) ∈ lw_all := lw_g (lw_at lw_m14 148 rfl) rfl
theorem q3391 : (Jvm.Cond.selects "LastbusModel" ({ cls := "LastbusModel", name := "late", desc := "(IIII)I" } : Jvm.MethodName) ({ cls := "LastbusModel", name := "late", desc := "(IIII)I" } : Jvm.MethodName)) ∈ lw_all := lw_g (lw_at lw_m14 149 rfl) rfl
theorem q3392 : (Jvm.Cond.code ({ cls := "LastbusModel", name := "late", desc := "(IIII)I" } : Jvm.MethodName) prog_15_method_39_code (7 : Nat) (Option.some Jvm.ClassFile.FieldType.int)) ∈ lw_all := lw_g (lw_at lw_m14 150 rfl) rfl
theorem q3393 : (Jvm.Cond.methodLink "LastbusModel" (191 : Nat) ({ cls := "LastbusModel", name := "lateAt", desc := "(II)I" } : Jvm.MethodName)) ∈ lw_all := lw_g (lw_at lw_m14 151 rfl) rfl
theorem q3394 : (Jvm.Cond.privateMethod ({ cls := "LastbusModel", name := "lateAt", desc := "(II)I" } : Jvm.MethodName)) ∈ lw_tbl := lw_at lw_m14 152 rfl
theorem q3395 : (Jvm.Cond.instanceMethod ({ cls := "LastbusModel", name := "lateAt", desc := "(II)I" } : Jvm.MethodName)) ∈ lw_all := lw_g (lw_at lw_m14 153 rfl) rfl
theorem q3396 : (Jvm.Cond.code ({ cls := "LastbusModel", name := "lateAt", desc := "(II)I" } : Jvm.MethodName) prog_15_method_38_code (5 : Nat) (Option.some Jvm.ClassFile.FieldType.int)) ∈ lw_all := lw_g (lw_at lw_m14 154 rfl) rfl
theorem q3398 : (Jvm.Cond.instanceMethod ({ cls := "LastbusModel", name := "lateness", desc := "(III)I" } : Jvm.MethodName)) ∈ lw_all := lw_g (lw_at lw_m14 156 rfl) rfl
theorem q3399 : (Jvm.Cond.selects "LastbusModel" ({ cls := "LastbusModel", name := "lateness", desc := "(III)I" } : Jvm.MethodName) ({ cls := "LastbusModel", name := "lateness", desc := "(III)I" } : Jvm.MethodName)) ∈ lw_all := lw_g (lw_at lw_m14 157 rfl) rfl
theorem q3400 : (Jvm.Cond.code ({ cls := "LastbusModel", name := "lateness", desc := "(III)I" } : Jvm.MethodName) prog_15_method_41_code (4 : Nat) (Option.some Jvm.ClassFile.FieldType.int)) ∈ lw_all := lw_g (lw_at lw_m14 158 rfl) rfl
theorem q3401 : (Jvm.Cond.methodLink "LastbusModel" (195 : Nat) ({ cls := "LastbusModel", name := "lateOf", desc := "(III)I" } : Jvm.MethodName)) ∈ lw_all := lw_g (lw_at lw_m14 159 rfl) rfl
theorem q3402 : (Jvm.Cond.privateMethod ({ cls := "LastbusModel", name := "lateOf", desc := "(III)I" } : Jvm.MethodName)) ∈ lw_tbl := lw_at lw_m14 160 rfl
theorem q3403 : (Jvm.Cond.instanceMethod ({ cls := "LastbusModel", name := "lateOf", desc := "(III)I" } : Jvm.MethodName)) ∈ lw_all := lw_g (lw_at lw_m14 161 rfl) rfl
theorem q3404 : (Jvm.Cond.code ({ cls := "LastbusModel", name := "lateOf", desc := "(III)I" } : Jvm.MethodName) prog_15_method_40_code (5 : Nat) (Option.some Jvm.ClassFile.FieldType.int)) ∈ lw_all := lw_g (lw_at lw_m14 162 rfl) rfl
theorem q3406 : (Jvm.Cond.instanceMethod ({ cls := "LastbusModel", name := "onTime", desc := "()I" } : Jvm.MethodName)) ∈ lw_all := lw_g (lw_at lw_m14 164 rfl) rfl
theorem q3407 : (Jvm.Cond.selects "LastbusModel" ({ cls := "LastbusModel", name := "onTime", desc := "()I" } : Jvm.MethodName) ({ cls := "LastbusModel", name := "onTime", desc := "()I" } : Jvm.MethodName)) ∈ lw_all := lw_g (lw_at lw_m14 165 rfl) rfl
theorem q3408 : (Jvm.Cond.code ({ cls := "LastbusModel", name := "onTime", desc := "()I" } : Jvm.MethodName) prog_15_method_42_code (2 : Nat) (Option.some Jvm.ClassFile.FieldType.int)) ∈ lw_all := lw_g (lw_at lw_m14 166 rfl) rfl
theorem q3410 : (Jvm.Cond.instanceMethod ({ cls := "LastbusModel", name := "earliest", desc := "(IIII)I" } : Jvm.MethodName)) ∈ lw_all := lw_g (lw_at lw_m14 168 rfl) rfl
theorem q3411 : (Jvm.Cond.selects "LastbusModel" ({ cls := "LastbusModel", name := "earliest", desc := "(IIII)I" } : Jvm.MethodName) ({ cls := "LastbusModel", name := "earliest", desc := "(IIII)I" } : Jvm.MethodName)) ∈ lw_all := lw_g (lw_at lw_m14 169 rfl) rfl
theorem q3412 : (Jvm.Cond.code ({ cls := "LastbusModel", name := "earliest", desc := "(IIII)I" } : Jvm.MethodName) prog_15_method_57_code (6 : Nat) (Option.some Jvm.ClassFile.FieldType.int)) ∈ lw_all := lw_g (lw_at lw_m14 170 rfl) rfl
theorem q3413 : (Jvm.Cond.methodLink "LastbusModel" (239 : Nat) ({ cls := "LastbusModel", name := "isAskedWrong", desc := "(IIII)Z" } : Jvm.MethodName)) ∈ lw_all := lw_g (lw_at lw_m14 171 rfl) rfl
theorem q3414 : (Jvm.Cond.privateMethod ({ cls := "LastbusModel", name := "isAskedWrong", desc := "(IIII)Z" } : Jvm.MethodName)) ∈ lw_tbl := lw_at lw_m14 172 rfl
theorem q3415 : (Jvm.Cond.instanceMethod ({ cls := "LastbusModel", name := "isAskedWrong", desc := "(IIII)Z" } : Jvm.MethodName)) ∈ lw_all := lw_g (lw_at lw_m14 173 rfl) rfl
theorem q3416 : (Jvm.Cond.code ({ cls := "LastbusModel", name := "isAskedWrong", desc := "(IIII)Z" } : Jvm.MethodName) prog_15_method_56_code (5 : Nat) (Option.some Jvm.ClassFile.FieldType.boolean)) ∈ lw_all := lw_g (lw_at lw_m14 174 rfl) rfl
theorem q3417 : (Jvm.Cond.methodLink "LastbusModel" (243 : Nat) ({ cls := "LastbusModel", name := "earliestOf", desc := "(IIII)I" } : Jvm.MethodName)) ∈ lw_all := lw_g (lw_at lw_m14 175 rfl) rfl
theorem q3418 : (Jvm.Cond.privateMethod ({ cls := "LastbusModel", name := "earliestOf", desc := "(IIII)I" } : Jvm.MethodName)) ∈ lw_tbl := lw_at lw_m14 176 rfl
theorem q3419 : (Jvm.Cond.instanceMethod ({ cls := "LastbusModel", name := "earliestOf", desc := "(IIII)I" } : Jvm.MethodName)) ∈ lw_all := lw_g (lw_at lw_m14 177 rfl) rfl
theorem q3420 : (Jvm.Cond.code ({ cls := "LastbusModel", name := "earliestOf", desc := "(IIII)I" } : Jvm.MethodName) prog_15_method_55_code (5 : Nat) (Option.some Jvm.ClassFile.FieldType.int)) ∈ lw_all := lw_g (lw_at lw_m14 178 rfl) rfl
theorem q3421 : (Jvm.Cond.methodLink "LastbusModel" (229 : Nat) ({ cls := "LastbusModel", name := "begin", desc := "(II)V" } : Jvm.MethodName)) ∈ lw_all := lw_g (lw_at lw_m14 179 rfl) rfl
theorem q3422 : (Jvm.Cond.privateMethod ({ cls := "LastbusModel", name := "begin", desc := "(II)V" } : Jvm.MethodName)) ∈ lw_tbl := lw_at lw_m14 180 rfl
theorem q3423 : (Jvm.Cond.instanceMethod ({ cls := "LastbusModel", name := "begin", desc := "(II)V" } : Jvm.MethodName)) ∈ lw_all := lw_g (lw_at lw_m14 181 rfl) rfl
theorem q3424 : (Jvm.Cond.code ({ cls := "LastbusModel", name := "begin", desc := "(II)V" } : Jvm.MethodName) prog_15_method_48_code (5 : Nat) (Option.none : Option Jvm.ClassFile.FieldType)) ∈ lw_all := lw_g (lw_at lw_m14 182 rfl) rfl
theorem q3425 : (Jvm.Cond.methodLink "LastbusModel" (201 : Nat) ({ cls := "LastbusModel", name := "nowhere", desc := "()V" } : Jvm.MethodName)) ∈ lw_all := lw_g (lw_at lw_m14 183 rfl) rfl
theorem q3426 : (Jvm.Cond.privateMethod ({ cls := "LastbusModel", name := "nowhere", desc := "()V" } : Jvm.MethodName)) ∈ lw_tbl := lw_at lw_m14 184 rfl
theorem q3427 : (Jvm.Cond.instanceMethod ({ cls := "LastbusModel", name := "nowhere", desc := "()V" } : Jvm.MethodName)) ∈ lw_all := lw_g (lw_at lw_m14 185 rfl) rfl
theorem q3428 : (Jvm.Cond.code ({ cls := "LastbusModel", name := "nowhere", desc := "()V" } : Jvm.MethodName) prog_15_method_47_code (2 : Nat) (Option.none : Option Jvm.ClassFile.FieldType)) ∈ lw_all := lw_g (lw_at lw_m14 186 rfl) rfl
theorem q3429 : (Jvm.Cond.methodLink "LastbusModel" (232 : Nat) ({ cls := "LastbusModel", name := "settle", desc := "()V" } : Jvm.MethodName)) ∈ lw_all := lw_g (lw_at lw_m14 187 rfl) rfl
theorem q3430 : (Jvm.Cond.privateMethod ({ cls := "LastbusModel", name := "settle", desc := "()V" } : Jvm.MethodName)) ∈ lw_tbl := lw_at lw_m14 188 rfl
theorem q3431 : (Jvm.Cond.instanceMethod ({ cls := "LastbusModel", name := "settle", desc := "()V" } : Jvm.MethodName)) ∈ lw_all := lw_g (lw_at lw_m14 189 rfl) rfl
theorem q3432 : (Jvm.Cond.code ({ cls := "LastbusModel", name := "settle", desc := "()V" } : Jvm.MethodName) prog_15_method_51_code (2 : Nat) (Option.none : Option Jvm.ClassFile.FieldType)) ∈ lw_all := lw_g (lw_at lw_m14 190 rfl) rfl
theorem q3433 : (Jvm.Cond.methodLink "LastbusModel" (208 : Nat) ({ cls := "LastbusModel", name := "isRun", desc := "(I)Z" } : Jvm.MethodName)) ∈ lw_all := lw_g (lw_at lw_m14 191 rfl) rfl
theorem q3434 : (Jvm.Cond.privateMethod ({ cls := "LastbusModel", name := "isRun", desc := "(I)Z" } : Jvm.MethodName)) ∈ lw_tbl := lw_at lw_m14 192 rfl
theorem q3435 : (Jvm.Cond.instanceMethod ({ cls := "LastbusModel", name := "isRun", desc := "(I)Z" } : Jvm.MethodName)) ∈ lw_all := lw_g (lw_at lw_m14 193 rfl) rfl
theorem q3436 : (Jvm.Cond.code ({ cls := "LastbusModel", name := "isRun", desc := "(I)Z" } : Jvm.MethodName) prog_15_method_43_code (4 : Nat) (Option.some Jvm.ClassFile.FieldType.boolean)) ∈ lw_all := lw_g (lw_at lw_m14 194 rfl) rfl
theorem q3437 : (Jvm.Cond.methodLink "LastbusModel" (211 : Nat) ({ cls := "LastbusModel", name := "rideOn", desc := "(I)V" } : Jvm.MethodName)) ∈ lw_all := lw_g (lw_at lw_m14 195 rfl) rfl
theorem q3438 : (Jvm.Cond.privateMethod ({ cls := "LastbusModel", name := "rideOn", desc := "(I)V" } : Jvm.MethodName)) ∈ lw_tbl := lw_at lw_m14 196 rfl
theorem q3439 : (Jvm.Cond.instanceMethod ({ cls := "LastbusModel", name := "rideOn", desc := "(I)V" } : Jvm.MethodName)) ∈ lw_all := lw_g (lw_at lw_m14 197 rfl) rfl
theorem q3440 : (Jvm.Cond.code ({ cls := "LastbusModel", name := "rideOn", desc := "(I)V" } : Jvm.MethodName) prog_15_method_52_code (4 : Nat) (Option.none : Option Jvm.ClassFile.FieldType)) ∈ lw_all := lw_g (lw_at lw_m14 198 rfl) rfl
theorem q3441 : (Jvm.Cond.methodLink "LastbusModel" (214 : Nat) ({ cls := "LastbusModel", name := "stopIn", desc := "(II)I" } : Jvm.MethodName)) ∈ lw_all := lw_g (lw_at lw_m14 199 rfl) rfl
theorem q3442 : (Jvm.Cond.privateMethod ({ cls := "LastbusModel", name := "stopIn", desc := "(II)I" } : Jvm.MethodName)) ∈ lw_tbl := lw_at lw_m14 200 rfl
theorem q3443 : (Jvm.Cond.instanceMethod ({ cls := "LastbusModel", name := "stopIn", desc := "(II)I" } : Jvm.MethodName)) ∈ lw_all := lw_g (lw_at lw_m14 201 rfl) rfl
theorem q3444 : (Jvm.Cond.code ({ cls := "LastbusModel", name := "stopIn", desc := "(II)I" } : Jvm.MethodName) prog_15_method_46_code (3 : Nat) (Option.some Jvm.ClassFile.FieldType.int)) ∈ lw_all := lw_g (lw_at lw_m14 202 rfl) rfl
theorem q3445 : (Jvm.Cond.methodLink "LastbusModel" (217 : Nat) ({ cls := "LastbusModel", name := "comesAt", desc := "(II)I" } : Jvm.MethodName)) ∈ lw_all := lw_g (lw_at lw_m14 203 rfl) rfl
theorem q3446 : (Jvm.Cond.privateMethod ({ cls := "LastbusModel", name := "comesAt", desc := "(II)I" } : Jvm.MethodName)) ∈ lw_tbl := lw_at lw_m14 204 rfl
theorem q3447 : (Jvm.Cond.instanceMethod ({ cls := "LastbusModel", name := "comesAt", desc := "(II)I" } : Jvm.MethodName)) ∈ lw_all := lw_g (lw_at lw_m14 205 rfl) rfl
theorem q3448 : (Jvm.Cond.code ({ cls := "LastbusModel", name := "comesAt", desc := "(II)I" } : Jvm.MethodName) prog_15_method_45_code (5 : Nat) (Option.some Jvm.ClassFile.FieldType.int)) ∈ lw_all := lw_g (lw_at lw_m14 206 rfl) rfl
theorem q3449 : (Jvm.Cond.methodLink "LastbusModel" (220 : Nat) ({ cls := "LastbusModel", name := "getsOff", desc := "(II)V" } : Jvm.MethodName)) ∈ lw_all := lw_g (lw_at lw_m14 207 rfl) rfl
theorem q3450 : (Jvm.Cond.privateMethod ({ cls := "LastbusModel", name := "getsOff", desc := "(II)V" } : Jvm.MethodName)) ∈ lw_tbl := lw_at lw_m14 208 rfl
theorem q3451 : (Jvm.Cond.instanceMethod ({ cls := "LastbusModel", name := "getsOff", desc := "(II)V" } : Jvm.MethodName)) ∈ lw_all := lw_g (lw_at lw_m14 209 rfl) rfl
theorem q3452 : (Jvm.Cond.code ({ cls := "LastbusModel", name := "getsOff", desc := "(II)V" } : Jvm.MethodName) prog_15_method_50_code (5 : Nat) (Option.none : Option Jvm.ClassFile.FieldType)) ∈ lw_all := lw_g (lw_at lw_m14 210 rfl) rfl
theorem q3453 : (Jvm.Cond.methodLink "LastbusModel" (223 : Nat) ({ cls := "LastbusModel", name := "leavesAt", desc := "(II)I" } : Jvm.MethodName)) ∈ lw_all := lw_g (lw_at lw_m14 211 rfl) rfl
theorem q3454 : (Jvm.Cond.privateMethod ({ cls := "LastbusModel", name := "leavesAt", desc := "(II)I" } : Jvm.MethodName)) ∈ lw_tbl := lw_at lw_m14 212 rfl
theorem q3455 : (Jvm.Cond.instanceMethod ({ cls := "LastbusModel", name := "leavesAt", desc := "(II)I" } : Jvm.MethodName)) ∈ lw_all := lw_g (lw_at lw_m14 213 rfl) rfl
theorem q3456 : (Jvm.Cond.code ({ cls := "LastbusModel", name := "leavesAt", desc := "(II)I" } : Jvm.MethodName) prog_15_method_44_code (5 : Nat) (Option.some Jvm.ClassFile.FieldType.int)) ∈ lw_all := lw_g (lw_at lw_m14 214 rfl) rfl
theorem q3457 : (Jvm.Cond.methodLink "LastbusModel" (226 : Nat) ({ cls := "LastbusModel", name := "getsOn", desc := "(II)Z" } : Jvm.MethodName)) ∈ lw_all := lw_g (lw_at lw_m14 215 rfl) rfl
theorem q3458 : (Jvm.Cond.privateMethod ({ cls := "LastbusModel", name := "getsOn", desc := "(II)Z" } : Jvm.MethodName)) ∈ lw_tbl := lw_at lw_m14 216 rfl
theorem q3459 : (Jvm.Cond.instanceMethod ({ cls := "LastbusModel", name := "getsOn", desc := "(II)Z" } : Jvm.MethodName)) ∈ lw_all := lw_g (lw_at lw_m14 217 rfl) rfl
theorem q3460 : (Jvm.Cond.code ({ cls := "LastbusModel", name := "getsOn", desc := "(II)Z" } : Jvm.MethodName) prog_15_method_49_code (3 : Nat) (Option.some Jvm.ClassFile.FieldType.boolean)) ∈ lw_all := lw_g (lw_at lw_m14 218 rfl) rfl
theorem q3461 : (Jvm.Cond.methodLink "LastbusModel" (235 : Nat) ({ cls := "LastbusModel", name := "at", desc := "(I)I" } : Jvm.MethodName)) ∈ lw_all := lw_g (lw_at lw_m14 219 rfl) rfl
theorem q3462 : (Jvm.Cond.privateMethod ({ cls := "LastbusModel", name := "at", desc := "(I)I" } : Jvm.MethodName)) ∈ lw_tbl := lw_at lw_m14 220 rfl
theorem q3463 : (Jvm.Cond.instanceMethod ({ cls := "LastbusModel", name := "at", desc := "(I)I" } : Jvm.MethodName)) ∈ lw_all := lw_g (lw_at lw_m14 221 rfl) rfl
theorem q3464 : (Jvm.Cond.code ({ cls := "LastbusModel", name := "at", desc := "(I)I" } : Jvm.MethodName) prog_15_method_53_code (2 : Nat) (Option.some Jvm.ClassFile.FieldType.int)) ∈ lw_all := lw_g (lw_at lw_m14 222 rfl) rfl
theorem q3466 : (Jvm.Cond.instanceMethod ({ cls := "LastbusModel", name := "earliestByQueue", desc := "(IIII)I" } : Jvm.MethodName)) ∈ lw_all := lw_g (lw_at lw_m14 224 rfl) rfl
theorem q3467 : (Jvm.Cond.selects "LastbusModel" ({ cls := "LastbusModel", name := "earliestByQueue", desc := "(IIII)I" } : Jvm.MethodName) ({ cls := "LastbusModel", name := "earliestByQueue", desc := "(IIII)I" } : Jvm.MethodName)) ∈ lw_all := lw_g (lw_at lw_m14 225 rfl) rfl
theorem q3468 : (Jvm.Cond.code ({ cls := "LastbusModel", name := "earliestByQueue", desc := "(IIII)I" } : Jvm.MethodName) prog_15_method_58_code (5 : Nat) (Option.some Jvm.ClassFile.FieldType.int)) ∈ lw_all := lw_g (lw_at lw_m14 226 rfl) rfl
theorem q3469 : (Jvm.Cond.methodLink "LastbusModel" (247 : Nat) ({ cls := "LastbusModel", name := "earliest", desc := "(IIII)I" } : Jvm.MethodName)) ∈ lw_all := lw_g (lw_at lw_m14 227 rfl) rfl
theorem q3471 : (Jvm.Cond.instanceMethod ({ cls := "LastbusModel", name := "earliestByRounds", desc := "(IIII)I" } : Jvm.MethodName)) ∈ lw_all := lw_g (lw_at lw_m14 229 rfl) rfl
theorem q3472 : (Jvm.Cond.selects "LastbusModel" ({ cls := "LastbusModel", name := "earliestByRounds", desc := "(IIII)I" } : Jvm.MethodName) ({ cls := "LastbusModel", name := "earliestByRounds", desc := "(IIII)I" } : Jvm.MethodName)) ∈ lw_all := lw_g (lw_at lw_m14 230 rfl) rfl
theorem q3473 : (Jvm.Cond.code ({ cls := "LastbusModel", name := "earliestByRounds", desc := "(IIII)I" } : Jvm.MethodName) prog_15_method_59_code (5 : Nat) (Option.some Jvm.ClassFile.FieldType.int)) ∈ lw_all := lw_g (lw_at lw_m14 231 rfl) rfl
theorem q3475 : (Jvm.Cond.instanceMethod ({ cls := "LastbusModel", name := "byPairs", desc := "(IIII)I" } : Jvm.MethodName)) ∈ lw_all := lw_g (lw_at lw_m14 233 rfl) rfl
theorem q3476 : (Jvm.Cond.selects "LastbusModel" ({ cls := "LastbusModel", name := "byPairs", desc := "(IIII)I" } : Jvm.MethodName) ({ cls := "LastbusModel", name := "byPairs", desc := "(IIII)I" } : Jvm.MethodName)) ∈ lw_all := lw_g (lw_at lw_m14 234 rfl) rfl
theorem q3477 : (Jvm.Cond.code ({ cls := "LastbusModel", name := "byPairs", desc := "(IIII)I" } : Jvm.MethodName) prog_15_method_60_code (5 : Nat) (Option.some Jvm.ClassFile.FieldType.int)) ∈ lw_all := lw_g (lw_at lw_m14 235 rfl) rfl
theorem q3479 : (Jvm.Cond.instanceMethod ({ cls := "LastbusModel", name := "wall", desc := "(IIII)I" } : Jvm.MethodName)) ∈ lw_all := lw_g (lw_at lw_m14 237 rfl) rfl
theorem q3480 : (Jvm.Cond.selects "LastbusModel" ({ cls := "LastbusModel", name := "wall", desc := "(IIII)I" } : Jvm.MethodName) ({ cls := "LastbusModel", name := "wall", desc := "(IIII)I" } : Jvm.MethodName)) ∈ lw_all := lw_g (lw_at lw_m14 238 rfl) rfl
theorem q3481 : (Jvm.Cond.code ({ cls := "LastbusModel", name := "wall", desc := "(IIII)I" } : Jvm.MethodName) prog_15_method_61_code (8 : Nat) (Option.some Jvm.ClassFile.FieldType.int)) ∈ lw_all := lw_g (lw_at lw_m14 239 rfl) rfl
theorem q3483 : (Jvm.Cond.instanceMethod ({ cls := "LastbusModel", name := "last", desc := "(IIII)I" } : Jvm.MethodName)) ∈ lw_all := lw_g (lw_at lw_m15 1 rfl) rfl
theorem q3484 : (Jvm.Cond.selects "LastbusModel" ({ cls := "LastbusModel", name := "last", desc := "(IIII)I" } : Jvm.MethodName) ({ cls := "LastbusModel", name := "last", desc := "(IIII)I" } : Jvm.MethodName)) ∈ lw_all := lw_g (lw_at lw_m15 2 rfl) rfl
theorem q3485 : (Jvm.Cond.code ({ cls := "LastbusModel", name := "last", desc := "(IIII)I" } : Jvm.MethodName) prog_15_method_62_code (8 : Nat) (Option.some Jvm.ClassFile.FieldType.int)) ∈ lw_all := lw_g (lw_at lw_m15 3 rfl) rfl
theorem q3487 : (Jvm.Cond.instanceMethod ({ cls := "LastbusModel", name := "onBoard", desc := "(IIII)I" } : Jvm.MethodName)) ∈ lw_all := lw_g (lw_at lw_m15 5 rfl) rfl
theorem q3488 : (Jvm.Cond.selects "LastbusModel" ({ cls := "LastbusModel", name := "onBoard", desc := "(IIII)I" } : Jvm.MethodName) ({ cls := "LastbusModel", name := "onBoard", desc := "(IIII)I" } : Jvm.MethodName)) ∈ lw_all := lw_g (lw_at lw_m15 6 rfl) rfl
theorem q3489 : (Jvm.Cond.code ({ cls := "LastbusModel", name := "onBoard", desc := "(IIII)I" } : Jvm.MethodName) prog_15_method_63_code (6 : Nat) (Option.some Jvm.ClassFile.FieldType.int)) ∈ lw_all := lw_g (lw_at lw_m15 7 rfl) rfl
theorem q3491 : (Jvm.Cond.instanceMethod ({ cls := "LastbusModel", name := "choices", desc := "(IIII)I" } : Jvm.MethodName)) ∈ lw_all := lw_g (lw_at lw_m15 9 rfl) rfl
theorem q3492 : (Jvm.Cond.selects "LastbusModel" ({ cls := "LastbusModel", name := "choices", desc := "(IIII)I" } : Jvm.MethodName) ({ cls := "LastbusModel", name := "choices", desc := "(IIII)I" } : Jvm.MethodName)) ∈ lw_all := lw_g (lw_at lw_m15 10 rfl) rfl
theorem q3493 : (Jvm.Cond.code ({ cls := "LastbusModel", name := "choices", desc := "(IIII)I" } : Jvm.MethodName) prog_15_method_69_code (5 : Nat) (Option.some Jvm.ClassFile.FieldType.int)) ∈ lw_all := lw_g (lw_at lw_m15 11 rfl) rfl
theorem q3494 : (Jvm.Cond.methodLink "LastbusModel" (268 : Nat) ({ cls := "LastbusModel", name := "tellRounds", desc := "(III)V" } : Jvm.MethodName)) ∈ lw_all := lw_g (lw_at lw_m15 12 rfl) rfl
theorem q3495 : (Jvm.Cond.privateMethod ({ cls := "LastbusModel", name := "tellRounds", desc := "(III)V" } : Jvm.MethodName)) ∈ lw_tbl := lw_at lw_m15 13 rfl
theorem q3496 : (Jvm.Cond.instanceMethod ({ cls := "LastbusModel", name := "tellRounds", desc := "(III)V" } : Jvm.MethodName)) ∈ lw_all := lw_g (lw_at lw_m15 14 rfl) rfl
theorem q3497 : (Jvm.Cond.code ({ cls := "LastbusModel", name := "tellRounds", desc := "(III)V" } : Jvm.MethodName) prog_15_method_66_code (7 : Nat) (Option.none : Option Jvm.ClassFile.FieldType)) ∈ lw_all := lw_g (lw_at lw_m15 15 rfl) rfl
theorem q3498 : (Jvm.Cond.methodLink "LastbusModel" (253 : Nat) ({ cls := "LastbusModel", name := "keepRound", desc := "()V" } : Jvm.MethodName)) ∈ lw_all := lw_g (lw_at lw_m15 16 rfl) rfl
theorem q3499 : (Jvm.Cond.privateMethod ({ cls := "LastbusModel", name := "keepRound", desc := "()V" } : Jvm.MethodName)) ∈ lw_tbl := lw_at lw_m15 17 rfl
theorem q3500 : (Jvm.Cond.instanceMethod ({ cls := "LastbusModel", name := "keepRound", desc := "()V" } : Jvm.MethodName)) ∈ lw_all := lw_g (lw_at lw_m15 18 rfl) rfl
theorem q3501 : (Jvm.Cond.code ({ cls := "LastbusModel", name := "keepRound", desc := "()V" } : Jvm.MethodName) prog_15_method_64_code (2 : Nat) (Option.none : Option Jvm.ClassFile.FieldType)) ∈ lw_all := lw_g (lw_at lw_m15 19 rfl) rfl
theorem q3502 : (Jvm.Cond.methodLink "LastbusModel" (256 : Nat) ({ cls := "LastbusModel", name := "getsOnBy", desc := "(III)Z" } : Jvm.MethodName)) ∈ lw_all := lw_g (lw_at lw_m15 20 rfl) rfl
theorem q3503 : (Jvm.Cond.privateMethod ({ cls := "LastbusModel", name := "getsOnBy", desc := "(III)Z" } : Jvm.MethodName)) ∈ lw_tbl := lw_at lw_m15 21 rfl
theorem q3504 : (Jvm.Cond.instanceMethod ({ cls := "LastbusModel", name := "getsOnBy", desc := "(III)Z" } : Jvm.MethodName)) ∈ lw_all := lw_g (lw_at lw_m15 22 rfl) rfl
theorem q3505 : (Jvm.Cond.code ({ cls := "LastbusModel", name := "getsOnBy", desc := "(III)Z" } : Jvm.MethodName) prog_15_method_65_code (4 : Nat) (Option.some Jvm.ClassFile.FieldType.boolean)) ∈ lw_all := lw_g (lw_at lw_m15 23 rfl) rfl
theorem q3506 : (Jvm.Cond.methodLink "LastbusModel" (272 : Nat) ({ cls := "LastbusModel", name := "choicesOf", desc := "(II)I" } : Jvm.MethodName)) ∈ lw_all := lw_g (lw_at lw_m15 24 rfl) rfl
theorem q3507 : (Jvm.Cond.privateMethod ({ cls := "LastbusModel", name := "choicesOf", desc := "(II)I" } : Jvm.MethodName)) ∈ lw_tbl := lw_at lw_m15 25 rfl
theorem q3508 : (Jvm.Cond.instanceMethod ({ cls := "LastbusModel", name := "choicesOf", desc := "(II)I" } : Jvm.MethodName)) ∈ lw_all := lw_g (lw_at lw_m15 26 rfl) rfl
theorem q3509 : (Jvm.Cond.code ({ cls := "LastbusModel", name := "choicesOf", desc := "(II)I" } : Jvm.MethodName) prog_15_method_68_code (7 : Nat) (Option.some Jvm.ClassFile.FieldType.int)) ∈ lw_all := lw_g (lw_at lw_m15 27 rfl) rfl
theorem q3510 : (Jvm.Cond.methodLink "LastbusModel" (259 : Nat) ({ cls := "LastbusModel", name := "atBy", desc := "(II)I" } : Jvm.MethodName)) ∈ lw_all := lw_g (lw_at lw_m15 28 rfl) rfl
theorem q3511 : (Jvm.Cond.privateMethod ({ cls := "LastbusModel", name := "atBy", desc := "(II)I" } : Jvm.MethodName)) ∈ lw_tbl := lw_at lw_m15 29 rfl
theorem q3512 : (Jvm.Cond.instanceMethod ({ cls := "LastbusModel", name := "atBy", desc := "(II)I" } : Jvm.MethodName)) ∈ lw_all := lw_g (lw_at lw_m15 30 rfl) rfl
theorem q3513 : (Jvm.Cond.code ({ cls := "LastbusModel", name := "atBy", desc := "(II)I" } : Jvm.MethodName) prog_15_method_67_code (5 : Nat) (Option.some Jvm.ClassFile.FieldType.int)) ∈ lw_all := lw_g (lw_at lw_m15 31 rfl) rfl
theorem q3515 : (Jvm.Cond.instanceMethod ({ cls := "LastbusModel", name := "choice", desc := "(IIIII)I" } : Jvm.MethodName)) ∈ lw_all := lw_g (lw_at lw_m15 33 rfl) rfl
theorem q3516 : (Jvm.Cond.selects "LastbusModel" ({ cls := "LastbusModel", name := "choice", desc := "(IIIII)I" } : Jvm.MethodName) ({ cls := "LastbusModel", name := "choice", desc := "(IIIII)I" } : Jvm.MethodName)) ∈ lw_all := lw_g (lw_at lw_m15 34 rfl) rfl
theorem q3517 : (Jvm.Cond.code ({ cls := "LastbusModel", name := "choice", desc := "(IIIII)I" } : Jvm.MethodName) prog_15_method_70_code (6 : Nat) (Option.some Jvm.ClassFile.FieldType.int)) ∈ lw_all := lw_g (lw_at lw_m15 35 rfl) rfl
theorem q3519 : (Jvm.Cond.instanceMethod ({ cls := "LastbusModel", name := "chain", desc := "(IIII)I" } : Jvm.MethodName)) ∈ lw_all := lw_g (lw_at lw_m15 37 rfl) rfl
theorem q3520 : (Jvm.Cond.selects "LastbusModel" ({ cls := "LastbusModel", name := "chain", desc := "(IIII)I" } : Jvm.MethodName) ({ cls := "LastbusModel", name := "chain", desc := "(IIII)I" } : Jvm.MethodName)) ∈ lw_all := lw_g (lw_at lw_m15 38 rfl) rfl
theorem q3521 : (Jvm.Cond.code ({ cls := "LastbusModel", name := "chain", desc := "(IIII)I" } : Jvm.MethodName) prog_15_method_71_code (10 : Nat) (Option.some Jvm.ClassFile.FieldType.int)) ∈ lw_all := lw_g (lw_at lw_m15 39 rfl) rfl
theorem q3522 : (Jvm.Cond.methodLink "LastbusModel" (275 : Nat) ({ cls := "LastbusModel", name := "findRide", desc := "(IIIZ)V" } : Jvm.MethodName)) ∈ lw_all := lw_g (lw_at lw_m15 40 rfl) rfl
theorem q3523 : (Jvm.Cond.privateMethod ({ cls := "LastbusModel", name := "findRide", desc := "(IIIZ)V" } : Jvm.MethodName)) ∈ lw_tbl := lw_at lw_m15 41 rfl
theorem q3524 : (Jvm.Cond.instanceMethod ({ cls := "LastbusModel", name := "findRide", desc := "(IIIZ)V" } : Jvm.MethodName)) ∈ lw_all := lw_g (lw_at lw_m15 42 rfl) rfl
theorem q3525 : (Jvm.Cond.code ({ cls := "LastbusModel", name := "findRide", desc := "(IIIZ)V" } : Jvm.MethodName) prog_15_method_72_code (10 : Nat) (Option.none : Option Jvm.ClassFile.FieldType)) ∈ lw_all := lw_g (lw_at lw_m15 43 rfl) rfl
theorem q3527 : (Jvm.Cond.instanceMethod ({ cls := "LastbusModel", name := "ride", desc := "(IC)I" } : Jvm.MethodName)) ∈ lw_all := lw_g (lw_at lw_m15 45 rfl) rfl
theorem q3528 : (Jvm.Cond.selects "LastbusModel" ({ cls := "LastbusModel", name := "ride", desc := "(IC)I" } : Jvm.MethodName) ({ cls := "LastbusModel", name := "ride", desc := "(IC)I" } : Jvm.MethodName)) ∈ lw_all := lw_g (lw_at lw_m15 46 rfl) rfl
theorem q3529 : (Jvm.Cond.code ({ cls := "LastbusModel", name := "ride", desc := "(IC)I" } : Jvm.MethodName) prog_15_method_73_code (3 : Nat) (Option.some Jvm.ClassFile.FieldType.int)) ∈ lw_all := lw_g (lw_at lw_m15 47 rfl) rfl
theorem q3531 : (Jvm.Cond.instanceMethod ({ cls := "LastbusModel", name := "pairs", desc := "(III)I" } : Jvm.MethodName)) ∈ lw_all := lw_g (lw_at lw_m15 49 rfl) rfl
theorem q3532 : (Jvm.Cond.selects "LastbusModel" ({ cls := "LastbusModel", name := "pairs", desc := "(III)I" } : Jvm.MethodName) ({ cls := "LastbusModel", name := "pairs", desc := "(III)I" } : Jvm.MethodName)) ∈ lw_all := lw_g (lw_at lw_m15 50 rfl) rfl
theorem q3533 : (Jvm.Cond.code ({ cls := "LastbusModel", name := "pairs", desc := "(III)I" } : Jvm.MethodName) prog_15_method_76_code (4 : Nat) (Option.some Jvm.ClassFile.FieldType.int)) ∈ lw_all := lw_g (lw_at lw_m15 51 rfl) rfl
theorem q3534 : (Jvm.Cond.methodLink "LastbusModel" (288 : Nat) ({ cls := "LastbusModel", name := "tellPairs", desc := "(III)V" } : Jvm.MethodName)) ∈ lw_all := lw_g (lw_at lw_m15 52 rfl) rfl
theorem q3535 : (Jvm.Cond.privateMethod ({ cls := "LastbusModel", name := "tellPairs", desc := "(III)V" } : Jvm.MethodName)) ∈ lw_tbl := lw_at lw_m15 53 rfl
theorem q3536 : (Jvm.Cond.instanceMethod ({ cls := "LastbusModel", name := "tellPairs", desc := "(III)V" } : Jvm.MethodName)) ∈ lw_all := lw_g (lw_at lw_m15 54 rfl) rfl
theorem q3537 : (Jvm.Cond.code ({ cls := "LastbusModel", name := "tellPairs", desc := "(III)V" } : Jvm.MethodName) prog_15_method_74_code (8 : Nat) (Option.none : Option Jvm.ClassFile.FieldType)) ∈ lw_all := lw_g (lw_at lw_m15 55 rfl) rfl
theorem q3538 : (Jvm.Cond.methodLink "LastbusModel" (282 : Nat) ({ cls := "LastbusModel", name := "leaveBefore", desc := "(II)I" } : Jvm.MethodName)) ∈ lw_all := lw_g (lw_at lw_m15 56 rfl) rfl
theorem q3539 : (Jvm.Cond.privateMethod ({ cls := "LastbusModel", name := "leaveBefore", desc := "(II)I" } : Jvm.MethodName)) ∈ lw_tbl := lw_at lw_m15 57 rfl
theorem q3540 : (Jvm.Cond.instanceMethod ({ cls := "LastbusModel", name := "leaveBefore", desc := "(II)I" } : Jvm.MethodName)) ∈ lw_all := lw_g (lw_at lw_m15 58 rfl) rfl
theorem q3541 : (Jvm.Cond.code ({ cls := "LastbusModel", name := "leaveBefore", desc := "(II)I" } : Jvm.MethodName) prog_15_method_75_code (8 : Nat) (Option.some Jvm.ClassFile.FieldType.int)) ∈ lw_all := lw_g (lw_at lw_m15 59 rfl) rfl
theorem q3542 : (Jvm.Cond.methodLink "LastbusModel" (285 : Nat) ({ cls := "LastbusModel", name := "byRide", desc := "(I)I" } : Jvm.MethodName)) ∈ lw_all := lw_g (lw_at lw_m15 60 rfl) rfl
theorem q3543 : (Jvm.Cond.privateMethod ({ cls := "LastbusModel", name := "byRide", desc := "(I)I" } : Jvm.MethodName)) ∈ lw_tbl := lw_at lw_m15 61 rfl
theorem q3544 : (Jvm.Cond.instanceMethod ({ cls := "LastbusModel", name := "byRide", desc := "(I)I" } : Jvm.MethodName)) ∈ lw_all := lw_g (lw_at lw_m15 62 rfl) rfl
theorem q3545 : (Jvm.Cond.code ({ cls := "LastbusModel", name := "byRide", desc := "(I)I" } : Jvm.MethodName) prog_15_method_54_code (5 : Nat) (Option.some Jvm.ClassFile.FieldType.int)) ∈ lw_all := lw_g (lw_at lw_m15 63 rfl) rfl
theorem q3547 : (Jvm.Cond.instanceMethod ({ cls := "LastbusModel", name := "pair", desc := "(IIIIZ)I" } : Jvm.MethodName)) ∈ lw_all := lw_g (lw_at lw_m15 65 rfl) rfl
theorem q3548 : (Jvm.Cond.selects "LastbusModel" ({ cls := "LastbusModel", name := "pair", desc := "(IIIIZ)I" } : Jvm.MethodName) ({ cls := "LastbusModel", name := "pair", desc := "(IIIIZ)I" } : Jvm.MethodName)) ∈ lw_all := lw_g (lw_at lw_m15 66 rfl) rfl
theorem q3549 : (Jvm.Cond.code ({ cls := "LastbusModel", name := "pair", desc := "(IIIIZ)I" } : Jvm.MethodName) prog_15_method_77_code (6 : Nat) (Option.some Jvm.ClassFile.FieldType.int)) ∈ lw_all := lw_g (lw_at lw_m15 67 rfl) rfl
theorem q3551 : (Jvm.Cond.instanceMethod ({ cls := "LastbusModel", name := "holds", desc := "(IIIII)Z" } : Jvm.MethodName)) ∈ lw_all := lw_g (lw_at lw_m15 69 rfl) rfl
theorem q3552 : (Jvm.Cond.selects "LastbusModel" ({ cls := "LastbusModel", name := "holds", desc := "(IIIII)Z" } : Jvm.MethodName) ({ cls := "LastbusModel", name := "holds", desc := "(IIIII)Z" } : Jvm.MethodName)) ∈ lw_all := lw_g (lw_at lw_m15 70 rfl) rfl
theorem q3553 : (Jvm.Cond.code ({ cls := "LastbusModel", name := "holds", desc := "(IIIII)Z" } : Jvm.MethodName) prog_15_method_80_code (9 : Nat) (Option.some Jvm.ClassFile.FieldType.boolean)) ∈ lw_all := lw_g (lw_at lw_m15 71 rfl) rfl
theorem q3554 : (Jvm.Cond.methodLink "LastbusModel" (291 : Nat) ({ cls := "LastbusModel", name := "isChangeWrong", desc := "(IIII)Z" } : Jvm.MethodName)) ∈ lw_all := lw_g (lw_at lw_m15 72 rfl) rfl
theorem q3555 : (Jvm.Cond.privateMethod ({ cls := "LastbusModel", name := "isChangeWrong", desc := "(IIII)Z" } : Jvm.MethodName)) ∈ lw_tbl := lw_at lw_m15 73 rfl
theorem q3556 : (Jvm.Cond.instanceMethod ({ cls := "LastbusModel", name := "isChangeWrong", desc := "(IIII)Z" } : Jvm.MethodName)) ∈ lw_all := lw_g (lw_at lw_m15 74 rfl) rfl
theorem q3557 : (Jvm.Cond.code ({ cls := "LastbusModel", name := "isChangeWrong", desc := "(IIII)Z" } : Jvm.MethodName) prog_15_method_79_code (5 : Nat) (Option.some Jvm.ClassFile.FieldType.boolean)) ∈ lw_all := lw_g (lw_at lw_m15 75 rfl) rfl
theorem q3558 : (Jvm.Cond.methodLink "LastbusModel" (294 : Nat) ({ cls := "LastbusModel", name := "runs", desc := "(II)Z" } : Jvm.MethodName)) ∈ lw_all := lw_g (lw_at lw_m15 76 rfl) rfl
theorem q3559 : (Jvm.Cond.privateMethod ({ cls := "LastbusModel", name := "runs", desc := "(II)Z" } : Jvm.MethodName)) ∈ lw_tbl := lw_at lw_m15 77 rfl
theorem q3560 : (Jvm.Cond.instanceMethod ({ cls := "LastbusModel", name := "runs", desc := "(II)Z" } : Jvm.MethodName)) ∈ lw_all := lw_g (lw_at lw_m15 78 rfl) rfl
theorem q3561 : (Jvm.Cond.code ({ cls := "LastbusModel", name := "runs", desc := "(II)Z" } : Jvm.MethodName) prog_15_method_78_code (3 : Nat) (Option.some Jvm.ClassFile.FieldType.boolean)) ∈ lw_all := lw_g (lw_at lw_m15 79 rfl) rfl
theorem q3563 : (Jvm.Cond.instanceMethod ({ cls := "LastbusModel", name := "wish", desc := "(IIIII)I" } : Jvm.MethodName)) ∈ lw_all := lw_g (lw_at lw_m15 81 rfl) rfl
theorem q3564 : (Jvm.Cond.selects "LastbusModel" ({ cls := "LastbusModel", name := "wish", desc := "(IIIII)I" } : Jvm.MethodName) ({ cls := "LastbusModel", name := "wish", desc := "(IIIII)I" } : Jvm.MethodName)) ∈ lw_all := lw_g (lw_at lw_m15 82 rfl) rfl
theorem q3565 : (Jvm.Cond.code ({ cls := "LastbusModel", name := "wish", desc := "(IIIII)I" } : Jvm.MethodName) prog_15_method_81_code (6 : Nat) (Option.some Jvm.ClassFile.FieldType.int)) ∈ lw_all := lw_g (lw_at lw_m15 83 rfl) rfl
theorem q3567 : (Jvm.Cond.instanceMethod ({ cls := "LastbusModel", name := "dropWishes", desc := "()I" } : Jvm.MethodName)) ∈ lw_all := lw_g (lw_at lw_m15 85 rfl) rfl
theorem q3568 : (Jvm.Cond.selects "LastbusModel" ({ cls := "LastbusModel", name := "dropWishes", desc := "()I" } : Jvm.MethodName) ({ cls := "LastbusModel", name := "dropWishes", desc := "()I" } : Jvm.MethodName)) ∈ lw_all := lw_g (lw_at lw_m15 86 rfl) rfl
theorem q3569 : (Jvm.Cond.code ({ cls := "LastbusModel", name := "dropWishes", desc := "()I" } : Jvm.MethodName) prog_15_method_82_code (2 : Nat) (Option.some Jvm.ClassFile.FieldType.int)) ∈ lw_all := lw_g (lw_at lw_m15 87 rfl) rfl
theorem q3571 : (Jvm.Cond.instanceMethod ({ cls := "LastbusModel", name := "waitCost", desc := "(II)I" } : Jvm.MethodName)) ∈ lw_all := lw_g (lw_at lw_m15 89 rfl) rfl
theorem q3572 : (Jvm.Cond.selects "LastbusModel" ({ cls := "LastbusModel", name := "waitCost", desc := "(II)I" } : Jvm.MethodName) ({ cls := "LastbusModel", name := "waitCost", desc := "(II)I" } : Jvm.MethodName)) ∈ lw_all := lw_g (lw_at lw_m15 90 rfl) rfl
theorem q3573 : (Jvm.Cond.code ({ cls := "LastbusModel", name := "waitCost", desc := "(II)I" } : Jvm.MethodName) prog_15_method_86_code (4 : Nat) (Option.some Jvm.ClassFile.FieldType.int)) ∈ lw_all := lw_g (lw_at lw_m15 91 rfl) rfl
theorem q3574 : (Jvm.Cond.methodLink "LastbusModel" (306 : Nat) ({ cls := "LastbusModel", name := "costOf", desc := "(II)I" } : Jvm.MethodName)) ∈ lw_all := lw_g (lw_at lw_m15 92 rfl) rfl
theorem q3575 : (Jvm.Cond.privateMethod ({ cls := "LastbusModel", name := "costOf", desc := "(II)I" } : Jvm.MethodName)) ∈ lw_tbl := lw_at lw_m15 93 rfl
theorem q3576 : (Jvm.Cond.instanceMethod ({ cls := "LastbusModel", name := "costOf", desc := "(II)I" } : Jvm.MethodName)) ∈ lw_all := lw_g (lw_at lw_m15 94 rfl) rfl
theorem q3577 : (Jvm.Cond.code ({ cls := "LastbusModel", name := "costOf", desc := "(II)I" } : Jvm.MethodName) prog_15_method_85_code (7 : Nat) (Option.some Jvm.ClassFile.FieldType.int)) ∈ lw_all := lw_g (lw_at lw_m15 95 rfl) rfl
theorem q3578 : (Jvm.Cond.methodLink "LastbusModel" (300 : Nat) ({ cls := "LastbusModel", name := "counts", desc := "(II)Z" } : Jvm.MethodName)) ∈ lw_all := lw_g (lw_at lw_m15 96 rfl) rfl
theorem q3579 : (Jvm.Cond.privateMethod ({ cls := "LastbusModel", name := "counts", desc := "(II)Z" } : Jvm.MethodName)) ∈ lw_tbl := lw_at lw_m15 97 rfl
theorem q3580 : (Jvm.Cond.instanceMethod ({ cls := "LastbusModel", name := "counts", desc := "(II)Z" } : Jvm.MethodName)) ∈ lw_all := lw_g (lw_at lw_m15 98 rfl) rfl
theorem q3581 : (Jvm.Cond.code ({ cls := "LastbusModel", name := "counts", desc := "(II)Z" } : Jvm.MethodName) prog_15_method_83_code (3 : Nat) (Option.some Jvm.ClassFile.FieldType.boolean)) ∈ lw_all := lw_g (lw_at lw_m15 99 rfl) rfl
theorem q3582 : (Jvm.Cond.methodLink "LastbusModel" (303 : Nat) ({ cls := "LastbusModel", name := "missedBy", desc := "(I)I" } : Jvm.MethodName)) ∈ lw_all := lw_g (lw_at lw_m15 100 rfl) rfl
theorem q3583 : (Jvm.Cond.privateMethod ({ cls := "LastbusModel", name := "missedBy", desc := "(I)I" } : Jvm.MethodName)) ∈ lw_tbl := lw_at lw_m15 101 rfl
theorem q3584 : (Jvm.Cond.instanceMethod ({ cls := "LastbusModel", name := "missedBy", desc := "(I)I" } : Jvm.MethodName)) ∈ lw_all := lw_g (lw_at lw_m15 102 rfl) rfl
theorem q3585 : (Jvm.Cond.code ({ cls := "LastbusModel", name := "missedBy", desc := "(I)I" } : Jvm.MethodName) prog_15_method_84_code (5 : Nat) (Option.some Jvm.ClassFile.FieldType.int)) ∈ lw_all := lw_g (lw_at lw_m15 103 rfl) rfl
theorem q3587 : (Jvm.Cond.instanceMethod ({ cls := "LastbusModel", name := "bestWaits", desc := "(I)I" } : Jvm.MethodName)) ∈ lw_all := lw_g (lw_at lw_m15 105 rfl) rfl
theorem q3588 : (Jvm.Cond.selects "LastbusModel" ({ cls := "LastbusModel", name := "bestWaits", desc := "(I)I" } : Jvm.MethodName) ({ cls := "LastbusModel", name := "bestWaits", desc := "(I)I" } : Jvm.MethodName)) ∈ lw_all := lw_g (lw_at lw_m15 106 rfl) rfl
theorem q3589 : (Jvm.Cond.code ({ cls := "LastbusModel", name := "bestWaits", desc := "(I)I" } : Jvm.MethodName) prog_15_method_87_code (6 : Nat) (Option.some Jvm.ClassFile.FieldType.int)) ∈ lw_all := lw_g (lw_at lw_m15 107 rfl) rfl
theorem q3591 : (Jvm.Cond.instanceMethod ({ cls := "LastbusModel", name := "lost", desc := "(II)I" } : Jvm.MethodName)) ∈ lw_all := lw_g (lw_at lw_m15 109 rfl) rfl
theorem q3592 : (Jvm.Cond.selects "LastbusModel" ({ cls := "LastbusModel", name := "lost", desc := "(II)I" } : Jvm.MethodName) ({ cls := "LastbusModel", name := "lost", desc := "(II)I" } : Jvm.MethodName)) ∈ lw_all := lw_g (lw_at lw_m15 110 rfl) rfl
theorem q3593 : (Jvm.Cond.code ({ cls := "LastbusModel", name := "lost", desc := "(II)I" } : Jvm.MethodName) prog_15_method_90_code (3 : Nat) (Option.some Jvm.ClassFile.FieldType.int)) ∈ lw_all := lw_g (lw_at lw_m15 111 rfl) rfl
theorem q3594 : (Jvm.Cond.methodLink "LastbusModel" (312 : Nat) ({ cls := "LastbusModel", name := "lostBy", desc := "(II)I" } : Jvm.MethodName)) ∈ lw_all := lw_g (lw_at lw_m15 112 rfl) rfl
theorem q3595 : (Jvm.Cond.privateMethod ({ cls := "LastbusModel", name := "lostBy", desc := "(II)I" } : Jvm.MethodName)) ∈ lw_tbl := lw_at lw_m15 113 rfl
theorem q3596 : (Jvm.Cond.instanceMethod ({ cls := "LastbusModel", name := "lostBy", desc := "(II)I" } : Jvm.MethodName)) ∈ lw_all := lw_g (lw_at lw_m15 114 rfl) rfl
theorem q3597 : (Jvm.Cond.code ({ cls := "LastbusModel", name := "lostBy", desc := "(II)I" } : Jvm.MethodName) prog_15_method_89_code (6 : Nat) (Option.some Jvm.ClassFile.FieldType.int)) ∈ lw_all := lw_g (lw_at lw_m15 115 rfl) rfl
theorem q3598 : (Jvm.Cond.methodLink "LastbusModel" (309 : Nat) ({ cls := "LastbusModel", name := "tellAll", desc := "(II)V" } : Jvm.MethodName)) ∈ lw_all := lw_g (lw_at lw_m15 116 rfl) rfl
theorem q3599 : (Jvm.Cond.privateMethod ({ cls := "LastbusModel", name := "tellAll", desc := "(II)V" } : Jvm.MethodName)) ∈ lw_tbl := lw_at lw_m15 117 rfl
theorem q3600 : (Jvm.Cond.instanceMethod ({ cls := "LastbusModel", name := "tellAll", desc := "(II)V" } : Jvm.MethodName)) ∈ lw_all := lw_g (lw_at lw_m15 118 rfl) rfl
theorem q3601 : (Jvm.Cond.code ({ cls := "LastbusModel", name := "tellAll", desc := "(II)V" } : Jvm.MethodName) prog_15_method_88_code (6 : Nat) (Option.none : Option Jvm.ClassFile.FieldType)) ∈ lw_all := lw_g (lw_at lw_m15 119 rfl) rfl
theorem q3603 : (Jvm.Cond.instanceMethod ({ cls := "LastbusModel", name := "bridges", desc := "(I)I" } : Jvm.MethodName)) ∈ lw_all := lw_g (lw_at lw_m15 121 rfl) rfl
theorem q3604 : (Jvm.Cond.selects "LastbusModel" ({ cls := "LastbusModel", name := "bridges", desc := "(I)I" } : Jvm.MethodName) ({ cls := "LastbusModel", name := "bridges", desc := "(I)I" } : Jvm.MethodName)) ∈ lw_all := lw_g (lw_at lw_m15 122 rfl) rfl
theorem q3605 : (Jvm.Cond.code ({ cls := "LastbusModel", name := "bridges", desc := "(I)I" } : Jvm.MethodName) prog_15_method_91_code (4 : Nat) (Option.some Jvm.ClassFile.FieldType.int)) ∈ lw_all := lw_g (lw_at lw_m15 123 rfl) rfl
theorem q3607 : (Jvm.Cond.instanceMethod ({ cls := "LastbusModel", name := "vehicles", desc := "(I)I" } : Jvm.MethodName)) ∈ lw_all := lw_g (lw_at lw_m15 125 rfl) rfl
theorem q3608 : (Jvm.Cond.selects "LastbusModel" ({ cls := "LastbusModel", name := "vehicles", desc := "(I)I" } : Jvm.MethodName) ({ cls := "LastbusModel", name := "vehicles", desc := "(I)I" } : Jvm.MethodName)) ∈ lw_all := lw_g (lw_at lw_m15 126 rfl) rfl
theorem q3609 : (Jvm.Cond.code ({ cls := "LastbusModel", name := "vehicles", desc := "(I)I" } : Jvm.MethodName) prog_15_method_93_code (8 : Nat) (Option.some Jvm.ClassFile.FieldType.int)) ∈ lw_all := lw_g (lw_at lw_m15 127 rfl) rfl
theorem q3610 : (Jvm.Cond.methodLink "LastbusModel" (315 : Nat) ({ cls := "LastbusModel", name := "put", desc := "([III)I" } : Jvm.MethodName)) ∈ lw_all := lw_g (lw_at lw_m15 128 rfl) rfl
theorem q3611 : (Jvm.Cond.static ({ cls := "LastbusModel", name := "put", desc := "([III)I" } : Jvm.MethodName)) ∈ lw_all := lw_g (lw_at lw_m15 129 rfl) rfl
theorem q3612 : (Jvm.Cond.code ({ cls := "LastbusModel", name := "put", desc := "([III)I" } : Jvm.MethodName) prog_15_method_94_code (4 : Nat) (Option.some Jvm.ClassFile.FieldType.int)) ∈ lw_all := lw_g (lw_at lw_m15 130 rfl) rfl
theorem q3613 : (Jvm.Cond.methodLink "LastbusModel" (319 : Nat) ({ cls := "LastbusModel", name := "endStop", desc := "(I)I" } : Jvm.MethodName)) ∈ lw_all := lw_g (lw_at lw_m15 131 rfl) rfl
theorem q3614 : (Jvm.Cond.privateMethod ({ cls := "LastbusModel", name := "endStop", desc := "(I)I" } : Jvm.MethodName)) ∈ lw_tbl := lw_at lw_m15 132 rfl
theorem q3615 : (Jvm.Cond.instanceMethod ({ cls := "LastbusModel", name := "endStop", desc := "(I)I" } : Jvm.MethodName)) ∈ lw_all := lw_g (lw_at lw_m15 133 rfl) rfl
theorem q3616 : (Jvm.Cond.code ({ cls := "LastbusModel", name := "endStop", desc := "(I)I" } : Jvm.MethodName) prog_15_method_92_code (2 : Nat) (Option.some Jvm.ClassFile.FieldType.int)) ∈ lw_all := lw_g (lw_at lw_m15 134 rfl) rfl
theorem q3618 : (Jvm.Cond.instanceMethod ({ cls := "LastbusModel", name := "vehiclesByMatching", desc := "(I)I" } : Jvm.MethodName)) ∈ lw_all := lw_g (lw_at lw_m15 136 rfl) rfl
theorem q3619 : (Jvm.Cond.selects "LastbusModel" ({ cls := "LastbusModel", name := "vehiclesByMatching", desc := "(I)I" } : Jvm.MethodName) ({ cls := "LastbusModel", name := "vehiclesByMatching", desc := "(I)I" } : Jvm.MethodName)) ∈ lw_all := lw_g (lw_at lw_m15 137 rfl) rfl
theorem q3620 : (Jvm.Cond.code ({ cls := "LastbusModel", name := "vehiclesByMatching", desc := "(I)I" } : Jvm.MethodName) prog_15_method_95_code (2 : Nat) (Option.some Jvm.ClassFile.FieldType.int)) ∈ lw_all := lw_g (lw_at lw_m15 138 rfl) rfl
theorem q3621 : (Jvm.Cond.methodLink "LastbusModel" (322 : Nat) ({ cls := "LastbusModel", name := "vehicles", desc := "(I)I" } : Jvm.MethodName)) ∈ lw_all := lw_g (lw_at lw_m15 139 rfl) rfl
theorem q3623 : (Jvm.Cond.instanceMethod ({ cls := "LastbusModel", name := "gains", desc := "(IIII)I" } : Jvm.MethodName)) ∈ lw_all := lw_g (lw_at lw_m15 141 rfl) rfl
theorem q3624 : (Jvm.Cond.selects "LastbusModel" ({ cls := "LastbusModel", name := "gains", desc := "(IIII)I" } : Jvm.MethodName) ({ cls := "LastbusModel", name := "gains", desc := "(IIII)I" } : Jvm.MethodName)) ∈ lw_all := lw_g (lw_at lw_m15 142 rfl) rfl
theorem q3625 : (Jvm.Cond.code ({ cls := "LastbusModel", name := "gains", desc := "(IIII)I" } : Jvm.MethodName) prog_15_method_97_code (5 : Nat) (Option.some Jvm.ClassFile.FieldType.int)) ∈ lw_all := lw_g (lw_at lw_m15 143 rfl) rfl
theorem q3626 : (Jvm.Cond.methodLink "LastbusModel" (325 : Nat) ({ cls := "LastbusModel", name := "other", desc := "(IIIIZ)I" } : Jvm.MethodName)) ∈ lw_all := lw_g (lw_at lw_m15 144 rfl) rfl
theorem q3627 : (Jvm.Cond.privateMethod ({ cls := "LastbusModel", name := "other", desc := "(IIIIZ)I" } : Jvm.MethodName)) ∈ lw_tbl := lw_at lw_m15 145 rfl
theorem q3628 : (Jvm.Cond.instanceMethod ({ cls := "LastbusModel", name := "other", desc := "(IIIIZ)I" } : Jvm.MethodName)) ∈ lw_all := lw_g (lw_at lw_m15 146 rfl) rfl
theorem q3629 : (Jvm.Cond.code ({ cls := "LastbusModel", name := "other", desc := "(IIIIZ)I" } : Jvm.MethodName) prog_15_method_96_code (11 : Nat) (Option.some Jvm.ClassFile.FieldType.int)) ∈ lw_all := lw_g (lw_at lw_m15 147 rfl) rfl
theorem q3631 : (Jvm.Cond.instanceMethod ({ cls := "LastbusModel", name := "loses", desc := "(IIII)I" } : Jvm.MethodName)) ∈ lw_all := lw_g (lw_at lw_m15 149 rfl) rfl
theorem q3632 : (Jvm.Cond.selects "LastbusModel" ({ cls := "LastbusModel", name := "loses", desc := "(IIII)I" } : Jvm.MethodName) ({ cls := "LastbusModel", name := "loses", desc := "(IIII)I" } : Jvm.MethodName)) ∈ lw_all := lw_g (lw_at lw_m15 150 rfl) rfl
theorem q3633 : (Jvm.Cond.code ({ cls := "LastbusModel", name := "loses", desc := "(IIII)I" } : Jvm.MethodName) prog_15_method_98_code (5 : Nat) (Option.some Jvm.ClassFile.FieldType.int)) ∈ lw_all := lw_g (lw_at lw_m15 151 rfl) rfl
theorem q3635 : (Jvm.Cond.instanceMethod ({ cls := "LastbusModel", name := "reachShare", desc := "(I)F" } : Jvm.MethodName)) ∈ lw_all := lw_g (lw_at lw_m15 153 rfl) rfl
theorem q3636 : (Jvm.Cond.selects "LastbusModel" ({ cls := "LastbusModel", name := "reachShare", desc := "(I)F" } : Jvm.MethodName) ({ cls := "LastbusModel", name := "reachShare", desc := "(I)F" } : Jvm.MethodName)) ∈ lw_all := lw_g (lw_at lw_m15 154 rfl) rfl
theorem q3637 : (Jvm.Cond.code ({ cls := "LastbusModel", name := "reachShare", desc := "(I)F" } : Jvm.MethodName) prog_15_method_99_code (5 : Nat) (Option.some Jvm.ClassFile.FieldType.float)) ∈ lw_all := lw_g (lw_at lw_m15 155 rfl) rfl
theorem q3639 : (Jvm.Cond.instanceMethod ({ cls := "LastbusModel", name := "meanBetween", desc := "()D" } : Jvm.MethodName)) ∈ lw_all := lw_g (lw_at lw_m15 157 rfl) rfl
theorem q3640 : (Jvm.Cond.selects "LastbusModel" ({ cls := "LastbusModel", name := "meanBetween", desc := "()D" } : Jvm.MethodName) ({ cls := "LastbusModel", name := "meanBetween", desc := "()D" } : Jvm.MethodName)) ∈ lw_all := lw_g (lw_at lw_m15 158 rfl) rfl
theorem q3641 : (Jvm.Cond.code ({ cls := "LastbusModel", name := "meanBetween", desc := "()D" } : Jvm.MethodName) prog_15_method_100_code (5 : Nat) (Option.some Jvm.ClassFile.FieldType.double)) ∈ lw_all := lw_g (lw_at lw_m15 159 rfl) rfl
theorem q3643 : (Jvm.Cond.instanceMethod ({ cls := "LastbusModel", name := "checksum", desc := "()J" } : Jvm.MethodName)) ∈ lw_all := lw_g (lw_at lw_m15 161 rfl) rfl
theorem q3644 : (Jvm.Cond.selects "LastbusModel" ({ cls := "LastbusModel", name := "checksum", desc := "()J" } : Jvm.MethodName) ({ cls := "LastbusModel", name := "checksum", desc := "()J" } : Jvm.MethodName)) ∈ lw_all := lw_g (lw_at lw_m15 162 rfl) rfl
theorem q3645 : (Jvm.Cond.code ({ cls := "LastbusModel", name := "checksum", desc := "()J" } : Jvm.MethodName) prog_15_method_101_code (5 : Nat) (Option.some Jvm.ClassFile.FieldType.long)) ∈ lw_all := lw_g (lw_at lw_m15 163 rfl) rfl
theorem q3646 : (Jvm.Cond.constantLong "LastbusModel" (329 : Nat) (7 : Int64)) ∈ lw_all := lw_g (lw_at lw_m15 164 rfl) rfl
theorem q3647 : (Jvm.Cond.constantLong "LastbusModel" (331 : Nat) (31 : Int64)) ∈ lw_all := lw_g (lw_at lw_m15 165 rfl) rfl
theorem q3649 : (Jvm.Cond.instanceMethod ({ cls := "LastbusModel", name := "isSound", desc := "(I)Z" } : Jvm.MethodName)) ∈ lw_all := lw_g (lw_at lw_m15 167 rfl) rfl
theorem q3650 : (Jvm.Cond.selects "LastbusModel" ({ cls := "LastbusModel", name := "isSound", desc := "(I)Z" } : Jvm.MethodName) ({ cls := "LastbusModel", name := "isSound", desc := "(I)Z" } : Jvm.MethodName)) ∈ lw_all := lw_g (lw_at lw_m15 168 rfl) rfl
theorem q3651 : (Jvm.Cond.code ({ cls := "LastbusModel", name := "isSound", desc := "(I)Z" } : Jvm.MethodName) prog_15_method_102_code (2 : Nat) (Option.some Jvm.ClassFile.FieldType.boolean)) ∈ lw_all := lw_g (lw_at lw_m15 169 rfl) rfl
theorem q3675 : (Jvm.Cond.castable "LastbusModel" "java/lang/Object") ∈ lw_tbl := lw_at lw_m15 193 rfl
theorem in_X2 : ∀ w ∈ wsX20, w ∈ lw_all := lw_in wsX20 [3143, 3145, 3147, 3149, 3151, 3153, 3155, 3157, 3159, 3161, 3163, 3165, 3167, 3169, 3171, 3173, 3175, 3177, 3179, 3181, 3183, 3185, 3187, 3189, 3191, 3193, 3195, 3197, 3199, 3201, 3203, 3205, 3207, 3209, 3211, 3213, 3215, 3217, 3219, 3221, 3223, 3225, 3227, 3229, 3231, 3233, 3235, 3237, 3239, 3241] (by decide +kernel) (by decide +kernel)
