/-! Lastbus -/
set_option maxRecDepth 100000
def RX1 : String := "Lastbus"
def TX1 : u_T := fun k => match k with
  | 0 => ("Lastbus", "changes", "[I", true)
  | 1 => ("Lastbus", "walks", "[[I", true)
  | 2 => ("Lastbus", "stops", "I", false)
  | 3 => ("Lastbus", "services", "Ljava/util/ArrayList;", true)
  | 4 => ("Lastbus", "trips", "Ljava/util/ArrayList;", true)
  | 5 => ("Lastbus", "lates", "Ljava/util/TreeMap;", true)
  | 6 => ("Lastbus", "wishes", "Ljava/util/ArrayList;", true)
  | 7 => ("Lastbus", "text", "Ljava/lang/StringBuilder;", true)
  | 8 => ("Lastbus", "fault", "I", false)
  | _ => ("Lastbus", "kept", "Ljava/util/ArrayList;", false)
def tyX1 : Nat → FieldType := fun k => match k with
  | 0 => .array .int
  | 1 => .array (.array .int)
  | 2 => .int
  | 3 => .object "java/util/ArrayList"
  | 4 => .object "java/util/ArrayList"
  | 5 => .object "java/util/TreeMap"
  | 6 => .object "java/util/ArrayList"
  | 7 => .object "java/lang/StringBuilder"
  | 8 => .int
  | _ => .object "java/util/ArrayList"
abbrev wsX10 : List Cond := u_ws RX1 TX1 10
theorem nmX1 : ∀ a, a < 10 → ∀ b, b < 10 → a ≠ b → (TX1 a).2.1 ≠ (TX1 b).2.1 := by decide +kernel
theorem tyX1_ok : ∀ k, k < 10 → parseFieldDescriptor (TX1 k).2.2.1 = some (tyX1 k) := by decide +kernel
abbrev cX1_init : ByteArray := prog_1_method_1_code
def yX1_init : MethodName := ⟨RX1, "<init>", "()V"⟩
def dkwX1_init_3 : List UInt8 := [187, 0, 38, 89, 183, 0, 40, 181, 0, 41, 42, 2, 181, 0, 45, 177]
abbrev dktX1_init_3 : List UInt8 := dkwX1_init_3 ++ []
def dkwX1_init_2 : List UInt8 := [187, 0, 28, 89, 183, 0, 30, 181, 0, 31, 42, 187, 0, 18, 89, 183, 0, 20, 181, 0, 35, 42]
abbrev dktX1_init_2 : List UInt8 := dkwX1_init_2 ++ dktX1_init_3
def dkwX1_init_1 : List UInt8 := [42, 187, 0, 18, 89, 183, 0, 20, 181, 0, 21, 42, 187, 0, 18, 89, 183, 0, 20, 181, 0, 25, 42]
abbrev dktX1_init_1 : List UInt8 := dkwX1_init_1 ++ dktX1_init_2
def dkwX1_init_0 : List UInt8 := [42, 183, 0, 1, 42, 16, 12, 188, 10, 181, 0, 9, 42, 16, 12, 16, 12, 197, 0, 13, 2, 181, 0, 15]
abbrev dktX1_init_0 : List UInt8 := dkwX1_init_0 ++ dktX1_init_1
theorem dksX1_init_0 : cX1_init.data.toList.drop 0 = dktX1_init_0 := by decide +kernel
theorem dksX1_init_1 : cX1_init.data.toList.drop 24 = dktX1_init_1 := dk_seg dksX1_init_0 24 rfl rfl
theorem dksX1_init_2 : cX1_init.data.toList.drop 47 = dktX1_init_2 := dk_seg dksX1_init_1 23 rfl rfl
theorem dksX1_init_3 : cX1_init.data.toList.drop 69 = dktX1_init_3 := dk_seg dksX1_init_2 22 rfl rfl
theorem dX1_init_0 : decode cX1_init 0 = .ok (.aload_n 0, 1) := dk_42 (dk_at dksX1_init_0 0 rfl rfl)
theorem dX1_init_1 : decode cX1_init 1 = .ok (.invokespecial 1, 3) := dk_183 0 1 (dk_at dksX1_init_0 1 rfl rfl)
theorem dX1_init_4 : decode cX1_init 4 = .ok (.aload_n 0, 1) := dk_42 (dk_at dksX1_init_0 4 rfl rfl)
theorem dX1_init_5 : decode cX1_init 5 = .ok (.bipush 12, 2) := dk_16 12 (dk_at dksX1_init_0 5 rfl rfl)
theorem dX1_init_7 : decode cX1_init 7 = .ok (.newarray .int, 2) := dk_188_10 (dk_at dksX1_init_0 7 rfl rfl)
theorem dX1_init_9 : decode cX1_init 9 = .ok (.putfield 9, 3) := dk_181 0 9 (dk_at dksX1_init_0 9 rfl rfl)
theorem dX1_init_12 : decode cX1_init 12 = .ok (.aload_n 0, 1) := dk_42 (dk_at dksX1_init_0 12 rfl rfl)
theorem dX1_init_13 : decode cX1_init 13 = .ok (.bipush 12, 2) := dk_16 12 (dk_at dksX1_init_0 13 rfl rfl)
theorem dX1_init_15 : decode cX1_init 15 = .ok (.bipush 12, 2) := dk_16 12 (dk_at dksX1_init_0 15 rfl rfl)
theorem dX1_init_17 : decode cX1_init 17 = .ok (.multianewarray 13 2, 4) := by decide +kernel
theorem dX1_init_21 : decode cX1_init 21 = .ok (.putfield 15, 3) := dk_181 0 15 (dk_at dksX1_init_0 21 rfl rfl)
theorem dX1_init_24 : decode cX1_init 24 = .ok (.aload_n 0, 1) := dk_42 (dk_at dksX1_init_1 0 rfl rfl)
theorem dX1_init_25 : decode cX1_init 25 = .ok (.new 18, 3) := dk_187 0 18 (dk_at dksX1_init_1 1 rfl rfl)
theorem dX1_init_28 : decode cX1_init 28 = .ok (.dup, 1) := dk_89 (dk_at dksX1_init_1 4 rfl rfl)
theorem dX1_init_29 : decode cX1_init 29 = .ok (.invokespecial 20, 3) := dk_183 0 20 (dk_at dksX1_init_1 5 rfl rfl)
theorem dX1_init_32 : decode cX1_init 32 = .ok (.putfield 21, 3) := dk_181 0 21 (dk_at dksX1_init_1 8 rfl rfl)
theorem dX1_init_35 : decode cX1_init 35 = .ok (.aload_n 0, 1) := dk_42 (dk_at dksX1_init_1 11 rfl rfl)
theorem dX1_init_36 : decode cX1_init 36 = .ok (.new 18, 3) := dk_187 0 18 (dk_at dksX1_init_1 12 rfl rfl)
theorem dX1_init_39 : decode cX1_init 39 = .ok (.dup, 1) := dk_89 (dk_at dksX1_init_1 15 rfl rfl)
theorem dX1_init_40 : decode cX1_init 40 = .ok (.invokespecial 20, 3) := dk_183 0 20 (dk_at dksX1_init_1 16 rfl rfl)
theorem dX1_init_43 : decode cX1_init 43 = .ok (.putfield 25, 3) := dk_181 0 25 (dk_at dksX1_init_1 19 rfl rfl)
theorem dX1_init_46 : decode cX1_init 46 = .ok (.aload_n 0, 1) := dk_42 (dk_at dksX1_init_1 22 rfl rfl)
theorem dX1_init_47 : decode cX1_init 47 = .ok (.new 28, 3) := dk_187 0 28 (dk_at dksX1_init_2 0 rfl rfl)
theorem dX1_init_50 : decode cX1_init 50 = .ok (.dup, 1) := dk_89 (dk_at dksX1_init_2 3 rfl rfl)
theorem dX1_init_51 : decode cX1_init 51 = .ok (.invokespecial 30, 3) := dk_183 0 30 (dk_at dksX1_init_2 4 rfl rfl)
theorem dX1_init_54 : decode cX1_init 54 = .ok (.putfield 31, 3) := dk_181 0 31 (dk_at dksX1_init_2 7 rfl rfl)
theorem dX1_init_57 : decode cX1_init 57 = .ok (.aload_n 0, 1) := dk_42 (dk_at dksX1_init_2 10 rfl rfl)
theorem dX1_init_58 : decode cX1_init 58 = .ok (.new 18, 3) := dk_187 0 18 (dk_at dksX1_init_2 11 rfl rfl)
theorem dX1_init_61 : decode cX1_init 61 = .ok (.dup, 1) := dk_89 (dk_at dksX1_init_2 14 rfl rfl)
theorem dX1_init_62 : decode cX1_init 62 = .ok (.invokespecial 20, 3) := dk_183 0 20 (dk_at dksX1_init_2 15 rfl rfl)
theorem dX1_init_65 : decode cX1_init 65 = .ok (.putfield 35, 3) := dk_181 0 35 (dk_at dksX1_init_2 18 rfl rfl)
theorem dX1_init_68 : decode cX1_init 68 = .ok (.aload_n 0, 1) := dk_42 (dk_at dksX1_init_2 21 rfl rfl)
theorem dX1_init_69 : decode cX1_init 69 = .ok (.new 38, 3) := dk_187 0 38 (dk_at dksX1_init_3 0 rfl rfl)
theorem dX1_init_72 : decode cX1_init 72 = .ok (.dup, 1) := dk_89 (dk_at dksX1_init_3 3 rfl rfl)
theorem dX1_init_73 : decode cX1_init 73 = .ok (.invokespecial 40, 3) := dk_183 0 40 (dk_at dksX1_init_3 4 rfl rfl)
theorem dX1_init_76 : decode cX1_init 76 = .ok (.putfield 41, 3) := dk_181 0 41 (dk_at dksX1_init_3 7 rfl rfl)
theorem dX1_init_79 : decode cX1_init 79 = .ok (.aload_n 0, 1) := dk_42 (dk_at dksX1_init_3 10 rfl rfl)
theorem dX1_init_80 : decode cX1_init 80 = .ok (.iconst (-1), 1) := dk_2 (dk_at dksX1_init_3 11 rfl rfl)
theorem dX1_init_81 : decode cX1_init 81 = .ok (.putfield 45, 3) := dk_181 0 45 (dk_at dksX1_init_3 12 rfl rfl)
theorem dX1_init_84 : decode cX1_init 84 = .ok (.return_, 1) := dk_177 (dk_at dksX1_init_3 15 rfl rfl)
abbrev cX1_trips : ByteArray := prog_1_method_27_code
def yX1_trips : MethodName := ⟨RX1, "trips", "()I"⟩
def dkwX1_trips_0 : List UInt8 := [42, 180, 0, 25, 182, 0, 71, 172]
abbrev dktX1_trips_0 : List UInt8 := dkwX1_trips_0 ++ []
theorem dksX1_trips_0 : cX1_trips.data.toList.drop 0 = dktX1_trips_0 := by decide +kernel
theorem dX1_trips_0 : decode cX1_trips 0 = .ok (.aload_n 0, 1) := dk_42 (dk_at dksX1_trips_0 0 rfl rfl)
theorem dX1_trips_1 : decode cX1_trips 1 = .ok (.getfield 25, 3) := dk_180 0 25 (dk_at dksX1_trips_0 1 rfl rfl)
theorem dX1_trips_4 : decode cX1_trips 4 = .ok (.invokevirtual 71, 3) := dk_182 0 71 (dk_at dksX1_trips_0 4 rfl rfl)
theorem dX1_trips_7 : decode cX1_trips 7 = .ok (.ireturn, 1) := dk_172 (dk_at dksX1_trips_0 7 rfl rfl)
abbrev cX1_erase : ByteArray := prog_1_method_34_code
def yX1_erase : MethodName := ⟨RX1, "erase", "()I"⟩
def dkwX1_erase_0 : List UInt8 := [42, 180, 0, 41, 182, 0, 186, 60, 42, 180, 0, 41, 3, 182, 0, 196, 27, 172]
abbrev dktX1_erase_0 : List UInt8 := dkwX1_erase_0 ++ []
theorem dksX1_erase_0 : cX1_erase.data.toList.drop 0 = dktX1_erase_0 := by decide +kernel
theorem dX1_erase_0 : decode cX1_erase 0 = .ok (.aload_n 0, 1) := dk_42 (dk_at dksX1_erase_0 0 rfl rfl)
theorem dX1_erase_1 : decode cX1_erase 1 = .ok (.getfield 41, 3) := dk_180 0 41 (dk_at dksX1_erase_0 1 rfl rfl)
theorem dX1_erase_4 : decode cX1_erase 4 = .ok (.invokevirtual 186, 3) := dk_182 0 186 (dk_at dksX1_erase_0 4 rfl rfl)
theorem dX1_erase_7 : decode cX1_erase 7 = .ok (.istore_n 1, 1) := dk_60 (dk_at dksX1_erase_0 7 rfl rfl)
theorem dX1_erase_8 : decode cX1_erase 8 = .ok (.aload_n 0, 1) := dk_42 (dk_at dksX1_erase_0 8 rfl rfl)
theorem dX1_erase_9 : decode cX1_erase 9 = .ok (.getfield 41, 3) := dk_180 0 41 (dk_at dksX1_erase_0 9 rfl rfl)
theorem dX1_erase_12 : decode cX1_erase 12 = .ok (.iconst 0, 1) := dk_3 (dk_at dksX1_erase_0 12 rfl rfl)
theorem dX1_erase_13 : decode cX1_erase 13 = .ok (.invokevirtual 196, 3) := dk_182 0 196 (dk_at dksX1_erase_0 13 rfl rfl)
theorem dX1_erase_16 : decode cX1_erase 16 = .ok (.iload_n 1, 1) := dk_27 (dk_at dksX1_erase_0 16 rfl rfl)
theorem dX1_erase_17 : decode cX1_erase 17 = .ok (.ireturn, 1) := dk_172 (dk_at dksX1_erase_0 17 rfl rfl)
abbrev cX1_onTime : ByteArray := prog_1_method_41_code
def yX1_onTime : MethodName := ⟨RX1, "onTime", "()I"⟩
def dkwX1_onTime_0 : List UInt8 := [42, 180, 0, 31, 182, 0, 249, 60, 42, 180, 0, 31, 182, 1, 14, 27, 172]
abbrev dktX1_onTime_0 : List UInt8 := dkwX1_onTime_0 ++ []
theorem dksX1_onTime_0 : cX1_onTime.data.toList.drop 0 = dktX1_onTime_0 := by decide +kernel
theorem dX1_onTime_0 : decode cX1_onTime 0 = .ok (.aload_n 0, 1) := dk_42 (dk_at dksX1_onTime_0 0 rfl rfl)
theorem dX1_onTime_1 : decode cX1_onTime 1 = .ok (.getfield 31, 3) := dk_180 0 31 (dk_at dksX1_onTime_0 1 rfl rfl)
theorem dX1_onTime_4 : decode cX1_onTime 4 = .ok (.invokevirtual 249, 3) := dk_182 0 249 (dk_at dksX1_onTime_0 4 rfl rfl)
theorem dX1_onTime_7 : decode cX1_onTime 7 = .ok (.istore_n 1, 1) := dk_60 (dk_at dksX1_onTime_0 7 rfl rfl)
theorem dX1_onTime_8 : decode cX1_onTime 8 = .ok (.aload_n 0, 1) := dk_42 (dk_at dksX1_onTime_0 8 rfl rfl)
theorem dX1_onTime_9 : decode cX1_onTime 9 = .ok (.getfield 31, 3) := dk_180 0 31 (dk_at dksX1_onTime_0 9 rfl rfl)
theorem dX1_onTime_12 : decode cX1_onTime 12 = .ok (.invokevirtual 270, 3) := dk_182 1 14 (dk_at dksX1_onTime_0 12 rfl rfl)
theorem dX1_onTime_15 : decode cX1_onTime 15 = .ok (.iload_n 1, 1) := dk_27 (dk_at dksX1_onTime_0 15 rfl rfl)
theorem dX1_onTime_16 : decode cX1_onTime 16 = .ok (.ireturn, 1) := dk_172 (dk_at dksX1_onTime_0 16 rfl rfl)
abbrev cX1_dropWishes : ByteArray := prog_1_method_81_code
def yX1_dropWishes : MethodName := ⟨RX1, "dropWishes", "()I"⟩
def dkwX1_dropWishes_0 : List UInt8 := [42, 180, 0, 35, 182, 0, 71, 60, 42, 180, 0, 35, 182, 2, 34, 27, 172]
abbrev dktX1_dropWishes_0 : List UInt8 := dkwX1_dropWishes_0 ++ []
theorem dksX1_dropWishes_0 : cX1_dropWishes.data.toList.drop 0 = dktX1_dropWishes_0 := by decide +kernel
theorem dX1_dropWishes_0 : decode cX1_dropWishes 0 = .ok (.aload_n 0, 1) := dk_42 (dk_at dksX1_dropWishes_0 0 rfl rfl)
theorem dX1_dropWishes_1 : decode cX1_dropWishes 1 = .ok (.getfield 35, 3) := dk_180 0 35 (dk_at dksX1_dropWishes_0 1 rfl rfl)
theorem dX1_dropWishes_4 : decode cX1_dropWishes 4 = .ok (.invokevirtual 71, 3) := dk_182 0 71 (dk_at dksX1_dropWishes_0 4 rfl rfl)
theorem dX1_dropWishes_7 : decode cX1_dropWishes 7 = .ok (.istore_n 1, 1) := dk_60 (dk_at dksX1_dropWishes_0 7 rfl rfl)
theorem dX1_dropWishes_8 : decode cX1_dropWishes 8 = .ok (.aload_n 0, 1) := dk_42 (dk_at dksX1_dropWishes_0 8 rfl rfl)
theorem dX1_dropWishes_9 : decode cX1_dropWishes 9 = .ok (.getfield 35, 3) := dk_180 0 35 (dk_at dksX1_dropWishes_0 9 rfl rfl)
theorem dX1_dropWishes_12 : decode cX1_dropWishes 12 = .ok (.invokevirtual 546, 3) := dk_182 2 34 (dk_at dksX1_dropWishes_0 12 rfl rfl)
theorem dX1_dropWishes_15 : decode cX1_dropWishes 15 = .ok (.iload_n 1, 1) := dk_27 (dk_at dksX1_dropWishes_0 15 rfl rfl)
theorem dX1_dropWishes_16 : decode cX1_dropWishes 16 = .ok (.ireturn, 1) := dk_172 (dk_at dksX1_dropWishes_0 16 rfl rfl)
abbrev cX1_checksum : ByteArray := prog_1_method_108_code
def yX1_checksum : MethodName := ⟨RX1, "checksum", "()J"⟩
def dkwX1_checksum_9 : List UInt8 := [132, 5, 1, 167, 255, 223, 167, 255, 197, 20, 2, 122, 31, 105, 42, 180, 0, 41, 182, 0, 186, 133, 97, 173]
abbrev dktX1_checksum_9 : List UInt8 := dkwX1_checksum_9 ++ []
def dkwX1_checksum_8 : List UInt8 := [20, 2, 122, 31, 105, 25, 4, 21, 5, 182, 0, 139, 153, 0, 7, 4, 167, 0, 4, 3, 133, 97, 64]
abbrev dktX1_checksum_8 : List UInt8 := dkwX1_checksum_8 ++ dktX1_checksum_9
def dkwX1_checksum_7 : List UInt8 := [153, 0, 56, 45, 185, 1, 44, 1, 0, 192, 0, 94, 58, 4, 3, 54, 5, 21, 5, 16, 28, 162, 0, 32]
abbrev dktX1_checksum_7 : List UInt8 := dkwX1_checksum_7 ++ dktX1_checksum_8
def dkwX1_checksum_6 : List UInt8 := [133, 97, 64, 167, 255, 195, 167, 255, 149, 42, 180, 0, 21, 182, 1, 142, 78, 45, 185, 1, 39, 1, 0]
abbrev dktX1_checksum_6 : List UInt8 := dkwX1_checksum_6 ++ dktX1_checksum_7
def dkwX1_checksum_5 : List UInt8 := [64, 20, 2, 122, 31, 105, 25, 6, 182, 0, 174, 133, 97, 64, 20, 2, 122, 31, 105, 25, 6, 182, 0, 160]
abbrev dktX1_checksum_5 : List UInt8 := dkwX1_checksum_5 ++ dktX1_checksum_6
def dkwX1_checksum_4 : List UInt8 := [25, 5, 185, 1, 44, 1, 0, 192, 0, 92, 58, 6, 20, 2, 122, 31, 105, 25, 6, 182, 0, 163, 133, 97]
abbrev dktX1_checksum_4 : List UInt8 := dkwX1_checksum_4 ++ dktX1_checksum_5
def dkwX1_checksum_3 : List UInt8 := [133, 97, 64, 25, 4, 180, 0, 89, 182, 1, 142, 58, 5, 25, 5, 185, 1, 39, 1, 0, 153, 0, 57]
abbrev dktX1_checksum_3 : List UInt8 := dkwX1_checksum_3 ++ dktX1_checksum_4
def dkwX1_checksum_2 : List UInt8 := [153, 0, 104, 45, 185, 1, 44, 1, 0, 192, 0, 83, 58, 4, 20, 2, 122, 31, 105, 25, 4, 180, 1, 17]
abbrev dktX1_checksum_2 : List UInt8 := dkwX1_checksum_2 ++ dktX1_checksum_3
def dkwX1_checksum_1 : List UInt8 := [46, 133, 97, 64, 132, 3, 1, 167, 255, 231, 42, 180, 0, 25, 182, 1, 142, 78, 45, 185, 1, 39, 1, 0]
abbrev dktX1_checksum_1 : List UInt8 := dkwX1_checksum_1 ++ dktX1_checksum_2
def dkwX1_checksum_0 : List UInt8 := [20, 2, 120, 64, 3, 62, 29, 42, 180, 0, 68, 162, 0, 23, 20, 2, 122, 31, 105, 42, 180, 0, 9, 29]
abbrev dktX1_checksum_0 : List UInt8 := dkwX1_checksum_0 ++ dktX1_checksum_1
theorem dksX1_checksum_0 : cX1_checksum.data.toList.drop 0 = dktX1_checksum_0 := by decide +kernel
theorem dksX1_checksum_1 : cX1_checksum.data.toList.drop 24 = dktX1_checksum_1 := dk_seg dksX1_checksum_0 24 rfl rfl
theorem dksX1_checksum_2 : cX1_checksum.data.toList.drop 48 = dktX1_checksum_2 := dk_seg dksX1_checksum_1 24 rfl rfl
theorem dksX1_checksum_3 : cX1_checksum.data.toList.drop 72 = dktX1_checksum_3 := dk_seg dksX1_checksum_2 24 rfl rfl
theorem dksX1_checksum_4 : cX1_checksum.data.toList.drop 95 = dktX1_checksum_4 := dk_seg dksX1_checksum_3 23 rfl rfl
theorem dksX1_checksum_5 : cX1_checksum.data.toList.drop 119 = dktX1_checksum_5 := dk_seg dksX1_checksum_4 24 rfl rfl
theorem dksX1_checksum_6 : cX1_checksum.data.toList.drop 143 = dktX1_checksum_6 := dk_seg dksX1_checksum_5 24 rfl rfl
theorem dksX1_checksum_7 : cX1_checksum.data.toList.drop 166 = dktX1_checksum_7 := dk_seg dksX1_checksum_6 23 rfl rfl
theorem dksX1_checksum_8 : cX1_checksum.data.toList.drop 190 = dktX1_checksum_8 := dk_seg dksX1_checksum_7 24 rfl rfl
theorem dksX1_checksum_9 : cX1_checksum.data.toList.drop 213 = dktX1_checksum_9 := dk_seg dksX1_checksum_8 23 rfl rfl
theorem dX1_checksum_0 : decode cX1_checksum 0 = .ok (.ldc2_w 632, 3) := dk_20 2 120 (dk_at dksX1_checksum_0 0 rfl rfl)
theorem dX1_checksum_3 : decode cX1_checksum 3 = .ok (.lstore_n 1, 1) := dk_64 (dk_at dksX1_checksum_0 3 rfl rfl)
theorem dX1_checksum_4 : decode cX1_checksum 4 = .ok (.iconst 0, 1) := dk_3 (dk_at dksX1_checksum_0 4 rfl rfl)
theorem dX1_checksum_5 : decode cX1_checksum 5 = .ok (.istore_n 3, 1) := dk_62 (dk_at dksX1_checksum_0 5 rfl rfl)
theorem dX1_checksum_6 : decode cX1_checksum 6 = .ok (.iload_n 3, 1) := dk_29 (dk_at dksX1_checksum_0 6 rfl rfl)
theorem dX1_checksum_7 : decode cX1_checksum 7 = .ok (.aload_n 0, 1) := dk_42 (dk_at dksX1_checksum_0 7 rfl rfl)
theorem dX1_checksum_8 : decode cX1_checksum 8 = .ok (.getfield 68, 3) := dk_180 0 68 (dk_at dksX1_checksum_0 8 rfl rfl)
theorem dX1_checksum_11 : decode cX1_checksum 11 = .ok (.if_icmp .ge 23, 3) := dk_162 0 23 (dk_at dksX1_checksum_0 11 rfl rfl)
theorem dX1_checksum_14 : decode cX1_checksum 14 = .ok (.ldc2_w 634, 3) := dk_20 2 122 (dk_at dksX1_checksum_0 14 rfl rfl)
theorem dX1_checksum_17 : decode cX1_checksum 17 = .ok (.lload_n 1, 1) := dk_31 (dk_at dksX1_checksum_0 17 rfl rfl)
theorem dX1_checksum_18 : decode cX1_checksum 18 = .ok (.lmul, 1) := dk_105 (dk_at dksX1_checksum_0 18 rfl rfl)
theorem dX1_checksum_19 : decode cX1_checksum 19 = .ok (.aload_n 0, 1) := dk_42 (dk_at dksX1_checksum_0 19 rfl rfl)
theorem dX1_checksum_20 : decode cX1_checksum 20 = .ok (.getfield 9, 3) := dk_180 0 9 (dk_at dksX1_checksum_0 20 rfl rfl)
theorem dX1_checksum_23 : decode cX1_checksum 23 = .ok (.iload_n 3, 1) := dk_29 (dk_at dksX1_checksum_0 23 rfl rfl)
theorem dX1_checksum_24 : decode cX1_checksum 24 = .ok (.iaload, 1) := dk_46 (dk_at dksX1_checksum_1 0 rfl rfl)
theorem dX1_checksum_25 : decode cX1_checksum 25 = .ok (.i2l, 1) := dk_133 (dk_at dksX1_checksum_1 1 rfl rfl)
theorem dX1_checksum_26 : decode cX1_checksum 26 = .ok (.ladd, 1) := dk_97 (dk_at dksX1_checksum_1 2 rfl rfl)
theorem dX1_checksum_27 : decode cX1_checksum 27 = .ok (.lstore_n 1, 1) := dk_64 (dk_at dksX1_checksum_1 3 rfl rfl)
theorem dX1_checksum_28 : decode cX1_checksum 28 = .ok (.iinc 3 1, 3) := dk_132 3 1 (dk_at dksX1_checksum_1 4 rfl rfl)
theorem dX1_checksum_31 : decode cX1_checksum 31 = .ok (.goto (-25), 3) := dk_167 255 231 (dk_at dksX1_checksum_1 7 rfl rfl)
theorem dX1_checksum_34 : decode cX1_checksum 34 = .ok (.aload_n 0, 1) := dk_42 (dk_at dksX1_checksum_1 10 rfl rfl)
theorem dX1_checksum_35 : decode cX1_checksum 35 = .ok (.getfield 25, 3) := dk_180 0 25 (dk_at dksX1_checksum_1 11 rfl rfl)
theorem dX1_checksum_38 : decode cX1_checksum 38 = .ok (.invokevirtual 398, 3) := dk_182 1 142 (dk_at dksX1_checksum_1 14 rfl rfl)
theorem dX1_checksum_41 : decode cX1_checksum 41 = .ok (.astore_n 3, 1) := dk_78 (dk_at dksX1_checksum_1 17 rfl rfl)
theorem dX1_checksum_42 : decode cX1_checksum 42 = .ok (.aload_n 3, 1) := dk_45 (dk_at dksX1_checksum_1 18 rfl rfl)
theorem dX1_checksum_43 : decode cX1_checksum 43 = .ok (.invokeinterface 295 1, 5) := by decide +kernel
theorem dX1_checksum_48 : decode cX1_checksum 48 = .ok (.ifCond .eq 104, 3) := dk_153 0 104 (dk_at dksX1_checksum_2 0 rfl rfl)
theorem dX1_checksum_51 : decode cX1_checksum 51 = .ok (.aload_n 3, 1) := dk_45 (dk_at dksX1_checksum_2 3 rfl rfl)
theorem dX1_checksum_52 : decode cX1_checksum 52 = .ok (.invokeinterface 300 1, 5) := by decide +kernel
theorem dX1_checksum_57 : decode cX1_checksum 57 = .ok (.checkcast 83, 3) := dk_192 0 83 (dk_at dksX1_checksum_2 9 rfl rfl)
theorem dX1_checksum_60 : decode cX1_checksum 60 = .ok (.astore 4, 2) := dk_58 4 (dk_at dksX1_checksum_2 12 rfl rfl)
theorem dX1_checksum_62 : decode cX1_checksum 62 = .ok (.ldc2_w 634, 3) := dk_20 2 122 (dk_at dksX1_checksum_2 14 rfl rfl)
theorem dX1_checksum_65 : decode cX1_checksum 65 = .ok (.lload_n 1, 1) := dk_31 (dk_at dksX1_checksum_2 17 rfl rfl)
theorem dX1_checksum_66 : decode cX1_checksum 66 = .ok (.lmul, 1) := dk_105 (dk_at dksX1_checksum_2 18 rfl rfl)
theorem dX1_checksum_67 : decode cX1_checksum 67 = .ok (.aload 4, 2) := dk_25 4 (dk_at dksX1_checksum_2 19 rfl rfl)
theorem dX1_checksum_69 : decode cX1_checksum 69 = .ok (.getfield 273, 3) := dk_180 1 17 (dk_at dksX1_checksum_2 21 rfl rfl)
theorem dX1_checksum_72 : decode cX1_checksum 72 = .ok (.i2l, 1) := dk_133 (dk_at dksX1_checksum_3 0 rfl rfl)
theorem dX1_checksum_73 : decode cX1_checksum 73 = .ok (.ladd, 1) := dk_97 (dk_at dksX1_checksum_3 1 rfl rfl)
theorem dX1_checksum_74 : decode cX1_checksum 74 = .ok (.lstore_n 1, 1) := dk_64 (dk_at dksX1_checksum_3 2 rfl rfl)
theorem dX1_checksum_75 : decode cX1_checksum 75 = .ok (.aload 4, 2) := dk_25 4 (dk_at dksX1_checksum_3 3 rfl rfl)
theorem dX1_checksum_77 : decode cX1_checksum 77 = .ok (.getfield 89, 3) := dk_180 0 89 (dk_at dksX1_checksum_3 5 rfl rfl)
theorem dX1_checksum_80 : decode cX1_checksum 80 = .ok (.invokevirtual 398, 3) := dk_182 1 142 (dk_at dksX1_checksum_3 8 rfl rfl)
theorem dX1_checksum_83 : decode cX1_checksum 83 = .ok (.astore 5, 2) := dk_58 5 (dk_at dksX1_checksum_3 11 rfl rfl)
theorem dX1_checksum_85 : decode cX1_checksum 85 = .ok (.aload 5, 2) := dk_25 5 (dk_at dksX1_checksum_3 13 rfl rfl)
theorem dX1_checksum_87 : decode cX1_checksum 87 = .ok (.invokeinterface 295 1, 5) := by decide +kernel
theorem dX1_checksum_92 : decode cX1_checksum 92 = .ok (.ifCond .eq 57, 3) := dk_153 0 57 (dk_at dksX1_checksum_3 20 rfl rfl)
theorem dX1_checksum_95 : decode cX1_checksum 95 = .ok (.aload 5, 2) := dk_25 5 (dk_at dksX1_checksum_4 0 rfl rfl)
theorem dX1_checksum_97 : decode cX1_checksum 97 = .ok (.invokeinterface 300 1, 5) := by decide +kernel
theorem dX1_checksum_102 : decode cX1_checksum 102 = .ok (.checkcast 92, 3) := dk_192 0 92 (dk_at dksX1_checksum_4 7 rfl rfl)
theorem dX1_checksum_105 : decode cX1_checksum 105 = .ok (.astore 6, 2) := dk_58 6 (dk_at dksX1_checksum_4 10 rfl rfl)
theorem dX1_checksum_107 : decode cX1_checksum 107 = .ok (.ldc2_w 634, 3) := dk_20 2 122 (dk_at dksX1_checksum_4 12 rfl rfl)
theorem dX1_checksum_110 : decode cX1_checksum 110 = .ok (.lload_n 1, 1) := dk_31 (dk_at dksX1_checksum_4 15 rfl rfl)
theorem dX1_checksum_111 : decode cX1_checksum 111 = .ok (.lmul, 1) := dk_105 (dk_at dksX1_checksum_4 16 rfl rfl)
theorem dX1_checksum_112 : decode cX1_checksum 112 = .ok (.aload 6, 2) := dk_25 6 (dk_at dksX1_checksum_4 17 rfl rfl)
theorem dX1_checksum_114 : decode cX1_checksum 114 = .ok (.invokevirtual 163, 3) := dk_182 0 163 (dk_at dksX1_checksum_4 19 rfl rfl)
theorem dX1_checksum_117 : decode cX1_checksum 117 = .ok (.i2l, 1) := dk_133 (dk_at dksX1_checksum_4 22 rfl rfl)
theorem dX1_checksum_118 : decode cX1_checksum 118 = .ok (.ladd, 1) := dk_97 (dk_at dksX1_checksum_4 23 rfl rfl)
theorem dX1_checksum_119 : decode cX1_checksum 119 = .ok (.lstore_n 1, 1) := dk_64 (dk_at dksX1_checksum_5 0 rfl rfl)
theorem dX1_checksum_120 : decode cX1_checksum 120 = .ok (.ldc2_w 634, 3) := dk_20 2 122 (dk_at dksX1_checksum_5 1 rfl rfl)
theorem dX1_checksum_123 : decode cX1_checksum 123 = .ok (.lload_n 1, 1) := dk_31 (dk_at dksX1_checksum_5 4 rfl rfl)
theorem dX1_checksum_124 : decode cX1_checksum 124 = .ok (.lmul, 1) := dk_105 (dk_at dksX1_checksum_5 5 rfl rfl)
theorem dX1_checksum_125 : decode cX1_checksum 125 = .ok (.aload 6, 2) := dk_25 6 (dk_at dksX1_checksum_5 6 rfl rfl)
theorem dX1_checksum_127 : decode cX1_checksum 127 = .ok (.invokevirtual 174, 3) := dk_182 0 174 (dk_at dksX1_checksum_5 8 rfl rfl)
theorem dX1_checksum_130 : decode cX1_checksum 130 = .ok (.i2l, 1) := dk_133 (dk_at dksX1_checksum_5 11 rfl rfl)
theorem dX1_checksum_131 : decode cX1_checksum 131 = .ok (.ladd, 1) := dk_97 (dk_at dksX1_checksum_5 12 rfl rfl)
theorem dX1_checksum_132 : decode cX1_checksum 132 = .ok (.lstore_n 1, 1) := dk_64 (dk_at dksX1_checksum_5 13 rfl rfl)
theorem dX1_checksum_133 : decode cX1_checksum 133 = .ok (.ldc2_w 634, 3) := dk_20 2 122 (dk_at dksX1_checksum_5 14 rfl rfl)
theorem dX1_checksum_136 : decode cX1_checksum 136 = .ok (.lload_n 1, 1) := dk_31 (dk_at dksX1_checksum_5 17 rfl rfl)
theorem dX1_checksum_137 : decode cX1_checksum 137 = .ok (.lmul, 1) := dk_105 (dk_at dksX1_checksum_5 18 rfl rfl)
theorem dX1_checksum_138 : decode cX1_checksum 138 = .ok (.aload 6, 2) := dk_25 6 (dk_at dksX1_checksum_5 19 rfl rfl)
theorem dX1_checksum_140 : decode cX1_checksum 140 = .ok (.invokevirtual 160, 3) := dk_182 0 160 (dk_at dksX1_checksum_5 21 rfl rfl)
theorem dX1_checksum_143 : decode cX1_checksum 143 = .ok (.i2l, 1) := dk_133 (dk_at dksX1_checksum_6 0 rfl rfl)
theorem dX1_checksum_144 : decode cX1_checksum 144 = .ok (.ladd, 1) := dk_97 (dk_at dksX1_checksum_6 1 rfl rfl)
theorem dX1_checksum_145 : decode cX1_checksum 145 = .ok (.lstore_n 1, 1) := dk_64 (dk_at dksX1_checksum_6 2 rfl rfl)
theorem dX1_checksum_146 : decode cX1_checksum 146 = .ok (.goto (-61), 3) := dk_167 255 195 (dk_at dksX1_checksum_6 3 rfl rfl)
theorem dX1_checksum_149 : decode cX1_checksum 149 = .ok (.goto (-107), 3) := dk_167 255 149 (dk_at dksX1_checksum_6 6 rfl rfl)
theorem dX1_checksum_152 : decode cX1_checksum 152 = .ok (.aload_n 0, 1) := dk_42 (dk_at dksX1_checksum_6 9 rfl rfl)
theorem dX1_checksum_153 : decode cX1_checksum 153 = .ok (.getfield 21, 3) := dk_180 0 21 (dk_at dksX1_checksum_6 10 rfl rfl)
theorem dX1_checksum_156 : decode cX1_checksum 156 = .ok (.invokevirtual 398, 3) := dk_182 1 142 (dk_at dksX1_checksum_6 13 rfl rfl)
theorem dX1_checksum_159 : decode cX1_checksum 159 = .ok (.astore_n 3, 1) := dk_78 (dk_at dksX1_checksum_6 16 rfl rfl)
theorem dX1_checksum_160 : decode cX1_checksum 160 = .ok (.aload_n 3, 1) := dk_45 (dk_at dksX1_checksum_6 17 rfl rfl)
theorem dX1_checksum_161 : decode cX1_checksum 161 = .ok (.invokeinterface 295 1, 5) := by decide +kernel
theorem dX1_checksum_166 : decode cX1_checksum 166 = .ok (.ifCond .eq 56, 3) := dk_153 0 56 (dk_at dksX1_checksum_7 0 rfl rfl)
theorem dX1_checksum_169 : decode cX1_checksum 169 = .ok (.aload_n 3, 1) := dk_45 (dk_at dksX1_checksum_7 3 rfl rfl)
theorem dX1_checksum_170 : decode cX1_checksum 170 = .ok (.invokeinterface 300 1, 5) := by decide +kernel
theorem dX1_checksum_175 : decode cX1_checksum 175 = .ok (.checkcast 94, 3) := dk_192 0 94 (dk_at dksX1_checksum_7 9 rfl rfl)
theorem dX1_checksum_178 : decode cX1_checksum 178 = .ok (.astore 4, 2) := dk_58 4 (dk_at dksX1_checksum_7 12 rfl rfl)
theorem dX1_checksum_180 : decode cX1_checksum 180 = .ok (.iconst 0, 1) := dk_3 (dk_at dksX1_checksum_7 14 rfl rfl)
theorem dX1_checksum_181 : decode cX1_checksum 181 = .ok (.istore 5, 2) := dk_54 5 (dk_at dksX1_checksum_7 15 rfl rfl)
theorem dX1_checksum_183 : decode cX1_checksum 183 = .ok (.iload 5, 2) := dk_21 5 (dk_at dksX1_checksum_7 17 rfl rfl)
theorem dX1_checksum_185 : decode cX1_checksum 185 = .ok (.bipush 28, 2) := dk_16 28 (dk_at dksX1_checksum_7 19 rfl rfl)
theorem dX1_checksum_187 : decode cX1_checksum 187 = .ok (.if_icmp .ge 32, 3) := dk_162 0 32 (dk_at dksX1_checksum_7 21 rfl rfl)
theorem dX1_checksum_190 : decode cX1_checksum 190 = .ok (.ldc2_w 634, 3) := dk_20 2 122 (dk_at dksX1_checksum_8 0 rfl rfl)
theorem dX1_checksum_193 : decode cX1_checksum 193 = .ok (.lload_n 1, 1) := dk_31 (dk_at dksX1_checksum_8 3 rfl rfl)
theorem dX1_checksum_194 : decode cX1_checksum 194 = .ok (.lmul, 1) := dk_105 (dk_at dksX1_checksum_8 4 rfl rfl)
theorem dX1_checksum_195 : decode cX1_checksum 195 = .ok (.aload 4, 2) := dk_25 4 (dk_at dksX1_checksum_8 5 rfl rfl)
theorem dX1_checksum_197 : decode cX1_checksum 197 = .ok (.iload 5, 2) := dk_21 5 (dk_at dksX1_checksum_8 7 rfl rfl)
theorem dX1_checksum_199 : decode cX1_checksum 199 = .ok (.invokevirtual 139, 3) := dk_182 0 139 (dk_at dksX1_checksum_8 9 rfl rfl)
theorem dX1_checksum_202 : decode cX1_checksum 202 = .ok (.ifCond .eq 7, 3) := dk_153 0 7 (dk_at dksX1_checksum_8 12 rfl rfl)
theorem dX1_checksum_205 : decode cX1_checksum 205 = .ok (.iconst 1, 1) := dk_4 (dk_at dksX1_checksum_8 15 rfl rfl)
theorem dX1_checksum_206 : decode cX1_checksum 206 = .ok (.goto 4, 3) := dk_167 0 4 (dk_at dksX1_checksum_8 16 rfl rfl)
theorem dX1_checksum_209 : decode cX1_checksum 209 = .ok (.iconst 0, 1) := dk_3 (dk_at dksX1_checksum_8 19 rfl rfl)
theorem dX1_checksum_210 : decode cX1_checksum 210 = .ok (.i2l, 1) := dk_133 (dk_at dksX1_checksum_8 20 rfl rfl)
theorem dX1_checksum_211 : decode cX1_checksum 211 = .ok (.ladd, 1) := dk_97 (dk_at dksX1_checksum_8 21 rfl rfl)
theorem dX1_checksum_212 : decode cX1_checksum 212 = .ok (.lstore_n 1, 1) := dk_64 (dk_at dksX1_checksum_8 22 rfl rfl)
theorem dX1_checksum_213 : decode cX1_checksum 213 = .ok (.iinc 5 1, 3) := dk_132 5 1 (dk_at dksX1_checksum_9 0 rfl rfl)
theorem dX1_checksum_216 : decode cX1_checksum 216 = .ok (.goto (-33), 3) := dk_167 255 223 (dk_at dksX1_checksum_9 3 rfl rfl)
theorem dX1_checksum_219 : decode cX1_checksum 219 = .ok (.goto (-59), 3) := dk_167 255 197 (dk_at dksX1_checksum_9 6 rfl rfl)
theorem dX1_checksum_222 : decode cX1_checksum 222 = .ok (.ldc2_w 634, 3) := dk_20 2 122 (dk_at dksX1_checksum_9 9 rfl rfl)
theorem dX1_checksum_225 : decode cX1_checksum 225 = .ok (.lload_n 1, 1) := dk_31 (dk_at dksX1_checksum_9 12 rfl rfl)
theorem dX1_checksum_226 : decode cX1_checksum 226 = .ok (.lmul, 1) := dk_105 (dk_at dksX1_checksum_9 13 rfl rfl)
theorem dX1_checksum_227 : decode cX1_checksum 227 = .ok (.aload_n 0, 1) := dk_42 (dk_at dksX1_checksum_9 14 rfl rfl)
theorem dX1_checksum_228 : decode cX1_checksum 228 = .ok (.getfield 41, 3) := dk_180 0 41 (dk_at dksX1_checksum_9 15 rfl rfl)
theorem dX1_checksum_231 : decode cX1_checksum 231 = .ok (.invokevirtual 186, 3) := dk_182 0 186 (dk_at dksX1_checksum_9 18 rfl rfl)
theorem dX1_checksum_234 : decode cX1_checksum 234 = .ok (.i2l, 1) := dk_133 (dk_at dksX1_checksum_9 21 rfl rfl)
theorem dX1_checksum_235 : decode cX1_checksum 235 = .ok (.ladd, 1) := dk_97 (dk_at dksX1_checksum_9 22 rfl rfl)
theorem dX1_checksum_236 : decode cX1_checksum 236 = .ok (.lreturn, 1) := dk_173 (dk_at dksX1_checksum_9 23 rfl rfl)
abbrev cX1_stop : ByteArray := prog_1_method_14_code
def yX1_stop : MethodName := ⟨RX1, "stop", "(I)I"⟩
def dkwX1_stop_2 : List UInt8 := [180, 0, 68, 4, 100, 172]
abbrev dktX1_stop_2 : List UInt8 := dkwX1_stop_2 ++ []
def dkwX1_stop_1 : List UInt8 := [184, 0, 99, 42, 180, 0, 9, 42, 180, 0, 68, 27, 79, 42, 89, 180, 0, 68, 4, 96, 181, 0, 68, 42]
abbrev dktX1_stop_1 : List UInt8 := dkwX1_stop_1 ++ dktX1_stop_2
def dkwX1_stop_0 : List UInt8 := [27, 3, 16, 30, 184, 0, 64, 184, 0, 96, 42, 180, 0, 68, 16, 12, 162, 0, 7, 4, 167, 0, 4, 3]
abbrev dktX1_stop_0 : List UInt8 := dkwX1_stop_0 ++ dktX1_stop_1
theorem dksX1_stop_0 : cX1_stop.data.toList.drop 0 = dktX1_stop_0 := by decide +kernel
theorem dksX1_stop_1 : cX1_stop.data.toList.drop 24 = dktX1_stop_1 := dk_seg dksX1_stop_0 24 rfl rfl
theorem dksX1_stop_2 : cX1_stop.data.toList.drop 48 = dktX1_stop_2 := dk_seg dksX1_stop_1 24 rfl rfl
theorem dX1_stop_0 : decode cX1_stop 0 = .ok (.iload_n 1, 1) := dk_27 (dk_at dksX1_stop_0 0 rfl rfl)
theorem dX1_stop_1 : decode cX1_stop 1 = .ok (.iconst 0, 1) := dk_3 (dk_at dksX1_stop_0 1 rfl rfl)
theorem dX1_stop_2 : decode cX1_stop 2 = .ok (.bipush 30, 2) := dk_16 30 (dk_at dksX1_stop_0 2 rfl rfl)
theorem dX1_stop_4 : decode cX1_stop 4 = .ok (.invokestatic 64, 3) := dk_184 0 64 (dk_at dksX1_stop_0 4 rfl rfl)
theorem dX1_stop_7 : decode cX1_stop 7 = .ok (.invokestatic 96, 3) := dk_184 0 96 (dk_at dksX1_stop_0 7 rfl rfl)
theorem dX1_stop_10 : decode cX1_stop 10 = .ok (.aload_n 0, 1) := dk_42 (dk_at dksX1_stop_0 10 rfl rfl)
theorem dX1_stop_11 : decode cX1_stop 11 = .ok (.getfield 68, 3) := dk_180 0 68 (dk_at dksX1_stop_0 11 rfl rfl)
theorem dX1_stop_14 : decode cX1_stop 14 = .ok (.bipush 12, 2) := dk_16 12 (dk_at dksX1_stop_0 14 rfl rfl)
theorem dX1_stop_16 : decode cX1_stop 16 = .ok (.if_icmp .ge 7, 3) := dk_162 0 7 (dk_at dksX1_stop_0 16 rfl rfl)
theorem dX1_stop_19 : decode cX1_stop 19 = .ok (.iconst 1, 1) := dk_4 (dk_at dksX1_stop_0 19 rfl rfl)
theorem dX1_stop_20 : decode cX1_stop 20 = .ok (.goto 4, 3) := dk_167 0 4 (dk_at dksX1_stop_0 20 rfl rfl)
theorem dX1_stop_23 : decode cX1_stop 23 = .ok (.iconst 0, 1) := dk_3 (dk_at dksX1_stop_0 23 rfl rfl)
theorem dX1_stop_24 : decode cX1_stop 24 = .ok (.invokestatic 99, 3) := dk_184 0 99 (dk_at dksX1_stop_1 0 rfl rfl)
theorem dX1_stop_27 : decode cX1_stop 27 = .ok (.aload_n 0, 1) := dk_42 (dk_at dksX1_stop_1 3 rfl rfl)
theorem dX1_stop_28 : decode cX1_stop 28 = .ok (.getfield 9, 3) := dk_180 0 9 (dk_at dksX1_stop_1 4 rfl rfl)
theorem dX1_stop_31 : decode cX1_stop 31 = .ok (.aload_n 0, 1) := dk_42 (dk_at dksX1_stop_1 7 rfl rfl)
theorem dX1_stop_32 : decode cX1_stop 32 = .ok (.getfield 68, 3) := dk_180 0 68 (dk_at dksX1_stop_1 8 rfl rfl)
theorem dX1_stop_35 : decode cX1_stop 35 = .ok (.iload_n 1, 1) := dk_27 (dk_at dksX1_stop_1 11 rfl rfl)
theorem dX1_stop_36 : decode cX1_stop 36 = .ok (.iastore, 1) := dk_79 (dk_at dksX1_stop_1 12 rfl rfl)
theorem dX1_stop_37 : decode cX1_stop 37 = .ok (.aload_n 0, 1) := dk_42 (dk_at dksX1_stop_1 13 rfl rfl)
theorem dX1_stop_38 : decode cX1_stop 38 = .ok (.dup, 1) := dk_89 (dk_at dksX1_stop_1 14 rfl rfl)
theorem dX1_stop_39 : decode cX1_stop 39 = .ok (.getfield 68, 3) := dk_180 0 68 (dk_at dksX1_stop_1 15 rfl rfl)
theorem dX1_stop_42 : decode cX1_stop 42 = .ok (.iconst 1, 1) := dk_4 (dk_at dksX1_stop_1 18 rfl rfl)
theorem dX1_stop_43 : decode cX1_stop 43 = .ok (.iadd, 1) := dk_96 (dk_at dksX1_stop_1 19 rfl rfl)
theorem dX1_stop_44 : decode cX1_stop 44 = .ok (.putfield 68, 3) := dk_181 0 68 (dk_at dksX1_stop_1 20 rfl rfl)
theorem dX1_stop_47 : decode cX1_stop 47 = .ok (.aload_n 0, 1) := dk_42 (dk_at dksX1_stop_1 23 rfl rfl)
theorem dX1_stop_48 : decode cX1_stop 48 = .ok (.getfield 68, 3) := dk_180 0 68 (dk_at dksX1_stop_2 0 rfl rfl)
theorem dX1_stop_51 : decode cX1_stop 51 = .ok (.iconst 1, 1) := dk_4 (dk_at dksX1_stop_2 3 rfl rfl)
theorem dX1_stop_52 : decode cX1_stop 52 = .ok (.isub, 1) := dk_100 (dk_at dksX1_stop_2 4 rfl rfl)
theorem dX1_stop_53 : decode cX1_stop 53 = .ok (.ireturn, 1) := dk_172 (dk_at dksX1_stop_2 5 rfl rfl)
abbrev cX1_isBetween : ByteArray := prog_1_method_2_code
def yX1_isBetween : MethodName := ⟨RX1, "isBetween", "(III)Z"⟩
def dkwX1_isBetween_0 : List UInt8 := [26, 27, 161, 0, 12, 26, 28, 163, 0, 7, 4, 167, 0, 4, 3, 172]
abbrev dktX1_isBetween_0 : List UInt8 := dkwX1_isBetween_0 ++ []
theorem dksX1_isBetween_0 : cX1_isBetween.data.toList.drop 0 = dktX1_isBetween_0 := by decide +kernel
theorem dX1_isBetween_0 : decode cX1_isBetween 0 = .ok (.iload_n 0, 1) := dk_26 (dk_at dksX1_isBetween_0 0 rfl rfl)
theorem dX1_isBetween_1 : decode cX1_isBetween 1 = .ok (.iload_n 1, 1) := dk_27 (dk_at dksX1_isBetween_0 1 rfl rfl)
theorem dX1_isBetween_2 : decode cX1_isBetween 2 = .ok (.if_icmp .lt 12, 3) := dk_161 0 12 (dk_at dksX1_isBetween_0 2 rfl rfl)
theorem dX1_isBetween_5 : decode cX1_isBetween 5 = .ok (.iload_n 0, 1) := dk_26 (dk_at dksX1_isBetween_0 5 rfl rfl)
theorem dX1_isBetween_6 : decode cX1_isBetween 6 = .ok (.iload_n 2, 1) := dk_28 (dk_at dksX1_isBetween_0 6 rfl rfl)
theorem dX1_isBetween_7 : decode cX1_isBetween 7 = .ok (.if_icmp .gt 7, 3) := dk_163 0 7 (dk_at dksX1_isBetween_0 7 rfl rfl)
theorem dX1_isBetween_10 : decode cX1_isBetween 10 = .ok (.iconst 1, 1) := dk_4 (dk_at dksX1_isBetween_0 10 rfl rfl)
theorem dX1_isBetween_11 : decode cX1_isBetween 11 = .ok (.goto 4, 3) := dk_167 0 4 (dk_at dksX1_isBetween_0 11 rfl rfl)
theorem dX1_isBetween_14 : decode cX1_isBetween 14 = .ok (.iconst 0, 1) := dk_3 (dk_at dksX1_isBetween_0 14 rfl rfl)
theorem dX1_isBetween_15 : decode cX1_isBetween 15 = .ok (.ireturn, 1) := dk_172 (dk_at dksX1_isBetween_0 15 rfl rfl)
abbrev cX1_require : ByteArray := prog_1_method_3_code
def yX1_require : MethodName := ⟨RX1, "require", "(Z)V"⟩
def dkwX1_require_0 : List UInt8 := [26, 154, 0, 11, 187, 0, 49, 89, 183, 0, 51, 191, 177]
abbrev dktX1_require_0 : List UInt8 := dkwX1_require_0 ++ []
theorem dksX1_require_0 : cX1_require.data.toList.drop 0 = dktX1_require_0 := by decide +kernel
theorem dX1_require_0 : decode cX1_require 0 = .ok (.iload_n 0, 1) := dk_26 (dk_at dksX1_require_0 0 rfl rfl)
theorem dX1_require_1 : decode cX1_require 1 = .ok (.ifCond .ne 11, 3) := dk_154 0 11 (dk_at dksX1_require_0 1 rfl rfl)
theorem dX1_require_4 : decode cX1_require 4 = .ok (.new 49, 3) := dk_187 0 49 (dk_at dksX1_require_0 4 rfl rfl)
theorem dX1_require_7 : decode cX1_require 7 = .ok (.dup, 1) := dk_89 (dk_at dksX1_require_0 7 rfl rfl)
theorem dX1_require_8 : decode cX1_require 8 = .ok (.invokespecial 51, 3) := dk_183 0 51 (dk_at dksX1_require_0 8 rfl rfl)
theorem dX1_require_11 : decode cX1_require 11 = .ok (.athrow, 1) := dk_191 (dk_at dksX1_require_0 11 rfl rfl)
theorem dX1_require_12 : decode cX1_require 12 = .ok (.return_, 1) := dk_177 (dk_at dksX1_require_0 12 rfl rfl)
abbrev cX1_requireState : ByteArray := prog_1_method_4_code
def yX1_requireState : MethodName := ⟨RX1, "requireState", "(Z)V"⟩
def dkwX1_requireState_0 : List UInt8 := [26, 154, 0, 11, 187, 0, 52, 89, 183, 0, 54, 191, 177]
abbrev dktX1_requireState_0 : List UInt8 := dkwX1_requireState_0 ++ []
theorem dksX1_requireState_0 : cX1_requireState.data.toList.drop 0 = dktX1_requireState_0 := by decide +kernel
theorem dX1_requireState_0 : decode cX1_requireState 0 = .ok (.iload_n 0, 1) := dk_26 (dk_at dksX1_requireState_0 0 rfl rfl)
theorem dX1_requireState_1 : decode cX1_requireState 1 = .ok (.ifCond .ne 11, 3) := dk_154 0 11 (dk_at dksX1_requireState_0 1 rfl rfl)
theorem dX1_requireState_4 : decode cX1_requireState 4 = .ok (.new 52, 3) := dk_187 0 52 (dk_at dksX1_requireState_0 4 rfl rfl)
theorem dX1_requireState_7 : decode cX1_requireState 7 = .ok (.dup, 1) := dk_89 (dk_at dksX1_requireState_0 7 rfl rfl)
theorem dX1_requireState_8 : decode cX1_requireState 8 = .ok (.invokespecial 54, 3) := dk_183 0 54 (dk_at dksX1_requireState_0 8 rfl rfl)
theorem dX1_requireState_11 : decode cX1_requireState 11 = .ok (.athrow, 1) := dk_191 (dk_at dksX1_requireState_0 11 rfl rfl)
theorem dX1_requireState_12 : decode cX1_requireState 12 = .ok (.return_, 1) := dk_177 (dk_at dksX1_requireState_0 12 rfl rfl)
abbrev cX1_setChange : ByteArray := prog_1_method_15_code
def yX1_setChange : MethodName := ⟨RX1, "setChange", "(II)I"⟩
def dkwX1_setChange_1 : List UInt8 := [62, 42, 180, 0, 9, 27, 28, 79, 29, 172]
abbrev dktX1_setChange_1 : List UInt8 := dkwX1_setChange_1 ++ []
def dkwX1_setChange_0 : List UInt8 := [42, 27, 182, 0, 102, 184, 0, 75, 28, 3, 16, 30, 184, 0, 64, 184, 0, 96, 42, 180, 0, 9, 27, 46]
abbrev dktX1_setChange_0 : List UInt8 := dkwX1_setChange_0 ++ dktX1_setChange_1
theorem dksX1_setChange_0 : cX1_setChange.data.toList.drop 0 = dktX1_setChange_0 := by decide +kernel
theorem dksX1_setChange_1 : cX1_setChange.data.toList.drop 24 = dktX1_setChange_1 := dk_seg dksX1_setChange_0 24 rfl rfl
theorem dX1_setChange_0 : decode cX1_setChange 0 = .ok (.aload_n 0, 1) := dk_42 (dk_at dksX1_setChange_0 0 rfl rfl)
theorem dX1_setChange_1 : decode cX1_setChange 1 = .ok (.iload_n 1, 1) := dk_27 (dk_at dksX1_setChange_0 1 rfl rfl)
theorem dX1_setChange_2 : decode cX1_setChange 2 = .ok (.invokevirtual 102, 3) := dk_182 0 102 (dk_at dksX1_setChange_0 2 rfl rfl)
theorem dX1_setChange_5 : decode cX1_setChange 5 = .ok (.invokestatic 75, 3) := dk_184 0 75 (dk_at dksX1_setChange_0 5 rfl rfl)
theorem dX1_setChange_8 : decode cX1_setChange 8 = .ok (.iload_n 2, 1) := dk_28 (dk_at dksX1_setChange_0 8 rfl rfl)
theorem dX1_setChange_9 : decode cX1_setChange 9 = .ok (.iconst 0, 1) := dk_3 (dk_at dksX1_setChange_0 9 rfl rfl)
theorem dX1_setChange_10 : decode cX1_setChange 10 = .ok (.bipush 30, 2) := dk_16 30 (dk_at dksX1_setChange_0 10 rfl rfl)
theorem dX1_setChange_12 : decode cX1_setChange 12 = .ok (.invokestatic 64, 3) := dk_184 0 64 (dk_at dksX1_setChange_0 12 rfl rfl)
theorem dX1_setChange_15 : decode cX1_setChange 15 = .ok (.invokestatic 96, 3) := dk_184 0 96 (dk_at dksX1_setChange_0 15 rfl rfl)
theorem dX1_setChange_18 : decode cX1_setChange 18 = .ok (.aload_n 0, 1) := dk_42 (dk_at dksX1_setChange_0 18 rfl rfl)
theorem dX1_setChange_19 : decode cX1_setChange 19 = .ok (.getfield 9, 3) := dk_180 0 9 (dk_at dksX1_setChange_0 19 rfl rfl)
theorem dX1_setChange_22 : decode cX1_setChange 22 = .ok (.iload_n 1, 1) := dk_27 (dk_at dksX1_setChange_0 22 rfl rfl)
theorem dX1_setChange_23 : decode cX1_setChange 23 = .ok (.iaload, 1) := dk_46 (dk_at dksX1_setChange_0 23 rfl rfl)
theorem dX1_setChange_24 : decode cX1_setChange 24 = .ok (.istore_n 3, 1) := dk_62 (dk_at dksX1_setChange_1 0 rfl rfl)
theorem dX1_setChange_25 : decode cX1_setChange 25 = .ok (.aload_n 0, 1) := dk_42 (dk_at dksX1_setChange_1 1 rfl rfl)
theorem dX1_setChange_26 : decode cX1_setChange 26 = .ok (.getfield 9, 3) := dk_180 0 9 (dk_at dksX1_setChange_1 2 rfl rfl)
theorem dX1_setChange_29 : decode cX1_setChange 29 = .ok (.iload_n 1, 1) := dk_27 (dk_at dksX1_setChange_1 5 rfl rfl)
theorem dX1_setChange_30 : decode cX1_setChange 30 = .ok (.iload_n 2, 1) := dk_28 (dk_at dksX1_setChange_1 6 rfl rfl)
theorem dX1_setChange_31 : decode cX1_setChange 31 = .ok (.iastore, 1) := dk_79 (dk_at dksX1_setChange_1 7 rfl rfl)
theorem dX1_setChange_32 : decode cX1_setChange 32 = .ok (.iload_n 3, 1) := dk_29 (dk_at dksX1_setChange_1 8 rfl rfl)
theorem dX1_setChange_33 : decode cX1_setChange 33 = .ok (.ireturn, 1) := dk_172 (dk_at dksX1_setChange_1 9 rfl rfl)
abbrev cX1_isStop : ByteArray := prog_1_method_10_code
def yX1_isStop : MethodName := ⟨RX1, "isStop", "(I)Z"⟩
def dkwX1_isStop_0 : List UInt8 := [27, 3, 42, 180, 0, 68, 4, 100, 184, 0, 64, 172]
abbrev dktX1_isStop_0 : List UInt8 := dkwX1_isStop_0 ++ []
theorem dksX1_isStop_0 : cX1_isStop.data.toList.drop 0 = dktX1_isStop_0 := by decide +kernel
theorem dX1_isStop_0 : decode cX1_isStop 0 = .ok (.iload_n 1, 1) := dk_27 (dk_at dksX1_isStop_0 0 rfl rfl)
theorem dX1_isStop_1 : decode cX1_isStop 1 = .ok (.iconst 0, 1) := dk_3 (dk_at dksX1_isStop_0 1 rfl rfl)
theorem dX1_isStop_2 : decode cX1_isStop 2 = .ok (.aload_n 0, 1) := dk_42 (dk_at dksX1_isStop_0 2 rfl rfl)
theorem dX1_isStop_3 : decode cX1_isStop 3 = .ok (.getfield 68, 3) := dk_180 0 68 (dk_at dksX1_isStop_0 3 rfl rfl)
theorem dX1_isStop_6 : decode cX1_isStop 6 = .ok (.iconst 1, 1) := dk_4 (dk_at dksX1_isStop_0 6 rfl rfl)
theorem dX1_isStop_7 : decode cX1_isStop 7 = .ok (.isub, 1) := dk_100 (dk_at dksX1_isStop_0 7 rfl rfl)
theorem dX1_isStop_8 : decode cX1_isStop 8 = .ok (.invokestatic 64, 3) := dk_184 0 64 (dk_at dksX1_isStop_0 8 rfl rfl)
theorem dX1_isStop_11 : decode cX1_isStop 11 = .ok (.ireturn, 1) := dk_172 (dk_at dksX1_isStop_0 11 rfl rfl)
abbrev cX1_requireIndex : ByteArray := prog_1_method_6_code
def yX1_requireIndex : MethodName := ⟨RX1, "requireIndex", "(Z)V"⟩
def dkwX1_requireIndex_0 : List UInt8 := [26, 154, 0, 11, 187, 0, 58, 89, 183, 0, 60, 191, 177]
abbrev dktX1_requireIndex_0 : List UInt8 := dkwX1_requireIndex_0 ++ []
theorem dksX1_requireIndex_0 : cX1_requireIndex.data.toList.drop 0 = dktX1_requireIndex_0 := by decide +kernel
theorem dX1_requireIndex_0 : decode cX1_requireIndex 0 = .ok (.iload_n 0, 1) := dk_26 (dk_at dksX1_requireIndex_0 0 rfl rfl)
theorem dX1_requireIndex_1 : decode cX1_requireIndex 1 = .ok (.ifCond .ne 11, 3) := dk_154 0 11 (dk_at dksX1_requireIndex_0 1 rfl rfl)
theorem dX1_requireIndex_4 : decode cX1_requireIndex 4 = .ok (.new 58, 3) := dk_187 0 58 (dk_at dksX1_requireIndex_0 4 rfl rfl)
theorem dX1_requireIndex_7 : decode cX1_requireIndex 7 = .ok (.dup, 1) := dk_89 (dk_at dksX1_requireIndex_0 7 rfl rfl)
theorem dX1_requireIndex_8 : decode cX1_requireIndex 8 = .ok (.invokespecial 60, 3) := dk_183 0 60 (dk_at dksX1_requireIndex_0 8 rfl rfl)
theorem dX1_requireIndex_11 : decode cX1_requireIndex 11 = .ok (.athrow, 1) := dk_191 (dk_at dksX1_requireIndex_0 11 rfl rfl)
theorem dX1_requireIndex_12 : decode cX1_requireIndex 12 = .ok (.return_, 1) := dk_177 (dk_at dksX1_requireIndex_0 12 rfl rfl)
abbrev cX1_walk : ByteArray := prog_1_method_16_code
def yX1_walk : MethodName := ⟨RX1, "walk", "(III)I"⟩
def dkwX1_walk_3 : List UInt8 := [27, 29, 79, 21, 4, 172]
abbrev dktX1_walk_3 : List UInt8 := dkwX1_walk_3 ++ []
def dkwX1_walk_2 : List UInt8 := [180, 0, 15, 27, 50, 28, 46, 54, 4, 42, 180, 0, 15, 27, 50, 28, 29, 79, 42, 180, 0, 15, 28, 50]
abbrev dktX1_walk_2 : List UInt8 := dkwX1_walk_2 ++ dktX1_walk_3
def dkwX1_walk_1 : List UInt8 := [27, 28, 159, 0, 17, 29, 3, 16, 60, 184, 0, 64, 153, 0, 7, 4, 167, 0, 4, 3, 184, 0, 96, 42]
abbrev dktX1_walk_1 : List UInt8 := dkwX1_walk_1 ++ dktX1_walk_2
def dkwX1_walk_0 : List UInt8 := [42, 27, 182, 0, 102, 153, 0, 15, 42, 28, 182, 0, 102, 153, 0, 7, 4, 167, 0, 4, 3, 184, 0, 75]
abbrev dktX1_walk_0 : List UInt8 := dkwX1_walk_0 ++ dktX1_walk_1
theorem dksX1_walk_0 : cX1_walk.data.toList.drop 0 = dktX1_walk_0 := by decide +kernel
theorem dksX1_walk_1 : cX1_walk.data.toList.drop 24 = dktX1_walk_1 := dk_seg dksX1_walk_0 24 rfl rfl
theorem dksX1_walk_2 : cX1_walk.data.toList.drop 48 = dktX1_walk_2 := dk_seg dksX1_walk_1 24 rfl rfl
theorem dksX1_walk_3 : cX1_walk.data.toList.drop 72 = dktX1_walk_3 := dk_seg dksX1_walk_2 24 rfl rfl
theorem dX1_walk_0 : decode cX1_walk 0 = .ok (.aload_n 0, 1) := dk_42 (dk_at dksX1_walk_0 0 rfl rfl)
theorem dX1_walk_1 : decode cX1_walk 1 = .ok (.iload_n 1, 1) := dk_27 (dk_at dksX1_walk_0 1 rfl rfl)
theorem dX1_walk_2 : decode cX1_walk 2 = .ok (.invokevirtual 102, 3) := dk_182 0 102 (dk_at dksX1_walk_0 2 rfl rfl)
theorem dX1_walk_5 : decode cX1_walk 5 = .ok (.ifCond .eq 15, 3) := dk_153 0 15 (dk_at dksX1_walk_0 5 rfl rfl)
theorem dX1_walk_8 : decode cX1_walk 8 = .ok (.aload_n 0, 1) := dk_42 (dk_at dksX1_walk_0 8 rfl rfl)
theorem dX1_walk_9 : decode cX1_walk 9 = .ok (.iload_n 2, 1) := dk_28 (dk_at dksX1_walk_0 9 rfl rfl)
theorem dX1_walk_10 : decode cX1_walk 10 = .ok (.invokevirtual 102, 3) := dk_182 0 102 (dk_at dksX1_walk_0 10 rfl rfl)
theorem dX1_walk_13 : decode cX1_walk 13 = .ok (.ifCond .eq 7, 3) := dk_153 0 7 (dk_at dksX1_walk_0 13 rfl rfl)
theorem dX1_walk_16 : decode cX1_walk 16 = .ok (.iconst 1, 1) := dk_4 (dk_at dksX1_walk_0 16 rfl rfl)
theorem dX1_walk_17 : decode cX1_walk 17 = .ok (.goto 4, 3) := dk_167 0 4 (dk_at dksX1_walk_0 17 rfl rfl)
theorem dX1_walk_20 : decode cX1_walk 20 = .ok (.iconst 0, 1) := dk_3 (dk_at dksX1_walk_0 20 rfl rfl)
theorem dX1_walk_21 : decode cX1_walk 21 = .ok (.invokestatic 75, 3) := dk_184 0 75 (dk_at dksX1_walk_0 21 rfl rfl)
theorem dX1_walk_24 : decode cX1_walk 24 = .ok (.iload_n 1, 1) := dk_27 (dk_at dksX1_walk_1 0 rfl rfl)
theorem dX1_walk_25 : decode cX1_walk 25 = .ok (.iload_n 2, 1) := dk_28 (dk_at dksX1_walk_1 1 rfl rfl)
theorem dX1_walk_26 : decode cX1_walk 26 = .ok (.if_icmp .eq 17, 3) := dk_159 0 17 (dk_at dksX1_walk_1 2 rfl rfl)
theorem dX1_walk_29 : decode cX1_walk 29 = .ok (.iload_n 3, 1) := dk_29 (dk_at dksX1_walk_1 5 rfl rfl)
theorem dX1_walk_30 : decode cX1_walk 30 = .ok (.iconst 0, 1) := dk_3 (dk_at dksX1_walk_1 6 rfl rfl)
theorem dX1_walk_31 : decode cX1_walk 31 = .ok (.bipush 60, 2) := dk_16 60 (dk_at dksX1_walk_1 7 rfl rfl)
theorem dX1_walk_33 : decode cX1_walk 33 = .ok (.invokestatic 64, 3) := dk_184 0 64 (dk_at dksX1_walk_1 9 rfl rfl)
theorem dX1_walk_36 : decode cX1_walk 36 = .ok (.ifCond .eq 7, 3) := dk_153 0 7 (dk_at dksX1_walk_1 12 rfl rfl)
theorem dX1_walk_39 : decode cX1_walk 39 = .ok (.iconst 1, 1) := dk_4 (dk_at dksX1_walk_1 15 rfl rfl)
theorem dX1_walk_40 : decode cX1_walk 40 = .ok (.goto 4, 3) := dk_167 0 4 (dk_at dksX1_walk_1 16 rfl rfl)
theorem dX1_walk_43 : decode cX1_walk 43 = .ok (.iconst 0, 1) := dk_3 (dk_at dksX1_walk_1 19 rfl rfl)
theorem dX1_walk_44 : decode cX1_walk 44 = .ok (.invokestatic 96, 3) := dk_184 0 96 (dk_at dksX1_walk_1 20 rfl rfl)
theorem dX1_walk_47 : decode cX1_walk 47 = .ok (.aload_n 0, 1) := dk_42 (dk_at dksX1_walk_1 23 rfl rfl)
theorem dX1_walk_48 : decode cX1_walk 48 = .ok (.getfield 15, 3) := dk_180 0 15 (dk_at dksX1_walk_2 0 rfl rfl)
theorem dX1_walk_51 : decode cX1_walk 51 = .ok (.iload_n 1, 1) := dk_27 (dk_at dksX1_walk_2 3 rfl rfl)
theorem dX1_walk_52 : decode cX1_walk 52 = .ok (.aaload, 1) := dk_50 (dk_at dksX1_walk_2 4 rfl rfl)
theorem dX1_walk_53 : decode cX1_walk 53 = .ok (.iload_n 2, 1) := dk_28 (dk_at dksX1_walk_2 5 rfl rfl)
theorem dX1_walk_54 : decode cX1_walk 54 = .ok (.iaload, 1) := dk_46 (dk_at dksX1_walk_2 6 rfl rfl)
theorem dX1_walk_55 : decode cX1_walk 55 = .ok (.istore 4, 2) := dk_54 4 (dk_at dksX1_walk_2 7 rfl rfl)
theorem dX1_walk_57 : decode cX1_walk 57 = .ok (.aload_n 0, 1) := dk_42 (dk_at dksX1_walk_2 9 rfl rfl)
theorem dX1_walk_58 : decode cX1_walk 58 = .ok (.getfield 15, 3) := dk_180 0 15 (dk_at dksX1_walk_2 10 rfl rfl)
theorem dX1_walk_61 : decode cX1_walk 61 = .ok (.iload_n 1, 1) := dk_27 (dk_at dksX1_walk_2 13 rfl rfl)
theorem dX1_walk_62 : decode cX1_walk 62 = .ok (.aaload, 1) := dk_50 (dk_at dksX1_walk_2 14 rfl rfl)
theorem dX1_walk_63 : decode cX1_walk 63 = .ok (.iload_n 2, 1) := dk_28 (dk_at dksX1_walk_2 15 rfl rfl)
theorem dX1_walk_64 : decode cX1_walk 64 = .ok (.iload_n 3, 1) := dk_29 (dk_at dksX1_walk_2 16 rfl rfl)
theorem dX1_walk_65 : decode cX1_walk 65 = .ok (.iastore, 1) := dk_79 (dk_at dksX1_walk_2 17 rfl rfl)
theorem dX1_walk_66 : decode cX1_walk 66 = .ok (.aload_n 0, 1) := dk_42 (dk_at dksX1_walk_2 18 rfl rfl)
theorem dX1_walk_67 : decode cX1_walk 67 = .ok (.getfield 15, 3) := dk_180 0 15 (dk_at dksX1_walk_2 19 rfl rfl)
theorem dX1_walk_70 : decode cX1_walk 70 = .ok (.iload_n 2, 1) := dk_28 (dk_at dksX1_walk_2 22 rfl rfl)
theorem dX1_walk_71 : decode cX1_walk 71 = .ok (.aaload, 1) := dk_50 (dk_at dksX1_walk_2 23 rfl rfl)
theorem dX1_walk_72 : decode cX1_walk 72 = .ok (.iload_n 1, 1) := dk_27 (dk_at dksX1_walk_3 0 rfl rfl)
theorem dX1_walk_73 : decode cX1_walk 73 = .ok (.iload_n 3, 1) := dk_29 (dk_at dksX1_walk_3 1 rfl rfl)
theorem dX1_walk_74 : decode cX1_walk 74 = .ok (.iastore, 1) := dk_79 (dk_at dksX1_walk_3 2 rfl rfl)
theorem dX1_walk_75 : decode cX1_walk 75 = .ok (.iload 4, 2) := dk_21 4 (dk_at dksX1_walk_3 3 rfl rfl)
theorem dX1_walk_77 : decode cX1_walk 77 = .ok (.ireturn, 1) := dk_172 (dk_at dksX1_walk_3 5 rfl rfl)
abbrev cX1_walkTime : ByteArray := prog_1_method_18_code
def yX1_walkTime : MethodName := ⟨RX1, "walkTime", "(II)I"⟩
def dkwX1_walkTime_2 : List UInt8 := [29, 172]
abbrev dktX1_walkTime_2 : List UInt8 := dkwX1_walkTime_2 ++ []
def dkwX1_walkTime_1 : List UInt8 := [42, 2, 182, 0, 113, 27, 50, 28, 46, 62, 29, 18, 106, 162, 0, 7, 4, 167, 0, 4, 3, 184, 0, 117]
abbrev dktX1_walkTime_1 : List UInt8 := dkwX1_walkTime_1 ++ dktX1_walkTime_2
def dkwX1_walkTime_0 : List UInt8 := [42, 27, 182, 0, 102, 153, 0, 15, 42, 28, 182, 0, 102, 153, 0, 7, 4, 167, 0, 4, 3, 184, 0, 75]
abbrev dktX1_walkTime_0 : List UInt8 := dkwX1_walkTime_0 ++ dktX1_walkTime_1
theorem dksX1_walkTime_0 : cX1_walkTime.data.toList.drop 0 = dktX1_walkTime_0 := by decide +kernel
theorem dksX1_walkTime_1 : cX1_walkTime.data.toList.drop 24 = dktX1_walkTime_1 := dk_seg dksX1_walkTime_0 24 rfl rfl
theorem dksX1_walkTime_2 : cX1_walkTime.data.toList.drop 48 = dktX1_walkTime_2 := dk_seg dksX1_walkTime_1 24 rfl rfl
theorem dX1_walkTime_0 : decode cX1_walkTime 0 = .ok (.aload_n 0, 1) := dk_42 (dk_at dksX1_walkTime_0 0 rfl rfl)
theorem dX1_walkTime_1 : decode cX1_walkTime 1 = .ok (.iload_n 1, 1) := dk_27 (dk_at dksX1_walkTime_0 1 rfl rfl)
theorem dX1_walkTime_2 : decode cX1_walkTime 2 = .ok (.invokevirtual 102, 3) := dk_182 0 102 (dk_at dksX1_walkTime_0 2 rfl rfl)
theorem dX1_walkTime_5 : decode cX1_walkTime 5 = .ok (.ifCond .eq 15, 3) := dk_153 0 15 (dk_at dksX1_walkTime_0 5 rfl rfl)
theorem dX1_walkTime_8 : decode cX1_walkTime 8 = .ok (.aload_n 0, 1) := dk_42 (dk_at dksX1_walkTime_0 8 rfl rfl)
theorem dX1_walkTime_9 : decode cX1_walkTime 9 = .ok (.iload_n 2, 1) := dk_28 (dk_at dksX1_walkTime_0 9 rfl rfl)
theorem dX1_walkTime_10 : decode cX1_walkTime 10 = .ok (.invokevirtual 102, 3) := dk_182 0 102 (dk_at dksX1_walkTime_0 10 rfl rfl)
theorem dX1_walkTime_13 : decode cX1_walkTime 13 = .ok (.ifCond .eq 7, 3) := dk_153 0 7 (dk_at dksX1_walkTime_0 13 rfl rfl)
theorem dX1_walkTime_16 : decode cX1_walkTime 16 = .ok (.iconst 1, 1) := dk_4 (dk_at dksX1_walkTime_0 16 rfl rfl)
theorem dX1_walkTime_17 : decode cX1_walkTime 17 = .ok (.goto 4, 3) := dk_167 0 4 (dk_at dksX1_walkTime_0 17 rfl rfl)
theorem dX1_walkTime_20 : decode cX1_walkTime 20 = .ok (.iconst 0, 1) := dk_3 (dk_at dksX1_walkTime_0 20 rfl rfl)
theorem dX1_walkTime_21 : decode cX1_walkTime 21 = .ok (.invokestatic 75, 3) := dk_184 0 75 (dk_at dksX1_walkTime_0 21 rfl rfl)
theorem dX1_walkTime_24 : decode cX1_walkTime 24 = .ok (.aload_n 0, 1) := dk_42 (dk_at dksX1_walkTime_1 0 rfl rfl)
theorem dX1_walkTime_25 : decode cX1_walkTime 25 = .ok (.iconst (-1), 1) := dk_2 (dk_at dksX1_walkTime_1 1 rfl rfl)
theorem dX1_walkTime_26 : decode cX1_walkTime 26 = .ok (.invokevirtual 113, 3) := dk_182 0 113 (dk_at dksX1_walkTime_1 2 rfl rfl)
theorem dX1_walkTime_29 : decode cX1_walkTime 29 = .ok (.iload_n 1, 1) := dk_27 (dk_at dksX1_walkTime_1 5 rfl rfl)
theorem dX1_walkTime_30 : decode cX1_walkTime 30 = .ok (.aaload, 1) := dk_50 (dk_at dksX1_walkTime_1 6 rfl rfl)
theorem dX1_walkTime_31 : decode cX1_walkTime 31 = .ok (.iload_n 2, 1) := dk_28 (dk_at dksX1_walkTime_1 7 rfl rfl)
theorem dX1_walkTime_32 : decode cX1_walkTime 32 = .ok (.iaload, 1) := dk_46 (dk_at dksX1_walkTime_1 8 rfl rfl)
theorem dX1_walkTime_33 : decode cX1_walkTime 33 = .ok (.istore_n 3, 1) := dk_62 (dk_at dksX1_walkTime_1 9 rfl rfl)
theorem dX1_walkTime_34 : decode cX1_walkTime 34 = .ok (.iload_n 3, 1) := dk_29 (dk_at dksX1_walkTime_1 10 rfl rfl)
theorem dX1_walkTime_35 : decode cX1_walkTime 35 = .ok (.ldc 106, 2) := dk_18 106 (dk_at dksX1_walkTime_1 11 rfl rfl)
theorem dX1_walkTime_37 : decode cX1_walkTime 37 = .ok (.if_icmp .ge 7, 3) := dk_162 0 7 (dk_at dksX1_walkTime_1 13 rfl rfl)
theorem dX1_walkTime_40 : decode cX1_walkTime 40 = .ok (.iconst 1, 1) := dk_4 (dk_at dksX1_walkTime_1 16 rfl rfl)
theorem dX1_walkTime_41 : decode cX1_walkTime 41 = .ok (.goto 4, 3) := dk_167 0 4 (dk_at dksX1_walkTime_1 17 rfl rfl)
theorem dX1_walkTime_44 : decode cX1_walkTime 44 = .ok (.iconst 0, 1) := dk_3 (dk_at dksX1_walkTime_1 20 rfl rfl)
theorem dX1_walkTime_45 : decode cX1_walkTime 45 = .ok (.invokestatic 117, 3) := dk_184 0 117 (dk_at dksX1_walkTime_1 21 rfl rfl)
theorem dX1_walkTime_48 : decode cX1_walkTime 48 = .ok (.iload_n 3, 1) := dk_29 (dk_at dksX1_walkTime_2 0 rfl rfl)
theorem dX1_walkTime_49 : decode cX1_walkTime 49 = .ok (.ireturn, 1) := dk_172 (dk_at dksX1_walkTime_2 1 rfl rfl)
abbrev cX1_closedWalks : ByteArray := prog_1_method_17_code
def yX1_closedWalks : MethodName := ⟨RX1, "closedWalks", "(I)[[I"⟩
def dkwX1_closedWalks_8 : List UInt8 := [44, 176]
abbrev dktX1_closedWalks_8 : List UInt8 := dkwX1_closedWalks_8 ++ []
def dkwX1_closedWalks_7 : List UInt8 := [46, 96, 184, 0, 107, 79, 132, 5, 1, 167, 255, 214, 132, 4, 1, 167, 255, 196, 132, 3, 1, 167, 255, 179]
abbrev dktX1_closedWalks_7 : List UInt8 := dkwX1_closedWalks_7 ++ dktX1_closedWalks_8
def dkwX1_closedWalks_6 : List UInt8 := [44, 21, 4, 50, 21, 5, 44, 21, 4, 50, 21, 5, 46, 44, 21, 4, 50, 29, 46, 44, 29, 50, 21, 5]
abbrev dktX1_closedWalks_6 : List UInt8 := dkwX1_closedWalks_6 ++ dktX1_closedWalks_7
def dkwX1_closedWalks_5 : List UInt8 := [3, 54, 4, 21, 4, 42, 180, 0, 68, 162, 0, 57, 3, 54, 5, 21, 5, 42, 180, 0, 68, 162, 0, 39]
abbrev dktX1_closedWalks_5 : List UInt8 := dkwX1_closedWalks_5 ++ dktX1_closedWalks_6
def dkwX1_closedWalks_4 : List UInt8 := [46, 79, 132, 4, 1, 167, 255, 179, 132, 3, 1, 167, 255, 162, 3, 62, 29, 42, 180, 0, 68, 162, 0, 75]
abbrev dktX1_closedWalks_4 : List UInt8 := dkwX1_closedWalks_4 ++ dktX1_closedWalks_5
def dkwX1_closedWalks_3 : List UInt8 := [180, 0, 15, 29, 50, 21, 4, 46, 154, 0, 8, 18, 106, 167, 0, 12, 42, 180, 0, 15, 29, 50, 21, 4]
abbrev dktX1_closedWalks_3 : List UInt8 := dkwX1_closedWalks_3 ++ dktX1_closedWalks_4
def dkwX1_closedWalks_2 : List UInt8 := [54, 5, 44, 29, 50, 21, 4, 29, 21, 4, 160, 0, 7, 3, 167, 0, 34, 21, 5, 154, 0, 15, 42]
abbrev dktX1_closedWalks_2 : List UInt8 := dkwX1_closedWalks_2 ++ dktX1_closedWalks_3
def dkwX1_closedWalks_1 : List UInt8 := [42, 180, 0, 68, 162, 0, 74, 29, 27, 159, 0, 9, 21, 4, 27, 160, 0, 7, 4, 167, 0, 4, 3]
abbrev dktX1_closedWalks_1 : List UInt8 := dkwX1_closedWalks_1 ++ dktX1_closedWalks_2
def dkwX1_closedWalks_0 : List UInt8 := [16, 12, 16, 12, 197, 0, 13, 2, 77, 3, 62, 29, 42, 180, 0, 68, 162, 0, 92, 3, 54, 4, 21, 4]
abbrev dktX1_closedWalks_0 : List UInt8 := dkwX1_closedWalks_0 ++ dktX1_closedWalks_1
theorem dksX1_closedWalks_0 : cX1_closedWalks.data.toList.drop 0 = dktX1_closedWalks_0 := by decide +kernel
theorem dksX1_closedWalks_1 : cX1_closedWalks.data.toList.drop 24 = dktX1_closedWalks_1 := dk_seg dksX1_closedWalks_0 24 rfl rfl
theorem dksX1_closedWalks_2 : cX1_closedWalks.data.toList.drop 47 = dktX1_closedWalks_2 := dk_seg dksX1_closedWalks_1 23 rfl rfl
theorem dksX1_closedWalks_3 : cX1_closedWalks.data.toList.drop 70 = dktX1_closedWalks_3 := dk_seg dksX1_closedWalks_2 23 rfl rfl
theorem dksX1_closedWalks_4 : cX1_closedWalks.data.toList.drop 94 = dktX1_closedWalks_4 := dk_seg dksX1_closedWalks_3 24 rfl rfl
theorem dksX1_closedWalks_5 : cX1_closedWalks.data.toList.drop 118 = dktX1_closedWalks_5 := dk_seg dksX1_closedWalks_4 24 rfl rfl
theorem dksX1_closedWalks_6 : cX1_closedWalks.data.toList.drop 142 = dktX1_closedWalks_6 := dk_seg dksX1_closedWalks_5 24 rfl rfl
theorem dksX1_closedWalks_7 : cX1_closedWalks.data.toList.drop 166 = dktX1_closedWalks_7 := dk_seg dksX1_closedWalks_6 24 rfl rfl
theorem dksX1_closedWalks_8 : cX1_closedWalks.data.toList.drop 190 = dktX1_closedWalks_8 := dk_seg dksX1_closedWalks_7 24 rfl rfl
theorem dX1_closedWalks_0 : decode cX1_closedWalks 0 = .ok (.bipush 12, 2) := dk_16 12 (dk_at dksX1_closedWalks_0 0 rfl rfl)
theorem dX1_closedWalks_2 : decode cX1_closedWalks 2 = .ok (.bipush 12, 2) := dk_16 12 (dk_at dksX1_closedWalks_0 2 rfl rfl)
theorem dX1_closedWalks_4 : decode cX1_closedWalks 4 = .ok (.multianewarray 13 2, 4) := by decide +kernel
theorem dX1_closedWalks_8 : decode cX1_closedWalks 8 = .ok (.astore_n 2, 1) := dk_77 (dk_at dksX1_closedWalks_0 8 rfl rfl)
theorem dX1_closedWalks_9 : decode cX1_closedWalks 9 = .ok (.iconst 0, 1) := dk_3 (dk_at dksX1_closedWalks_0 9 rfl rfl)
theorem dX1_closedWalks_10 : decode cX1_closedWalks 10 = .ok (.istore_n 3, 1) := dk_62 (dk_at dksX1_closedWalks_0 10 rfl rfl)
theorem dX1_closedWalks_11 : decode cX1_closedWalks 11 = .ok (.iload_n 3, 1) := dk_29 (dk_at dksX1_closedWalks_0 11 rfl rfl)
theorem dX1_closedWalks_12 : decode cX1_closedWalks 12 = .ok (.aload_n 0, 1) := dk_42 (dk_at dksX1_closedWalks_0 12 rfl rfl)
theorem dX1_closedWalks_13 : decode cX1_closedWalks 13 = .ok (.getfield 68, 3) := dk_180 0 68 (dk_at dksX1_closedWalks_0 13 rfl rfl)
theorem dX1_closedWalks_16 : decode cX1_closedWalks 16 = .ok (.if_icmp .ge 92, 3) := dk_162 0 92 (dk_at dksX1_closedWalks_0 16 rfl rfl)
theorem dX1_closedWalks_19 : decode cX1_closedWalks 19 = .ok (.iconst 0, 1) := dk_3 (dk_at dksX1_closedWalks_0 19 rfl rfl)
theorem dX1_closedWalks_20 : decode cX1_closedWalks 20 = .ok (.istore 4, 2) := dk_54 4 (dk_at dksX1_closedWalks_0 20 rfl rfl)
theorem dX1_closedWalks_22 : decode cX1_closedWalks 22 = .ok (.iload 4, 2) := dk_21 4 (dk_at dksX1_closedWalks_0 22 rfl rfl)
theorem dX1_closedWalks_24 : decode cX1_closedWalks 24 = .ok (.aload_n 0, 1) := dk_42 (dk_at dksX1_closedWalks_1 0 rfl rfl)
theorem dX1_closedWalks_25 : decode cX1_closedWalks 25 = .ok (.getfield 68, 3) := dk_180 0 68 (dk_at dksX1_closedWalks_1 1 rfl rfl)
theorem dX1_closedWalks_28 : decode cX1_closedWalks 28 = .ok (.if_icmp .ge 74, 3) := dk_162 0 74 (dk_at dksX1_closedWalks_1 4 rfl rfl)
theorem dX1_closedWalks_31 : decode cX1_closedWalks 31 = .ok (.iload_n 3, 1) := dk_29 (dk_at dksX1_closedWalks_1 7 rfl rfl)
theorem dX1_closedWalks_32 : decode cX1_closedWalks 32 = .ok (.iload_n 1, 1) := dk_27 (dk_at dksX1_closedWalks_1 8 rfl rfl)
theorem dX1_closedWalks_33 : decode cX1_closedWalks 33 = .ok (.if_icmp .eq 9, 3) := dk_159 0 9 (dk_at dksX1_closedWalks_1 9 rfl rfl)
theorem dX1_closedWalks_36 : decode cX1_closedWalks 36 = .ok (.iload 4, 2) := dk_21 4 (dk_at dksX1_closedWalks_1 12 rfl rfl)
theorem dX1_closedWalks_38 : decode cX1_closedWalks 38 = .ok (.iload_n 1, 1) := dk_27 (dk_at dksX1_closedWalks_1 14 rfl rfl)
theorem dX1_closedWalks_39 : decode cX1_closedWalks 39 = .ok (.if_icmp .ne 7, 3) := dk_160 0 7 (dk_at dksX1_closedWalks_1 15 rfl rfl)
theorem dX1_closedWalks_42 : decode cX1_closedWalks 42 = .ok (.iconst 1, 1) := dk_4 (dk_at dksX1_closedWalks_1 18 rfl rfl)
theorem dX1_closedWalks_43 : decode cX1_closedWalks 43 = .ok (.goto 4, 3) := dk_167 0 4 (dk_at dksX1_closedWalks_1 19 rfl rfl)
theorem dX1_closedWalks_46 : decode cX1_closedWalks 46 = .ok (.iconst 0, 1) := dk_3 (dk_at dksX1_closedWalks_1 22 rfl rfl)
theorem dX1_closedWalks_47 : decode cX1_closedWalks 47 = .ok (.istore 5, 2) := dk_54 5 (dk_at dksX1_closedWalks_2 0 rfl rfl)
theorem dX1_closedWalks_49 : decode cX1_closedWalks 49 = .ok (.aload_n 2, 1) := dk_44 (dk_at dksX1_closedWalks_2 2 rfl rfl)
theorem dX1_closedWalks_50 : decode cX1_closedWalks 50 = .ok (.iload_n 3, 1) := dk_29 (dk_at dksX1_closedWalks_2 3 rfl rfl)
theorem dX1_closedWalks_51 : decode cX1_closedWalks 51 = .ok (.aaload, 1) := dk_50 (dk_at dksX1_closedWalks_2 4 rfl rfl)
theorem dX1_closedWalks_52 : decode cX1_closedWalks 52 = .ok (.iload 4, 2) := dk_21 4 (dk_at dksX1_closedWalks_2 5 rfl rfl)
theorem dX1_closedWalks_54 : decode cX1_closedWalks 54 = .ok (.iload_n 3, 1) := dk_29 (dk_at dksX1_closedWalks_2 7 rfl rfl)
theorem dX1_closedWalks_55 : decode cX1_closedWalks 55 = .ok (.iload 4, 2) := dk_21 4 (dk_at dksX1_closedWalks_2 8 rfl rfl)
theorem dX1_closedWalks_57 : decode cX1_closedWalks 57 = .ok (.if_icmp .ne 7, 3) := dk_160 0 7 (dk_at dksX1_closedWalks_2 10 rfl rfl)
theorem dX1_closedWalks_60 : decode cX1_closedWalks 60 = .ok (.iconst 0, 1) := dk_3 (dk_at dksX1_closedWalks_2 13 rfl rfl)
theorem dX1_closedWalks_61 : decode cX1_closedWalks 61 = .ok (.goto 34, 3) := dk_167 0 34 (dk_at dksX1_closedWalks_2 14 rfl rfl)
theorem dX1_closedWalks_64 : decode cX1_closedWalks 64 = .ok (.iload 5, 2) := dk_21 5 (dk_at dksX1_closedWalks_2 17 rfl rfl)
theorem dX1_closedWalks_66 : decode cX1_closedWalks 66 = .ok (.ifCond .ne 15, 3) := dk_154 0 15 (dk_at dksX1_closedWalks_2 19 rfl rfl)
theorem dX1_closedWalks_69 : decode cX1_closedWalks 69 = .ok (.aload_n 0, 1) := dk_42 (dk_at dksX1_closedWalks_2 22 rfl rfl)
theorem dX1_closedWalks_70 : decode cX1_closedWalks 70 = .ok (.getfield 15, 3) := dk_180 0 15 (dk_at dksX1_closedWalks_3 0 rfl rfl)
theorem dX1_closedWalks_73 : decode cX1_closedWalks 73 = .ok (.iload_n 3, 1) := dk_29 (dk_at dksX1_closedWalks_3 3 rfl rfl)
theorem dX1_closedWalks_74 : decode cX1_closedWalks 74 = .ok (.aaload, 1) := dk_50 (dk_at dksX1_closedWalks_3 4 rfl rfl)
theorem dX1_closedWalks_75 : decode cX1_closedWalks 75 = .ok (.iload 4, 2) := dk_21 4 (dk_at dksX1_closedWalks_3 5 rfl rfl)
theorem dX1_closedWalks_77 : decode cX1_closedWalks 77 = .ok (.iaload, 1) := dk_46 (dk_at dksX1_closedWalks_3 7 rfl rfl)
theorem dX1_closedWalks_78 : decode cX1_closedWalks 78 = .ok (.ifCond .ne 8, 3) := dk_154 0 8 (dk_at dksX1_closedWalks_3 8 rfl rfl)
theorem dX1_closedWalks_81 : decode cX1_closedWalks 81 = .ok (.ldc 106, 2) := dk_18 106 (dk_at dksX1_closedWalks_3 11 rfl rfl)
theorem dX1_closedWalks_83 : decode cX1_closedWalks 83 = .ok (.goto 12, 3) := dk_167 0 12 (dk_at dksX1_closedWalks_3 13 rfl rfl)
theorem dX1_closedWalks_86 : decode cX1_closedWalks 86 = .ok (.aload_n 0, 1) := dk_42 (dk_at dksX1_closedWalks_3 16 rfl rfl)
theorem dX1_closedWalks_87 : decode cX1_closedWalks 87 = .ok (.getfield 15, 3) := dk_180 0 15 (dk_at dksX1_closedWalks_3 17 rfl rfl)
theorem dX1_closedWalks_90 : decode cX1_closedWalks 90 = .ok (.iload_n 3, 1) := dk_29 (dk_at dksX1_closedWalks_3 20 rfl rfl)
theorem dX1_closedWalks_91 : decode cX1_closedWalks 91 = .ok (.aaload, 1) := dk_50 (dk_at dksX1_closedWalks_3 21 rfl rfl)
theorem dX1_closedWalks_92 : decode cX1_closedWalks 92 = .ok (.iload 4, 2) := dk_21 4 (dk_at dksX1_closedWalks_3 22 rfl rfl)
theorem dX1_closedWalks_94 : decode cX1_closedWalks 94 = .ok (.iaload, 1) := dk_46 (dk_at dksX1_closedWalks_4 0 rfl rfl)
theorem dX1_closedWalks_95 : decode cX1_closedWalks 95 = .ok (.iastore, 1) := dk_79 (dk_at dksX1_closedWalks_4 1 rfl rfl)
theorem dX1_closedWalks_96 : decode cX1_closedWalks 96 = .ok (.iinc 4 1, 3) := dk_132 4 1 (dk_at dksX1_closedWalks_4 2 rfl rfl)
theorem dX1_closedWalks_99 : decode cX1_closedWalks 99 = .ok (.goto (-77), 3) := dk_167 255 179 (dk_at dksX1_closedWalks_4 5 rfl rfl)
theorem dX1_closedWalks_102 : decode cX1_closedWalks 102 = .ok (.iinc 3 1, 3) := dk_132 3 1 (dk_at dksX1_closedWalks_4 8 rfl rfl)
theorem dX1_closedWalks_105 : decode cX1_closedWalks 105 = .ok (.goto (-94), 3) := dk_167 255 162 (dk_at dksX1_closedWalks_4 11 rfl rfl)
theorem dX1_closedWalks_108 : decode cX1_closedWalks 108 = .ok (.iconst 0, 1) := dk_3 (dk_at dksX1_closedWalks_4 14 rfl rfl)
theorem dX1_closedWalks_109 : decode cX1_closedWalks 109 = .ok (.istore_n 3, 1) := dk_62 (dk_at dksX1_closedWalks_4 15 rfl rfl)
theorem dX1_closedWalks_110 : decode cX1_closedWalks 110 = .ok (.iload_n 3, 1) := dk_29 (dk_at dksX1_closedWalks_4 16 rfl rfl)
theorem dX1_closedWalks_111 : decode cX1_closedWalks 111 = .ok (.aload_n 0, 1) := dk_42 (dk_at dksX1_closedWalks_4 17 rfl rfl)
theorem dX1_closedWalks_112 : decode cX1_closedWalks 112 = .ok (.getfield 68, 3) := dk_180 0 68 (dk_at dksX1_closedWalks_4 18 rfl rfl)
theorem dX1_closedWalks_115 : decode cX1_closedWalks 115 = .ok (.if_icmp .ge 75, 3) := dk_162 0 75 (dk_at dksX1_closedWalks_4 21 rfl rfl)
theorem dX1_closedWalks_118 : decode cX1_closedWalks 118 = .ok (.iconst 0, 1) := dk_3 (dk_at dksX1_closedWalks_5 0 rfl rfl)
theorem dX1_closedWalks_119 : decode cX1_closedWalks 119 = .ok (.istore 4, 2) := dk_54 4 (dk_at dksX1_closedWalks_5 1 rfl rfl)
theorem dX1_closedWalks_121 : decode cX1_closedWalks 121 = .ok (.iload 4, 2) := dk_21 4 (dk_at dksX1_closedWalks_5 3 rfl rfl)
theorem dX1_closedWalks_123 : decode cX1_closedWalks 123 = .ok (.aload_n 0, 1) := dk_42 (dk_at dksX1_closedWalks_5 5 rfl rfl)
theorem dX1_closedWalks_124 : decode cX1_closedWalks 124 = .ok (.getfield 68, 3) := dk_180 0 68 (dk_at dksX1_closedWalks_5 6 rfl rfl)
theorem dX1_closedWalks_127 : decode cX1_closedWalks 127 = .ok (.if_icmp .ge 57, 3) := dk_162 0 57 (dk_at dksX1_closedWalks_5 9 rfl rfl)
theorem dX1_closedWalks_130 : decode cX1_closedWalks 130 = .ok (.iconst 0, 1) := dk_3 (dk_at dksX1_closedWalks_5 12 rfl rfl)
theorem dX1_closedWalks_131 : decode cX1_closedWalks 131 = .ok (.istore 5, 2) := dk_54 5 (dk_at dksX1_closedWalks_5 13 rfl rfl)
theorem dX1_closedWalks_133 : decode cX1_closedWalks 133 = .ok (.iload 5, 2) := dk_21 5 (dk_at dksX1_closedWalks_5 15 rfl rfl)
theorem dX1_closedWalks_135 : decode cX1_closedWalks 135 = .ok (.aload_n 0, 1) := dk_42 (dk_at dksX1_closedWalks_5 17 rfl rfl)
theorem dX1_closedWalks_136 : decode cX1_closedWalks 136 = .ok (.getfield 68, 3) := dk_180 0 68 (dk_at dksX1_closedWalks_5 18 rfl rfl)
theorem dX1_closedWalks_139 : decode cX1_closedWalks 139 = .ok (.if_icmp .ge 39, 3) := dk_162 0 39 (dk_at dksX1_closedWalks_5 21 rfl rfl)
theorem dX1_closedWalks_142 : decode cX1_closedWalks 142 = .ok (.aload_n 2, 1) := dk_44 (dk_at dksX1_closedWalks_6 0 rfl rfl)
theorem dX1_closedWalks_143 : decode cX1_closedWalks 143 = .ok (.iload 4, 2) := dk_21 4 (dk_at dksX1_closedWalks_6 1 rfl rfl)
theorem dX1_closedWalks_145 : decode cX1_closedWalks 145 = .ok (.aaload, 1) := dk_50 (dk_at dksX1_closedWalks_6 3 rfl rfl)
theorem dX1_closedWalks_146 : decode cX1_closedWalks 146 = .ok (.iload 5, 2) := dk_21 5 (dk_at dksX1_closedWalks_6 4 rfl rfl)
theorem dX1_closedWalks_148 : decode cX1_closedWalks 148 = .ok (.aload_n 2, 1) := dk_44 (dk_at dksX1_closedWalks_6 6 rfl rfl)
theorem dX1_closedWalks_149 : decode cX1_closedWalks 149 = .ok (.iload 4, 2) := dk_21 4 (dk_at dksX1_closedWalks_6 7 rfl rfl)
theorem dX1_closedWalks_151 : decode cX1_closedWalks 151 = .ok (.aaload, 1) := dk_50 (dk_at dksX1_closedWalks_6 9 rfl rfl)
theorem dX1_closedWalks_152 : decode cX1_closedWalks 152 = .ok (.iload 5, 2) := dk_21 5 (dk_at dksX1_closedWalks_6 10 rfl rfl)
theorem dX1_closedWalks_154 : decode cX1_closedWalks 154 = .ok (.iaload, 1) := dk_46 (dk_at dksX1_closedWalks_6 12 rfl rfl)
theorem dX1_closedWalks_155 : decode cX1_closedWalks 155 = .ok (.aload_n 2, 1) := dk_44 (dk_at dksX1_closedWalks_6 13 rfl rfl)
theorem dX1_closedWalks_156 : decode cX1_closedWalks 156 = .ok (.iload 4, 2) := dk_21 4 (dk_at dksX1_closedWalks_6 14 rfl rfl)
theorem dX1_closedWalks_158 : decode cX1_closedWalks 158 = .ok (.aaload, 1) := dk_50 (dk_at dksX1_closedWalks_6 16 rfl rfl)
theorem dX1_closedWalks_159 : decode cX1_closedWalks 159 = .ok (.iload_n 3, 1) := dk_29 (dk_at dksX1_closedWalks_6 17 rfl rfl)
theorem dX1_closedWalks_160 : decode cX1_closedWalks 160 = .ok (.iaload, 1) := dk_46 (dk_at dksX1_closedWalks_6 18 rfl rfl)
theorem dX1_closedWalks_161 : decode cX1_closedWalks 161 = .ok (.aload_n 2, 1) := dk_44 (dk_at dksX1_closedWalks_6 19 rfl rfl)
theorem dX1_closedWalks_162 : decode cX1_closedWalks 162 = .ok (.iload_n 3, 1) := dk_29 (dk_at dksX1_closedWalks_6 20 rfl rfl)
theorem dX1_closedWalks_163 : decode cX1_closedWalks 163 = .ok (.aaload, 1) := dk_50 (dk_at dksX1_closedWalks_6 21 rfl rfl)
theorem dX1_closedWalks_164 : decode cX1_closedWalks 164 = .ok (.iload 5, 2) := dk_21 5 (dk_at dksX1_closedWalks_6 22 rfl rfl)
theorem dX1_closedWalks_166 : decode cX1_closedWalks 166 = .ok (.iaload, 1) := dk_46 (dk_at dksX1_closedWalks_7 0 rfl rfl)
theorem dX1_closedWalks_167 : decode cX1_closedWalks 167 = .ok (.iadd, 1) := dk_96 (dk_at dksX1_closedWalks_7 1 rfl rfl)
theorem dX1_closedWalks_168 : decode cX1_closedWalks 168 = .ok (.invokestatic 107, 3) := dk_184 0 107 (dk_at dksX1_closedWalks_7 2 rfl rfl)
theorem dX1_closedWalks_171 : decode cX1_closedWalks 171 = .ok (.iastore, 1) := dk_79 (dk_at dksX1_closedWalks_7 5 rfl rfl)
theorem dX1_closedWalks_172 : decode cX1_closedWalks 172 = .ok (.iinc 5 1, 3) := dk_132 5 1 (dk_at dksX1_closedWalks_7 6 rfl rfl)
theorem dX1_closedWalks_175 : decode cX1_closedWalks 175 = .ok (.goto (-42), 3) := dk_167 255 214 (dk_at dksX1_closedWalks_7 9 rfl rfl)
theorem dX1_closedWalks_178 : decode cX1_closedWalks 178 = .ok (.iinc 4 1, 3) := dk_132 4 1 (dk_at dksX1_closedWalks_7 12 rfl rfl)
theorem dX1_closedWalks_181 : decode cX1_closedWalks 181 = .ok (.goto (-60), 3) := dk_167 255 196 (dk_at dksX1_closedWalks_7 15 rfl rfl)
theorem dX1_closedWalks_184 : decode cX1_closedWalks 184 = .ok (.iinc 3 1, 3) := dk_132 3 1 (dk_at dksX1_closedWalks_7 18 rfl rfl)
theorem dX1_closedWalks_187 : decode cX1_closedWalks 187 = .ok (.goto (-77), 3) := dk_167 255 179 (dk_at dksX1_closedWalks_7 21 rfl rfl)
theorem dX1_closedWalks_190 : decode cX1_closedWalks 190 = .ok (.aload_n 2, 1) := dk_44 (dk_at dksX1_closedWalks_8 0 rfl rfl)
theorem dX1_closedWalks_191 : decode cX1_closedWalks 191 = .ok (.areturn, 1) := dk_176 (dk_at dksX1_closedWalks_8 1 rfl rfl)
abbrev cX1_requireThere : ByteArray := prog_1_method_5_code
def yX1_requireThere : MethodName := ⟨RX1, "requireThere", "(Z)V"⟩
def dkwX1_requireThere_0 : List UInt8 := [26, 154, 0, 11, 187, 0, 55, 89, 183, 0, 57, 191, 177]
abbrev dktX1_requireThere_0 : List UInt8 := dkwX1_requireThere_0 ++ []
theorem dksX1_requireThere_0 : cX1_requireThere.data.toList.drop 0 = dktX1_requireThere_0 := by decide +kernel
theorem dX1_requireThere_0 : decode cX1_requireThere 0 = .ok (.iload_n 0, 1) := dk_26 (dk_at dksX1_requireThere_0 0 rfl rfl)
theorem dX1_requireThere_1 : decode cX1_requireThere 1 = .ok (.ifCond .ne 11, 3) := dk_154 0 11 (dk_at dksX1_requireThere_0 1 rfl rfl)
theorem dX1_requireThere_4 : decode cX1_requireThere 4 = .ok (.new 55, 3) := dk_187 0 55 (dk_at dksX1_requireThere_0 4 rfl rfl)
theorem dX1_requireThere_7 : decode cX1_requireThere 7 = .ok (.dup, 1) := dk_89 (dk_at dksX1_requireThere_0 7 rfl rfl)
theorem dX1_requireThere_8 : decode cX1_requireThere 8 = .ok (.invokespecial 57, 3) := dk_183 0 57 (dk_at dksX1_requireThere_0 8 rfl rfl)
theorem dX1_requireThere_11 : decode cX1_requireThere 11 = .ok (.athrow, 1) := dk_191 (dk_at dksX1_requireThere_0 11 rfl rfl)
theorem dX1_requireThere_12 : decode cX1_requireThere 12 = .ok (.return_, 1) := dk_177 (dk_at dksX1_requireThere_0 12 rfl rfl)
abbrev cX1_service : ByteArray := prog_1_method_19_code
def yX1_service : MethodName := ⟨RX1, "service", "()I"⟩
def dkwX1_service_1 : List UInt8 := [187, 0, 94, 89, 183, 0, 120, 182, 0, 121, 87, 42, 180, 0, 21, 182, 0, 71, 4, 100, 172]
abbrev dktX1_service_1 : List UInt8 := dkwX1_service_1 ++ []
def dkwX1_service_0 : List UInt8 := [42, 180, 0, 21, 182, 0, 71, 16, 6, 162, 0, 7, 4, 167, 0, 4, 3, 184, 0, 99, 42, 180, 0, 21]
abbrev dktX1_service_0 : List UInt8 := dkwX1_service_0 ++ dktX1_service_1
theorem dksX1_service_0 : cX1_service.data.toList.drop 0 = dktX1_service_0 := by decide +kernel
theorem dksX1_service_1 : cX1_service.data.toList.drop 24 = dktX1_service_1 := dk_seg dksX1_service_0 24 rfl rfl
theorem dX1_service_0 : decode cX1_service 0 = .ok (.aload_n 0, 1) := dk_42 (dk_at dksX1_service_0 0 rfl rfl)
theorem dX1_service_1 : decode cX1_service 1 = .ok (.getfield 21, 3) := dk_180 0 21 (dk_at dksX1_service_0 1 rfl rfl)
theorem dX1_service_4 : decode cX1_service 4 = .ok (.invokevirtual 71, 3) := dk_182 0 71 (dk_at dksX1_service_0 4 rfl rfl)
theorem dX1_service_7 : decode cX1_service 7 = .ok (.bipush 6, 2) := dk_16 6 (dk_at dksX1_service_0 7 rfl rfl)
theorem dX1_service_9 : decode cX1_service 9 = .ok (.if_icmp .ge 7, 3) := dk_162 0 7 (dk_at dksX1_service_0 9 rfl rfl)
theorem dX1_service_12 : decode cX1_service 12 = .ok (.iconst 1, 1) := dk_4 (dk_at dksX1_service_0 12 rfl rfl)
theorem dX1_service_13 : decode cX1_service 13 = .ok (.goto 4, 3) := dk_167 0 4 (dk_at dksX1_service_0 13 rfl rfl)
theorem dX1_service_16 : decode cX1_service 16 = .ok (.iconst 0, 1) := dk_3 (dk_at dksX1_service_0 16 rfl rfl)
theorem dX1_service_17 : decode cX1_service 17 = .ok (.invokestatic 99, 3) := dk_184 0 99 (dk_at dksX1_service_0 17 rfl rfl)
theorem dX1_service_20 : decode cX1_service 20 = .ok (.aload_n 0, 1) := dk_42 (dk_at dksX1_service_0 20 rfl rfl)
theorem dX1_service_21 : decode cX1_service 21 = .ok (.getfield 21, 3) := dk_180 0 21 (dk_at dksX1_service_0 21 rfl rfl)
theorem dX1_service_24 : decode cX1_service 24 = .ok (.new 94, 3) := dk_187 0 94 (dk_at dksX1_service_1 0 rfl rfl)
theorem dX1_service_27 : decode cX1_service 27 = .ok (.dup, 1) := dk_89 (dk_at dksX1_service_1 3 rfl rfl)
theorem dX1_service_28 : decode cX1_service 28 = .ok (.invokespecial 120, 3) := dk_183 0 120 (dk_at dksX1_service_1 4 rfl rfl)
theorem dX1_service_31 : decode cX1_service 31 = .ok (.invokevirtual 121, 3) := dk_182 0 121 (dk_at dksX1_service_1 7 rfl rfl)
theorem dX1_service_34 : decode cX1_service 34 = .ok (.pop, 1) := dk_87 (dk_at dksX1_service_1 10 rfl rfl)
theorem dX1_service_35 : decode cX1_service 35 = .ok (.aload_n 0, 1) := dk_42 (dk_at dksX1_service_1 11 rfl rfl)
theorem dX1_service_36 : decode cX1_service 36 = .ok (.getfield 21, 3) := dk_180 0 21 (dk_at dksX1_service_1 12 rfl rfl)
theorem dX1_service_39 : decode cX1_service 39 = .ok (.invokevirtual 71, 3) := dk_182 0 71 (dk_at dksX1_service_1 15 rfl rfl)
theorem dX1_service_42 : decode cX1_service 42 = .ok (.iconst 1, 1) := dk_4 (dk_at dksX1_service_1 18 rfl rfl)
theorem dX1_service_43 : decode cX1_service 43 = .ok (.isub, 1) := dk_100 (dk_at dksX1_service_1 19 rfl rfl)
theorem dX1_service_44 : decode cX1_service 44 = .ok (.ireturn, 1) := dk_172 (dk_at dksX1_service_1 20 rfl rfl)
abbrev cX1_week : ByteArray := prog_1_method_20_code
def yX1_week : MethodName := ⟨RX1, "week", "(IIII)I"⟩
def dkwX1_week_3 : List UInt8 := [21, 6, 182, 0, 132, 132, 6, 1, 167, 255, 226, 25, 5, 182, 0, 136, 172]
abbrev dktX1_week_3 : List UInt8 := dkwX1_week_3 ++ []
def dkwX1_week_2 : List UInt8 := [54, 6, 21, 6, 21, 4, 163, 0, 29, 28, 21, 6, 16, 7, 112, 122, 4, 126, 4, 160, 0, 10, 25, 5]
abbrev dktX1_week_2 : List UInt8 := dkwX1_week_2 ++ dktX1_week_3
def dkwX1_week_1 : List UInt8 := [21, 4, 184, 0, 129, 153, 0, 13, 29, 21, 4, 163, 0, 7, 4, 167, 0, 4, 3, 184, 0, 96, 29]
abbrev dktX1_week_1 : List UInt8 := dkwX1_week_1 ++ dktX1_week_2
def dkwX1_week_0 : List UInt8 := [42, 27, 182, 0, 125, 58, 5, 28, 3, 16, 127, 184, 0, 64, 153, 0, 28, 29, 184, 0, 129, 153, 0, 21]
abbrev dktX1_week_0 : List UInt8 := dkwX1_week_0 ++ dktX1_week_1
theorem dksX1_week_0 : cX1_week.data.toList.drop 0 = dktX1_week_0 := by decide +kernel
theorem dksX1_week_1 : cX1_week.data.toList.drop 24 = dktX1_week_1 := dk_seg dksX1_week_0 24 rfl rfl
theorem dksX1_week_2 : cX1_week.data.toList.drop 47 = dktX1_week_2 := dk_seg dksX1_week_1 23 rfl rfl
theorem dksX1_week_3 : cX1_week.data.toList.drop 71 = dktX1_week_3 := dk_seg dksX1_week_2 24 rfl rfl
theorem dX1_week_0 : decode cX1_week 0 = .ok (.aload_n 0, 1) := dk_42 (dk_at dksX1_week_0 0 rfl rfl)
theorem dX1_week_1 : decode cX1_week 1 = .ok (.iload_n 1, 1) := dk_27 (dk_at dksX1_week_0 1 rfl rfl)
theorem dX1_week_2 : decode cX1_week 2 = .ok (.invokevirtual 125, 3) := dk_182 0 125 (dk_at dksX1_week_0 2 rfl rfl)
theorem dX1_week_5 : decode cX1_week 5 = .ok (.astore 5, 2) := dk_58 5 (dk_at dksX1_week_0 5 rfl rfl)
theorem dX1_week_7 : decode cX1_week 7 = .ok (.iload_n 2, 1) := dk_28 (dk_at dksX1_week_0 7 rfl rfl)
theorem dX1_week_8 : decode cX1_week 8 = .ok (.iconst 0, 1) := dk_3 (dk_at dksX1_week_0 8 rfl rfl)
theorem dX1_week_9 : decode cX1_week 9 = .ok (.bipush 127, 2) := dk_16 127 (dk_at dksX1_week_0 9 rfl rfl)
theorem dX1_week_11 : decode cX1_week 11 = .ok (.invokestatic 64, 3) := dk_184 0 64 (dk_at dksX1_week_0 11 rfl rfl)
theorem dX1_week_14 : decode cX1_week 14 = .ok (.ifCond .eq 28, 3) := dk_153 0 28 (dk_at dksX1_week_0 14 rfl rfl)
theorem dX1_week_17 : decode cX1_week 17 = .ok (.iload_n 3, 1) := dk_29 (dk_at dksX1_week_0 17 rfl rfl)
theorem dX1_week_18 : decode cX1_week 18 = .ok (.invokestatic 129, 3) := dk_184 0 129 (dk_at dksX1_week_0 18 rfl rfl)
theorem dX1_week_21 : decode cX1_week 21 = .ok (.ifCond .eq 21, 3) := dk_153 0 21 (dk_at dksX1_week_0 21 rfl rfl)
theorem dX1_week_24 : decode cX1_week 24 = .ok (.iload 4, 2) := dk_21 4 (dk_at dksX1_week_1 0 rfl rfl)
theorem dX1_week_26 : decode cX1_week 26 = .ok (.invokestatic 129, 3) := dk_184 0 129 (dk_at dksX1_week_1 2 rfl rfl)
theorem dX1_week_29 : decode cX1_week 29 = .ok (.ifCond .eq 13, 3) := dk_153 0 13 (dk_at dksX1_week_1 5 rfl rfl)
theorem dX1_week_32 : decode cX1_week 32 = .ok (.iload_n 3, 1) := dk_29 (dk_at dksX1_week_1 8 rfl rfl)
theorem dX1_week_33 : decode cX1_week 33 = .ok (.iload 4, 2) := dk_21 4 (dk_at dksX1_week_1 9 rfl rfl)
theorem dX1_week_35 : decode cX1_week 35 = .ok (.if_icmp .gt 7, 3) := dk_163 0 7 (dk_at dksX1_week_1 11 rfl rfl)
theorem dX1_week_38 : decode cX1_week 38 = .ok (.iconst 1, 1) := dk_4 (dk_at dksX1_week_1 14 rfl rfl)
theorem dX1_week_39 : decode cX1_week 39 = .ok (.goto 4, 3) := dk_167 0 4 (dk_at dksX1_week_1 15 rfl rfl)
theorem dX1_week_42 : decode cX1_week 42 = .ok (.iconst 0, 1) := dk_3 (dk_at dksX1_week_1 18 rfl rfl)
theorem dX1_week_43 : decode cX1_week 43 = .ok (.invokestatic 96, 3) := dk_184 0 96 (dk_at dksX1_week_1 19 rfl rfl)
theorem dX1_week_46 : decode cX1_week 46 = .ok (.iload_n 3, 1) := dk_29 (dk_at dksX1_week_1 22 rfl rfl)
theorem dX1_week_47 : decode cX1_week 47 = .ok (.istore 6, 2) := dk_54 6 (dk_at dksX1_week_2 0 rfl rfl)
theorem dX1_week_49 : decode cX1_week 49 = .ok (.iload 6, 2) := dk_21 6 (dk_at dksX1_week_2 2 rfl rfl)
theorem dX1_week_51 : decode cX1_week 51 = .ok (.iload 4, 2) := dk_21 4 (dk_at dksX1_week_2 4 rfl rfl)
theorem dX1_week_53 : decode cX1_week 53 = .ok (.if_icmp .gt 29, 3) := dk_163 0 29 (dk_at dksX1_week_2 6 rfl rfl)
theorem dX1_week_56 : decode cX1_week 56 = .ok (.iload_n 2, 1) := dk_28 (dk_at dksX1_week_2 9 rfl rfl)
theorem dX1_week_57 : decode cX1_week 57 = .ok (.iload 6, 2) := dk_21 6 (dk_at dksX1_week_2 10 rfl rfl)
theorem dX1_week_59 : decode cX1_week 59 = .ok (.bipush 7, 2) := dk_16 7 (dk_at dksX1_week_2 12 rfl rfl)
theorem dX1_week_61 : decode cX1_week 61 = .ok (.irem, 1) := dk_112 (dk_at dksX1_week_2 14 rfl rfl)
theorem dX1_week_62 : decode cX1_week 62 = .ok (.ishr, 1) := dk_122 (dk_at dksX1_week_2 15 rfl rfl)
theorem dX1_week_63 : decode cX1_week 63 = .ok (.iconst 1, 1) := dk_4 (dk_at dksX1_week_2 16 rfl rfl)
theorem dX1_week_64 : decode cX1_week 64 = .ok (.iand, 1) := dk_126 (dk_at dksX1_week_2 17 rfl rfl)
theorem dX1_week_65 : decode cX1_week 65 = .ok (.iconst 1, 1) := dk_4 (dk_at dksX1_week_2 18 rfl rfl)
theorem dX1_week_66 : decode cX1_week 66 = .ok (.if_icmp .ne 10, 3) := dk_160 0 10 (dk_at dksX1_week_2 19 rfl rfl)
theorem dX1_week_69 : decode cX1_week 69 = .ok (.aload 5, 2) := dk_25 5 (dk_at dksX1_week_2 22 rfl rfl)
theorem dX1_week_71 : decode cX1_week 71 = .ok (.iload 6, 2) := dk_21 6 (dk_at dksX1_week_3 0 rfl rfl)
theorem dX1_week_73 : decode cX1_week 73 = .ok (.invokevirtual 132, 3) := dk_182 0 132 (dk_at dksX1_week_3 2 rfl rfl)
theorem dX1_week_76 : decode cX1_week 76 = .ok (.iinc 6 1, 3) := dk_132 6 1 (dk_at dksX1_week_3 5 rfl rfl)
theorem dX1_week_79 : decode cX1_week 79 = .ok (.goto (-30), 3) := dk_167 255 226 (dk_at dksX1_week_3 8 rfl rfl)
theorem dX1_week_82 : decode cX1_week 82 = .ok (.aload 5, 2) := dk_25 5 (dk_at dksX1_week_3 11 rfl rfl)
theorem dX1_week_84 : decode cX1_week 84 = .ok (.invokevirtual 136, 3) := dk_182 0 136 (dk_at dksX1_week_3 13 rfl rfl)
theorem dX1_week_87 : decode cX1_week 87 = .ok (.ireturn, 1) := dk_172 (dk_at dksX1_week_3 16 rfl rfl)
abbrev cX1_serviceOf : ByteArray := prog_1_method_13_code
def yX1_serviceOf : MethodName := ⟨RX1, "serviceOf", "(I)Ljava/util/BitSet;"⟩
def dkwX1_serviceOf_1 : List UInt8 := [182, 0, 79, 192, 0, 94, 176]
abbrev dktX1_serviceOf_1 : List UInt8 := dkwX1_serviceOf_1 ++ []
def dkwX1_serviceOf_0 : List UInt8 := [27, 3, 42, 180, 0, 21, 182, 0, 71, 4, 100, 184, 0, 64, 184, 0, 75, 42, 180, 0, 21, 27]
abbrev dktX1_serviceOf_0 : List UInt8 := dkwX1_serviceOf_0 ++ dktX1_serviceOf_1
theorem dksX1_serviceOf_0 : cX1_serviceOf.data.toList.drop 0 = dktX1_serviceOf_0 := by decide +kernel
theorem dksX1_serviceOf_1 : cX1_serviceOf.data.toList.drop 22 = dktX1_serviceOf_1 := dk_seg dksX1_serviceOf_0 22 rfl rfl
theorem dX1_serviceOf_0 : decode cX1_serviceOf 0 = .ok (.iload_n 1, 1) := dk_27 (dk_at dksX1_serviceOf_0 0 rfl rfl)
theorem dX1_serviceOf_1 : decode cX1_serviceOf 1 = .ok (.iconst 0, 1) := dk_3 (dk_at dksX1_serviceOf_0 1 rfl rfl)
theorem dX1_serviceOf_2 : decode cX1_serviceOf 2 = .ok (.aload_n 0, 1) := dk_42 (dk_at dksX1_serviceOf_0 2 rfl rfl)
theorem dX1_serviceOf_3 : decode cX1_serviceOf 3 = .ok (.getfield 21, 3) := dk_180 0 21 (dk_at dksX1_serviceOf_0 3 rfl rfl)
theorem dX1_serviceOf_6 : decode cX1_serviceOf 6 = .ok (.invokevirtual 71, 3) := dk_182 0 71 (dk_at dksX1_serviceOf_0 6 rfl rfl)
theorem dX1_serviceOf_9 : decode cX1_serviceOf 9 = .ok (.iconst 1, 1) := dk_4 (dk_at dksX1_serviceOf_0 9 rfl rfl)
theorem dX1_serviceOf_10 : decode cX1_serviceOf 10 = .ok (.isub, 1) := dk_100 (dk_at dksX1_serviceOf_0 10 rfl rfl)
theorem dX1_serviceOf_11 : decode cX1_serviceOf 11 = .ok (.invokestatic 64, 3) := dk_184 0 64 (dk_at dksX1_serviceOf_0 11 rfl rfl)
theorem dX1_serviceOf_14 : decode cX1_serviceOf 14 = .ok (.invokestatic 75, 3) := dk_184 0 75 (dk_at dksX1_serviceOf_0 14 rfl rfl)
theorem dX1_serviceOf_17 : decode cX1_serviceOf 17 = .ok (.aload_n 0, 1) := dk_42 (dk_at dksX1_serviceOf_0 17 rfl rfl)
theorem dX1_serviceOf_18 : decode cX1_serviceOf 18 = .ok (.getfield 21, 3) := dk_180 0 21 (dk_at dksX1_serviceOf_0 18 rfl rfl)
theorem dX1_serviceOf_21 : decode cX1_serviceOf 21 = .ok (.iload_n 1, 1) := dk_27 (dk_at dksX1_serviceOf_0 21 rfl rfl)
theorem dX1_serviceOf_22 : decode cX1_serviceOf 22 = .ok (.invokevirtual 79, 3) := dk_182 0 79 (dk_at dksX1_serviceOf_1 0 rfl rfl)
theorem dX1_serviceOf_25 : decode cX1_serviceOf 25 = .ok (.checkcast 94, 3) := dk_192 0 94 (dk_at dksX1_serviceOf_1 3 rfl rfl)
theorem dX1_serviceOf_28 : decode cX1_serviceOf 28 = .ok (.areturn, 1) := dk_176 (dk_at dksX1_serviceOf_1 6 rfl rfl)
abbrev cX1_isDay : ByteArray := prog_1_method_8_code
def yX1_isDay : MethodName := ⟨RX1, "isDay", "(I)Z"⟩
def dkwX1_isDay_0 : List UInt8 := [26, 3, 16, 27, 184, 0, 64, 172]
abbrev dktX1_isDay_0 : List UInt8 := dkwX1_isDay_0 ++ []
theorem dksX1_isDay_0 : cX1_isDay.data.toList.drop 0 = dktX1_isDay_0 := by decide +kernel
theorem dX1_isDay_0 : decode cX1_isDay 0 = .ok (.iload_n 0, 1) := dk_26 (dk_at dksX1_isDay_0 0 rfl rfl)
theorem dX1_isDay_1 : decode cX1_isDay 1 = .ok (.iconst 0, 1) := dk_3 (dk_at dksX1_isDay_0 1 rfl rfl)
theorem dX1_isDay_2 : decode cX1_isDay 2 = .ok (.bipush 27, 2) := dk_16 27 (dk_at dksX1_isDay_0 2 rfl rfl)
theorem dX1_isDay_4 : decode cX1_isDay 4 = .ok (.invokestatic 64, 3) := dk_184 0 64 (dk_at dksX1_isDay_0 4 rfl rfl)
theorem dX1_isDay_7 : decode cX1_isDay 7 = .ok (.ireturn, 1) := dk_172 (dk_at dksX1_isDay_0 7 rfl rfl)
abbrev cX1_putDay : ByteArray := prog_1_method_21_code
def yX1_putDay : MethodName := ⟨RX1, "putDay", "(IIZ)Z"⟩
def dkwX1_putDay_1 : List UInt8 := [29, 159, 0, 9, 25, 4, 28, 182, 0, 141, 21, 5, 172]
abbrev dktX1_putDay_1 : List UInt8 := dkwX1_putDay_1 ++ []
def dkwX1_putDay_0 : List UInt8 := [42, 27, 182, 0, 125, 58, 4, 28, 184, 0, 129, 184, 0, 96, 25, 4, 28, 182, 0, 139, 54, 5, 21, 5]
abbrev dktX1_putDay_0 : List UInt8 := dkwX1_putDay_0 ++ dktX1_putDay_1
theorem dksX1_putDay_0 : cX1_putDay.data.toList.drop 0 = dktX1_putDay_0 := by decide +kernel
theorem dksX1_putDay_1 : cX1_putDay.data.toList.drop 24 = dktX1_putDay_1 := dk_seg dksX1_putDay_0 24 rfl rfl
theorem dX1_putDay_0 : decode cX1_putDay 0 = .ok (.aload_n 0, 1) := dk_42 (dk_at dksX1_putDay_0 0 rfl rfl)
theorem dX1_putDay_1 : decode cX1_putDay 1 = .ok (.iload_n 1, 1) := dk_27 (dk_at dksX1_putDay_0 1 rfl rfl)
theorem dX1_putDay_2 : decode cX1_putDay 2 = .ok (.invokevirtual 125, 3) := dk_182 0 125 (dk_at dksX1_putDay_0 2 rfl rfl)
theorem dX1_putDay_5 : decode cX1_putDay 5 = .ok (.astore 4, 2) := dk_58 4 (dk_at dksX1_putDay_0 5 rfl rfl)
theorem dX1_putDay_7 : decode cX1_putDay 7 = .ok (.iload_n 2, 1) := dk_28 (dk_at dksX1_putDay_0 7 rfl rfl)
theorem dX1_putDay_8 : decode cX1_putDay 8 = .ok (.invokestatic 129, 3) := dk_184 0 129 (dk_at dksX1_putDay_0 8 rfl rfl)
theorem dX1_putDay_11 : decode cX1_putDay 11 = .ok (.invokestatic 96, 3) := dk_184 0 96 (dk_at dksX1_putDay_0 11 rfl rfl)
theorem dX1_putDay_14 : decode cX1_putDay 14 = .ok (.aload 4, 2) := dk_25 4 (dk_at dksX1_putDay_0 14 rfl rfl)
theorem dX1_putDay_16 : decode cX1_putDay 16 = .ok (.iload_n 2, 1) := dk_28 (dk_at dksX1_putDay_0 16 rfl rfl)
theorem dX1_putDay_17 : decode cX1_putDay 17 = .ok (.invokevirtual 139, 3) := dk_182 0 139 (dk_at dksX1_putDay_0 17 rfl rfl)
theorem dX1_putDay_20 : decode cX1_putDay 20 = .ok (.istore 5, 2) := dk_54 5 (dk_at dksX1_putDay_0 20 rfl rfl)
theorem dX1_putDay_22 : decode cX1_putDay 22 = .ok (.iload 5, 2) := dk_21 5 (dk_at dksX1_putDay_0 22 rfl rfl)
theorem dX1_putDay_24 : decode cX1_putDay 24 = .ok (.iload_n 3, 1) := dk_29 (dk_at dksX1_putDay_1 0 rfl rfl)
theorem dX1_putDay_25 : decode cX1_putDay 25 = .ok (.if_icmp .eq 9, 3) := dk_159 0 9 (dk_at dksX1_putDay_1 1 rfl rfl)
theorem dX1_putDay_28 : decode cX1_putDay 28 = .ok (.aload 4, 2) := dk_25 4 (dk_at dksX1_putDay_1 4 rfl rfl)
theorem dX1_putDay_30 : decode cX1_putDay 30 = .ok (.iload_n 2, 1) := dk_28 (dk_at dksX1_putDay_1 6 rfl rfl)
theorem dX1_putDay_31 : decode cX1_putDay 31 = .ok (.invokevirtual 141, 3) := dk_182 0 141 (dk_at dksX1_putDay_1 7 rfl rfl)
theorem dX1_putDay_34 : decode cX1_putDay 34 = .ok (.iload 5, 2) := dk_21 5 (dk_at dksX1_putDay_1 10 rfl rfl)
theorem dX1_putDay_36 : decode cX1_putDay 36 = .ok (.ireturn, 1) := dk_172 (dk_at dksX1_putDay_1 12 rfl rfl)
abbrev cX1_runsOn : ByteArray := prog_1_method_22_code
def yX1_runsOn : MethodName := ⟨RX1, "runsOn", "(II)Z"⟩
def dkwX1_runsOn_0 : List UInt8 := [42, 27, 182, 0, 125, 78, 28, 184, 0, 129, 184, 0, 96, 45, 28, 182, 0, 139, 172]
abbrev dktX1_runsOn_0 : List UInt8 := dkwX1_runsOn_0 ++ []
theorem dksX1_runsOn_0 : cX1_runsOn.data.toList.drop 0 = dktX1_runsOn_0 := by decide +kernel
theorem dX1_runsOn_0 : decode cX1_runsOn 0 = .ok (.aload_n 0, 1) := dk_42 (dk_at dksX1_runsOn_0 0 rfl rfl)
theorem dX1_runsOn_1 : decode cX1_runsOn 1 = .ok (.iload_n 1, 1) := dk_27 (dk_at dksX1_runsOn_0 1 rfl rfl)
theorem dX1_runsOn_2 : decode cX1_runsOn 2 = .ok (.invokevirtual 125, 3) := dk_182 0 125 (dk_at dksX1_runsOn_0 2 rfl rfl)
theorem dX1_runsOn_5 : decode cX1_runsOn 5 = .ok (.astore_n 3, 1) := dk_78 (dk_at dksX1_runsOn_0 5 rfl rfl)
theorem dX1_runsOn_6 : decode cX1_runsOn 6 = .ok (.iload_n 2, 1) := dk_28 (dk_at dksX1_runsOn_0 6 rfl rfl)
theorem dX1_runsOn_7 : decode cX1_runsOn 7 = .ok (.invokestatic 129, 3) := dk_184 0 129 (dk_at dksX1_runsOn_0 7 rfl rfl)
theorem dX1_runsOn_10 : decode cX1_runsOn 10 = .ok (.invokestatic 96, 3) := dk_184 0 96 (dk_at dksX1_runsOn_0 10 rfl rfl)
theorem dX1_runsOn_13 : decode cX1_runsOn 13 = .ok (.aload_n 3, 1) := dk_45 (dk_at dksX1_runsOn_0 13 rfl rfl)
theorem dX1_runsOn_14 : decode cX1_runsOn 14 = .ok (.iload_n 2, 1) := dk_28 (dk_at dksX1_runsOn_0 14 rfl rfl)
theorem dX1_runsOn_15 : decode cX1_runsOn 15 = .ok (.invokevirtual 139, 3) := dk_182 0 139 (dk_at dksX1_runsOn_0 15 rfl rfl)
theorem dX1_runsOn_18 : decode cX1_runsOn 18 = .ok (.ireturn, 1) := dk_172 (dk_at dksX1_runsOn_0 18 rfl rfl)
abbrev cX1_nextDay : ByteArray := prog_1_method_23_code
def yX1_nextDay : MethodName := ⟨RX1, "nextDay", "(II)I"⟩
def dkwX1_nextDay_1 : List UInt8 := [155, 0, 7, 4, 167, 0, 4, 3, 184, 0, 117, 21, 4, 172]
abbrev dktX1_nextDay_1 : List UInt8 := dkwX1_nextDay_1 ++ []
def dkwX1_nextDay_0 : List UInt8 := [42, 27, 182, 0, 125, 78, 28, 184, 0, 129, 184, 0, 96, 45, 28, 182, 0, 144, 54, 4, 21, 4]
abbrev dktX1_nextDay_0 : List UInt8 := dkwX1_nextDay_0 ++ dktX1_nextDay_1
theorem dksX1_nextDay_0 : cX1_nextDay.data.toList.drop 0 = dktX1_nextDay_0 := by decide +kernel
theorem dksX1_nextDay_1 : cX1_nextDay.data.toList.drop 22 = dktX1_nextDay_1 := dk_seg dksX1_nextDay_0 22 rfl rfl
theorem dX1_nextDay_0 : decode cX1_nextDay 0 = .ok (.aload_n 0, 1) := dk_42 (dk_at dksX1_nextDay_0 0 rfl rfl)
theorem dX1_nextDay_1 : decode cX1_nextDay 1 = .ok (.iload_n 1, 1) := dk_27 (dk_at dksX1_nextDay_0 1 rfl rfl)
theorem dX1_nextDay_2 : decode cX1_nextDay 2 = .ok (.invokevirtual 125, 3) := dk_182 0 125 (dk_at dksX1_nextDay_0 2 rfl rfl)
theorem dX1_nextDay_5 : decode cX1_nextDay 5 = .ok (.astore_n 3, 1) := dk_78 (dk_at dksX1_nextDay_0 5 rfl rfl)
theorem dX1_nextDay_6 : decode cX1_nextDay 6 = .ok (.iload_n 2, 1) := dk_28 (dk_at dksX1_nextDay_0 6 rfl rfl)
theorem dX1_nextDay_7 : decode cX1_nextDay 7 = .ok (.invokestatic 129, 3) := dk_184 0 129 (dk_at dksX1_nextDay_0 7 rfl rfl)
theorem dX1_nextDay_10 : decode cX1_nextDay 10 = .ok (.invokestatic 96, 3) := dk_184 0 96 (dk_at dksX1_nextDay_0 10 rfl rfl)
theorem dX1_nextDay_13 : decode cX1_nextDay 13 = .ok (.aload_n 3, 1) := dk_45 (dk_at dksX1_nextDay_0 13 rfl rfl)
theorem dX1_nextDay_14 : decode cX1_nextDay 14 = .ok (.iload_n 2, 1) := dk_28 (dk_at dksX1_nextDay_0 14 rfl rfl)
theorem dX1_nextDay_15 : decode cX1_nextDay 15 = .ok (.invokevirtual 144, 3) := dk_182 0 144 (dk_at dksX1_nextDay_0 15 rfl rfl)
theorem dX1_nextDay_18 : decode cX1_nextDay 18 = .ok (.istore 4, 2) := dk_54 4 (dk_at dksX1_nextDay_0 18 rfl rfl)
theorem dX1_nextDay_20 : decode cX1_nextDay 20 = .ok (.iload 4, 2) := dk_21 4 (dk_at dksX1_nextDay_0 20 rfl rfl)
theorem dX1_nextDay_22 : decode cX1_nextDay 22 = .ok (.ifCond .lt 7, 3) := dk_155 0 7 (dk_at dksX1_nextDay_1 0 rfl rfl)
theorem dX1_nextDay_25 : decode cX1_nextDay 25 = .ok (.iconst 1, 1) := dk_4 (dk_at dksX1_nextDay_1 3 rfl rfl)
theorem dX1_nextDay_26 : decode cX1_nextDay 26 = .ok (.goto 4, 3) := dk_167 0 4 (dk_at dksX1_nextDay_1 4 rfl rfl)
theorem dX1_nextDay_29 : decode cX1_nextDay 29 = .ok (.iconst 0, 1) := dk_3 (dk_at dksX1_nextDay_1 7 rfl rfl)
theorem dX1_nextDay_30 : decode cX1_nextDay 30 = .ok (.invokestatic 117, 3) := dk_184 0 117 (dk_at dksX1_nextDay_1 8 rfl rfl)
theorem dX1_nextDay_33 : decode cX1_nextDay 33 = .ok (.iload 4, 2) := dk_21 4 (dk_at dksX1_nextDay_1 11 rfl rfl)
theorem dX1_nextDay_35 : decode cX1_nextDay 35 = .ok (.ireturn, 1) := dk_172 (dk_at dksX1_nextDay_1 13 rfl rfl)
abbrev cX1_trip : ByteArray := prog_1_method_24_code
def yX1_trip : MethodName := ⟨RX1, "trip", "(III)I"⟩
def dkwX1_trip_3 : List UInt8 := [42, 180, 0, 25, 25, 5, 182, 0, 121, 87, 42, 180, 0, 25, 182, 0, 71, 4, 100, 172]
abbrev dktX1_trip_3 : List UInt8 := dkwX1_trip_3 ++ []
def dkwX1_trip_2 : List UInt8 := [183, 0, 151, 58, 5, 25, 5, 180, 0, 89, 187, 0, 92, 89, 28, 29, 29, 183, 0, 153, 182, 0, 121, 87]
abbrev dktX1_trip_2 : List UInt8 := dkwX1_trip_2 ++ dktX1_trip_3
def dkwX1_trip_1 : List UInt8 := [180, 0, 25, 182, 0, 71, 16, 24, 162, 0, 7, 4, 167, 0, 4, 3, 184, 0, 99, 187, 0, 83, 89, 27]
abbrev dktX1_trip_1 : List UInt8 := dkwX1_trip_1 ++ dktX1_trip_2
def dkwX1_trip_0 : List UInt8 := [42, 27, 182, 0, 125, 58, 4, 42, 28, 182, 0, 102, 184, 0, 75, 29, 184, 0, 148, 184, 0, 96, 42]
abbrev dktX1_trip_0 : List UInt8 := dkwX1_trip_0 ++ dktX1_trip_1
theorem dksX1_trip_0 : cX1_trip.data.toList.drop 0 = dktX1_trip_0 := by decide +kernel
theorem dksX1_trip_1 : cX1_trip.data.toList.drop 23 = dktX1_trip_1 := dk_seg dksX1_trip_0 23 rfl rfl
theorem dksX1_trip_2 : cX1_trip.data.toList.drop 47 = dktX1_trip_2 := dk_seg dksX1_trip_1 24 rfl rfl
theorem dksX1_trip_3 : cX1_trip.data.toList.drop 71 = dktX1_trip_3 := dk_seg dksX1_trip_2 24 rfl rfl
theorem dX1_trip_0 : decode cX1_trip 0 = .ok (.aload_n 0, 1) := dk_42 (dk_at dksX1_trip_0 0 rfl rfl)
theorem dX1_trip_1 : decode cX1_trip 1 = .ok (.iload_n 1, 1) := dk_27 (dk_at dksX1_trip_0 1 rfl rfl)
theorem dX1_trip_2 : decode cX1_trip 2 = .ok (.invokevirtual 125, 3) := dk_182 0 125 (dk_at dksX1_trip_0 2 rfl rfl)
theorem dX1_trip_5 : decode cX1_trip 5 = .ok (.astore 4, 2) := dk_58 4 (dk_at dksX1_trip_0 5 rfl rfl)
theorem dX1_trip_7 : decode cX1_trip 7 = .ok (.aload_n 0, 1) := dk_42 (dk_at dksX1_trip_0 7 rfl rfl)
theorem dX1_trip_8 : decode cX1_trip 8 = .ok (.iload_n 2, 1) := dk_28 (dk_at dksX1_trip_0 8 rfl rfl)
theorem dX1_trip_9 : decode cX1_trip 9 = .ok (.invokevirtual 102, 3) := dk_182 0 102 (dk_at dksX1_trip_0 9 rfl rfl)
theorem dX1_trip_12 : decode cX1_trip 12 = .ok (.invokestatic 75, 3) := dk_184 0 75 (dk_at dksX1_trip_0 12 rfl rfl)
theorem dX1_trip_15 : decode cX1_trip 15 = .ok (.iload_n 3, 1) := dk_29 (dk_at dksX1_trip_0 15 rfl rfl)
theorem dX1_trip_16 : decode cX1_trip 16 = .ok (.invokestatic 148, 3) := dk_184 0 148 (dk_at dksX1_trip_0 16 rfl rfl)
theorem dX1_trip_19 : decode cX1_trip 19 = .ok (.invokestatic 96, 3) := dk_184 0 96 (dk_at dksX1_trip_0 19 rfl rfl)
theorem dX1_trip_22 : decode cX1_trip 22 = .ok (.aload_n 0, 1) := dk_42 (dk_at dksX1_trip_0 22 rfl rfl)
theorem dX1_trip_23 : decode cX1_trip 23 = .ok (.getfield 25, 3) := dk_180 0 25 (dk_at dksX1_trip_1 0 rfl rfl)
theorem dX1_trip_26 : decode cX1_trip 26 = .ok (.invokevirtual 71, 3) := dk_182 0 71 (dk_at dksX1_trip_1 3 rfl rfl)
theorem dX1_trip_29 : decode cX1_trip 29 = .ok (.bipush 24, 2) := dk_16 24 (dk_at dksX1_trip_1 6 rfl rfl)
theorem dX1_trip_31 : decode cX1_trip 31 = .ok (.if_icmp .ge 7, 3) := dk_162 0 7 (dk_at dksX1_trip_1 8 rfl rfl)
theorem dX1_trip_34 : decode cX1_trip 34 = .ok (.iconst 1, 1) := dk_4 (dk_at dksX1_trip_1 11 rfl rfl)
theorem dX1_trip_35 : decode cX1_trip 35 = .ok (.goto 4, 3) := dk_167 0 4 (dk_at dksX1_trip_1 12 rfl rfl)
theorem dX1_trip_38 : decode cX1_trip 38 = .ok (.iconst 0, 1) := dk_3 (dk_at dksX1_trip_1 15 rfl rfl)
theorem dX1_trip_39 : decode cX1_trip 39 = .ok (.invokestatic 99, 3) := dk_184 0 99 (dk_at dksX1_trip_1 16 rfl rfl)
theorem dX1_trip_42 : decode cX1_trip 42 = .ok (.new 83, 3) := dk_187 0 83 (dk_at dksX1_trip_1 19 rfl rfl)
theorem dX1_trip_45 : decode cX1_trip 45 = .ok (.dup, 1) := dk_89 (dk_at dksX1_trip_1 22 rfl rfl)
theorem dX1_trip_46 : decode cX1_trip 46 = .ok (.iload_n 1, 1) := dk_27 (dk_at dksX1_trip_1 23 rfl rfl)
theorem dX1_trip_47 : decode cX1_trip 47 = .ok (.invokespecial 151, 3) := dk_183 0 151 (dk_at dksX1_trip_2 0 rfl rfl)
theorem dX1_trip_50 : decode cX1_trip 50 = .ok (.astore 5, 2) := dk_58 5 (dk_at dksX1_trip_2 3 rfl rfl)
theorem dX1_trip_52 : decode cX1_trip 52 = .ok (.aload 5, 2) := dk_25 5 (dk_at dksX1_trip_2 5 rfl rfl)
theorem dX1_trip_54 : decode cX1_trip 54 = .ok (.getfield 89, 3) := dk_180 0 89 (dk_at dksX1_trip_2 7 rfl rfl)
theorem dX1_trip_57 : decode cX1_trip 57 = .ok (.new 92, 3) := dk_187 0 92 (dk_at dksX1_trip_2 10 rfl rfl)
theorem dX1_trip_60 : decode cX1_trip 60 = .ok (.dup, 1) := dk_89 (dk_at dksX1_trip_2 13 rfl rfl)
theorem dX1_trip_61 : decode cX1_trip 61 = .ok (.iload_n 2, 1) := dk_28 (dk_at dksX1_trip_2 14 rfl rfl)
theorem dX1_trip_62 : decode cX1_trip 62 = .ok (.iload_n 3, 1) := dk_29 (dk_at dksX1_trip_2 15 rfl rfl)
theorem dX1_trip_63 : decode cX1_trip 63 = .ok (.iload_n 3, 1) := dk_29 (dk_at dksX1_trip_2 16 rfl rfl)
theorem dX1_trip_64 : decode cX1_trip 64 = .ok (.invokespecial 153, 3) := dk_183 0 153 (dk_at dksX1_trip_2 17 rfl rfl)
theorem dX1_trip_67 : decode cX1_trip 67 = .ok (.invokevirtual 121, 3) := dk_182 0 121 (dk_at dksX1_trip_2 20 rfl rfl)
theorem dX1_trip_70 : decode cX1_trip 70 = .ok (.pop, 1) := dk_87 (dk_at dksX1_trip_2 23 rfl rfl)
theorem dX1_trip_71 : decode cX1_trip 71 = .ok (.aload_n 0, 1) := dk_42 (dk_at dksX1_trip_3 0 rfl rfl)
theorem dX1_trip_72 : decode cX1_trip 72 = .ok (.getfield 25, 3) := dk_180 0 25 (dk_at dksX1_trip_3 1 rfl rfl)
theorem dX1_trip_75 : decode cX1_trip 75 = .ok (.aload 5, 2) := dk_25 5 (dk_at dksX1_trip_3 4 rfl rfl)
theorem dX1_trip_77 : decode cX1_trip 77 = .ok (.invokevirtual 121, 3) := dk_182 0 121 (dk_at dksX1_trip_3 6 rfl rfl)
theorem dX1_trip_80 : decode cX1_trip 80 = .ok (.pop, 1) := dk_87 (dk_at dksX1_trip_3 9 rfl rfl)
theorem dX1_trip_81 : decode cX1_trip 81 = .ok (.aload_n 0, 1) := dk_42 (dk_at dksX1_trip_3 10 rfl rfl)
theorem dX1_trip_82 : decode cX1_trip 82 = .ok (.getfield 25, 3) := dk_180 0 25 (dk_at dksX1_trip_3 11 rfl rfl)
theorem dX1_trip_85 : decode cX1_trip 85 = .ok (.invokevirtual 71, 3) := dk_182 0 71 (dk_at dksX1_trip_3 14 rfl rfl)
theorem dX1_trip_88 : decode cX1_trip 88 = .ok (.iconst 1, 1) := dk_4 (dk_at dksX1_trip_3 17 rfl rfl)
theorem dX1_trip_89 : decode cX1_trip 89 = .ok (.isub, 1) := dk_100 (dk_at dksX1_trip_3 18 rfl rfl)
theorem dX1_trip_90 : decode cX1_trip 90 = .ok (.ireturn, 1) := dk_172 (dk_at dksX1_trip_3 19 rfl rfl)
abbrev cX1_isTime : ByteArray := prog_1_method_9_code
def yX1_isTime : MethodName := ⟨RX1, "isTime", "(I)Z"⟩
def dkwX1_isTime_0 : List UInt8 := [26, 3, 17, 11, 63, 184, 0, 64, 172]
abbrev dktX1_isTime_0 : List UInt8 := dkwX1_isTime_0 ++ []
theorem dksX1_isTime_0 : cX1_isTime.data.toList.drop 0 = dktX1_isTime_0 := by decide +kernel
theorem dX1_isTime_0 : decode cX1_isTime 0 = .ok (.iload_n 0, 1) := dk_26 (dk_at dksX1_isTime_0 0 rfl rfl)
theorem dX1_isTime_1 : decode cX1_isTime 1 = .ok (.iconst 0, 1) := dk_3 (dk_at dksX1_isTime_0 1 rfl rfl)
theorem dX1_isTime_2 : decode cX1_isTime 2 = .ok (.sipush 2879, 3) := dk_17 11 63 (dk_at dksX1_isTime_0 2 rfl rfl)
theorem dX1_isTime_5 : decode cX1_isTime 5 = .ok (.invokestatic 64, 3) := dk_184 0 64 (dk_at dksX1_isTime_0 5 rfl rfl)
theorem dX1_isTime_8 : decode cX1_isTime 8 = .ok (.ireturn, 1) := dk_172 (dk_at dksX1_isTime_0 8 rfl rfl)
abbrev cX1_call : ByteArray := prog_1_method_26_code
def yX1_call : MethodName := ⟨RX1, "call", "(IIII)I"⟩
def dkwX1_call_3 : List UInt8 := [180, 0, 89, 182, 0, 71, 172]
abbrev dktX1_call_3 : List UInt8 := dkwX1_call_3 ++ []
def dkwX1_call_2 : List UInt8 := [25, 5, 180, 0, 89, 187, 0, 92, 89, 28, 29, 21, 4, 183, 0, 153, 182, 0, 121, 87, 25, 5]
abbrev dktX1_call_2 : List UInt8 := dkwX1_call_2 ++ dktX1_call_3
def dkwX1_call_1 : List UInt8 := [184, 0, 96, 25, 5, 180, 0, 89, 182, 0, 71, 16, 8, 162, 0, 7, 4, 167, 0, 4, 3, 184, 0, 99]
abbrev dktX1_call_1 : List UInt8 := dkwX1_call_1 ++ dktX1_call_2
def dkwX1_call_0 : List UInt8 := [42, 27, 182, 0, 85, 58, 5, 42, 28, 182, 0, 102, 184, 0, 75, 25, 5, 28, 29, 21, 4, 184, 0, 166]
abbrev dktX1_call_0 : List UInt8 := dkwX1_call_0 ++ dktX1_call_1
theorem dksX1_call_0 : cX1_call.data.toList.drop 0 = dktX1_call_0 := by decide +kernel
theorem dksX1_call_1 : cX1_call.data.toList.drop 24 = dktX1_call_1 := dk_seg dksX1_call_0 24 rfl rfl
theorem dksX1_call_2 : cX1_call.data.toList.drop 48 = dktX1_call_2 := dk_seg dksX1_call_1 24 rfl rfl
theorem dksX1_call_3 : cX1_call.data.toList.drop 70 = dktX1_call_3 := dk_seg dksX1_call_2 22 rfl rfl
theorem dX1_call_0 : decode cX1_call 0 = .ok (.aload_n 0, 1) := dk_42 (dk_at dksX1_call_0 0 rfl rfl)
theorem dX1_call_1 : decode cX1_call 1 = .ok (.iload_n 1, 1) := dk_27 (dk_at dksX1_call_0 1 rfl rfl)
theorem dX1_call_2 : decode cX1_call 2 = .ok (.invokevirtual 85, 3) := dk_182 0 85 (dk_at dksX1_call_0 2 rfl rfl)
theorem dX1_call_5 : decode cX1_call 5 = .ok (.astore 5, 2) := dk_58 5 (dk_at dksX1_call_0 5 rfl rfl)
theorem dX1_call_7 : decode cX1_call 7 = .ok (.aload_n 0, 1) := dk_42 (dk_at dksX1_call_0 7 rfl rfl)
theorem dX1_call_8 : decode cX1_call 8 = .ok (.iload_n 2, 1) := dk_28 (dk_at dksX1_call_0 8 rfl rfl)
theorem dX1_call_9 : decode cX1_call 9 = .ok (.invokevirtual 102, 3) := dk_182 0 102 (dk_at dksX1_call_0 9 rfl rfl)
theorem dX1_call_12 : decode cX1_call 12 = .ok (.invokestatic 75, 3) := dk_184 0 75 (dk_at dksX1_call_0 12 rfl rfl)
theorem dX1_call_15 : decode cX1_call 15 = .ok (.aload 5, 2) := dk_25 5 (dk_at dksX1_call_0 15 rfl rfl)
theorem dX1_call_17 : decode cX1_call 17 = .ok (.iload_n 2, 1) := dk_28 (dk_at dksX1_call_0 17 rfl rfl)
theorem dX1_call_18 : decode cX1_call 18 = .ok (.iload_n 3, 1) := dk_29 (dk_at dksX1_call_0 18 rfl rfl)
theorem dX1_call_19 : decode cX1_call 19 = .ok (.iload 4, 2) := dk_21 4 (dk_at dksX1_call_0 19 rfl rfl)
theorem dX1_call_21 : decode cX1_call 21 = .ok (.invokestatic 166, 3) := dk_184 0 166 (dk_at dksX1_call_0 21 rfl rfl)
theorem dX1_call_24 : decode cX1_call 24 = .ok (.invokestatic 96, 3) := dk_184 0 96 (dk_at dksX1_call_1 0 rfl rfl)
theorem dX1_call_27 : decode cX1_call 27 = .ok (.aload 5, 2) := dk_25 5 (dk_at dksX1_call_1 3 rfl rfl)
theorem dX1_call_29 : decode cX1_call 29 = .ok (.getfield 89, 3) := dk_180 0 89 (dk_at dksX1_call_1 5 rfl rfl)
theorem dX1_call_32 : decode cX1_call 32 = .ok (.invokevirtual 71, 3) := dk_182 0 71 (dk_at dksX1_call_1 8 rfl rfl)
theorem dX1_call_35 : decode cX1_call 35 = .ok (.bipush 8, 2) := dk_16 8 (dk_at dksX1_call_1 11 rfl rfl)
theorem dX1_call_37 : decode cX1_call 37 = .ok (.if_icmp .ge 7, 3) := dk_162 0 7 (dk_at dksX1_call_1 13 rfl rfl)
theorem dX1_call_40 : decode cX1_call 40 = .ok (.iconst 1, 1) := dk_4 (dk_at dksX1_call_1 16 rfl rfl)
theorem dX1_call_41 : decode cX1_call 41 = .ok (.goto 4, 3) := dk_167 0 4 (dk_at dksX1_call_1 17 rfl rfl)
theorem dX1_call_44 : decode cX1_call 44 = .ok (.iconst 0, 1) := dk_3 (dk_at dksX1_call_1 20 rfl rfl)
theorem dX1_call_45 : decode cX1_call 45 = .ok (.invokestatic 99, 3) := dk_184 0 99 (dk_at dksX1_call_1 21 rfl rfl)
theorem dX1_call_48 : decode cX1_call 48 = .ok (.aload 5, 2) := dk_25 5 (dk_at dksX1_call_2 0 rfl rfl)
theorem dX1_call_50 : decode cX1_call 50 = .ok (.getfield 89, 3) := dk_180 0 89 (dk_at dksX1_call_2 2 rfl rfl)
theorem dX1_call_53 : decode cX1_call 53 = .ok (.new 92, 3) := dk_187 0 92 (dk_at dksX1_call_2 5 rfl rfl)
theorem dX1_call_56 : decode cX1_call 56 = .ok (.dup, 1) := dk_89 (dk_at dksX1_call_2 8 rfl rfl)
theorem dX1_call_57 : decode cX1_call 57 = .ok (.iload_n 2, 1) := dk_28 (dk_at dksX1_call_2 9 rfl rfl)
theorem dX1_call_58 : decode cX1_call 58 = .ok (.iload_n 3, 1) := dk_29 (dk_at dksX1_call_2 10 rfl rfl)
theorem dX1_call_59 : decode cX1_call 59 = .ok (.iload 4, 2) := dk_21 4 (dk_at dksX1_call_2 11 rfl rfl)
theorem dX1_call_61 : decode cX1_call 61 = .ok (.invokespecial 153, 3) := dk_183 0 153 (dk_at dksX1_call_2 13 rfl rfl)
theorem dX1_call_64 : decode cX1_call 64 = .ok (.invokevirtual 121, 3) := dk_182 0 121 (dk_at dksX1_call_2 16 rfl rfl)
theorem dX1_call_67 : decode cX1_call 67 = .ok (.pop, 1) := dk_87 (dk_at dksX1_call_2 19 rfl rfl)
theorem dX1_call_68 : decode cX1_call 68 = .ok (.aload 5, 2) := dk_25 5 (dk_at dksX1_call_2 20 rfl rfl)
theorem dX1_call_70 : decode cX1_call 70 = .ok (.getfield 89, 3) := dk_180 0 89 (dk_at dksX1_call_3 0 rfl rfl)
theorem dX1_call_73 : decode cX1_call 73 = .ok (.invokevirtual 71, 3) := dk_182 0 71 (dk_at dksX1_call_3 3 rfl rfl)
theorem dX1_call_76 : decode cX1_call 76 = .ok (.ireturn, 1) := dk_172 (dk_at dksX1_call_3 6 rfl rfl)
abbrev cX1_tripOf : ByteArray := prog_1_method_11_code
def yX1_tripOf : MethodName := ⟨RX1, "tripOf", "(I)LLastbus$Trip;"⟩
def dkwX1_tripOf_1 : List UInt8 := [182, 0, 79, 192, 0, 83, 176]
abbrev dktX1_tripOf_1 : List UInt8 := dkwX1_tripOf_1 ++ []
def dkwX1_tripOf_0 : List UInt8 := [27, 3, 42, 180, 0, 25, 182, 0, 71, 4, 100, 184, 0, 64, 184, 0, 75, 42, 180, 0, 25, 27]
abbrev dktX1_tripOf_0 : List UInt8 := dkwX1_tripOf_0 ++ dktX1_tripOf_1
theorem dksX1_tripOf_0 : cX1_tripOf.data.toList.drop 0 = dktX1_tripOf_0 := by decide +kernel
theorem dksX1_tripOf_1 : cX1_tripOf.data.toList.drop 22 = dktX1_tripOf_1 := dk_seg dksX1_tripOf_0 22 rfl rfl
theorem dX1_tripOf_0 : decode cX1_tripOf 0 = .ok (.iload_n 1, 1) := dk_27 (dk_at dksX1_tripOf_0 0 rfl rfl)
theorem dX1_tripOf_1 : decode cX1_tripOf 1 = .ok (.iconst 0, 1) := dk_3 (dk_at dksX1_tripOf_0 1 rfl rfl)
theorem dX1_tripOf_2 : decode cX1_tripOf 2 = .ok (.aload_n 0, 1) := dk_42 (dk_at dksX1_tripOf_0 2 rfl rfl)
theorem dX1_tripOf_3 : decode cX1_tripOf 3 = .ok (.getfield 25, 3) := dk_180 0 25 (dk_at dksX1_tripOf_0 3 rfl rfl)
theorem dX1_tripOf_6 : decode cX1_tripOf 6 = .ok (.invokevirtual 71, 3) := dk_182 0 71 (dk_at dksX1_tripOf_0 6 rfl rfl)
theorem dX1_tripOf_9 : decode cX1_tripOf 9 = .ok (.iconst 1, 1) := dk_4 (dk_at dksX1_tripOf_0 9 rfl rfl)
theorem dX1_tripOf_10 : decode cX1_tripOf 10 = .ok (.isub, 1) := dk_100 (dk_at dksX1_tripOf_0 10 rfl rfl)
theorem dX1_tripOf_11 : decode cX1_tripOf 11 = .ok (.invokestatic 64, 3) := dk_184 0 64 (dk_at dksX1_tripOf_0 11 rfl rfl)
theorem dX1_tripOf_14 : decode cX1_tripOf 14 = .ok (.invokestatic 75, 3) := dk_184 0 75 (dk_at dksX1_tripOf_0 14 rfl rfl)
theorem dX1_tripOf_17 : decode cX1_tripOf 17 = .ok (.aload_n 0, 1) := dk_42 (dk_at dksX1_tripOf_0 17 rfl rfl)
theorem dX1_tripOf_18 : decode cX1_tripOf 18 = .ok (.getfield 25, 3) := dk_180 0 25 (dk_at dksX1_tripOf_0 18 rfl rfl)
theorem dX1_tripOf_21 : decode cX1_tripOf 21 = .ok (.iload_n 1, 1) := dk_27 (dk_at dksX1_tripOf_0 21 rfl rfl)
theorem dX1_tripOf_22 : decode cX1_tripOf 22 = .ok (.invokevirtual 79, 3) := dk_182 0 79 (dk_at dksX1_tripOf_1 0 rfl rfl)
theorem dX1_tripOf_25 : decode cX1_tripOf 25 = .ok (.checkcast 83, 3) := dk_192 0 83 (dk_at dksX1_tripOf_1 3 rfl rfl)
theorem dX1_tripOf_28 : decode cX1_tripOf 28 = .ok (.areturn, 1) := dk_176 (dk_at dksX1_tripOf_1 6 rfl rfl)
abbrev cX1_goesOn : ByteArray := prog_1_method_25_code
def yX1_goesOn : MethodName := ⟨RX1, "goesOn", "(LLastbus$Trip;III)Z"⟩
def dkwX1_goesOn_2 : List UInt8 := [182, 0, 163, 159, 0, 7, 4, 167, 0, 4, 3, 172]
abbrev dktX1_goesOn_2 : List UInt8 := dkwX1_goesOn_2 ++ []
def dkwX1_goesOn_1 : List UInt8 := [54, 4, 21, 4, 153, 0, 29, 28, 42, 182, 0, 156, 182, 0, 160, 164, 0, 18, 27, 42, 182, 0, 156]
abbrev dktX1_goesOn_1 : List UInt8 := dkwX1_goesOn_1 ++ dktX1_goesOn_2
def dkwX1_goesOn_0 : List UInt8 := [28, 184, 0, 148, 153, 0, 19, 29, 184, 0, 148, 153, 0, 12, 29, 28, 161, 0, 7, 4, 167, 0, 4, 3]
abbrev dktX1_goesOn_0 : List UInt8 := dkwX1_goesOn_0 ++ dktX1_goesOn_1
theorem dksX1_goesOn_0 : cX1_goesOn.data.toList.drop 0 = dktX1_goesOn_0 := by decide +kernel
theorem dksX1_goesOn_1 : cX1_goesOn.data.toList.drop 24 = dktX1_goesOn_1 := dk_seg dksX1_goesOn_0 24 rfl rfl
theorem dksX1_goesOn_2 : cX1_goesOn.data.toList.drop 47 = dktX1_goesOn_2 := dk_seg dksX1_goesOn_1 23 rfl rfl
theorem dX1_goesOn_0 : decode cX1_goesOn 0 = .ok (.iload_n 2, 1) := dk_28 (dk_at dksX1_goesOn_0 0 rfl rfl)
theorem dX1_goesOn_1 : decode cX1_goesOn 1 = .ok (.invokestatic 148, 3) := dk_184 0 148 (dk_at dksX1_goesOn_0 1 rfl rfl)
theorem dX1_goesOn_4 : decode cX1_goesOn 4 = .ok (.ifCond .eq 19, 3) := dk_153 0 19 (dk_at dksX1_goesOn_0 4 rfl rfl)
theorem dX1_goesOn_7 : decode cX1_goesOn 7 = .ok (.iload_n 3, 1) := dk_29 (dk_at dksX1_goesOn_0 7 rfl rfl)
theorem dX1_goesOn_8 : decode cX1_goesOn 8 = .ok (.invokestatic 148, 3) := dk_184 0 148 (dk_at dksX1_goesOn_0 8 rfl rfl)
theorem dX1_goesOn_11 : decode cX1_goesOn 11 = .ok (.ifCond .eq 12, 3) := dk_153 0 12 (dk_at dksX1_goesOn_0 11 rfl rfl)
theorem dX1_goesOn_14 : decode cX1_goesOn 14 = .ok (.iload_n 3, 1) := dk_29 (dk_at dksX1_goesOn_0 14 rfl rfl)
theorem dX1_goesOn_15 : decode cX1_goesOn 15 = .ok (.iload_n 2, 1) := dk_28 (dk_at dksX1_goesOn_0 15 rfl rfl)
theorem dX1_goesOn_16 : decode cX1_goesOn 16 = .ok (.if_icmp .lt 7, 3) := dk_161 0 7 (dk_at dksX1_goesOn_0 16 rfl rfl)
theorem dX1_goesOn_19 : decode cX1_goesOn 19 = .ok (.iconst 1, 1) := dk_4 (dk_at dksX1_goesOn_0 19 rfl rfl)
theorem dX1_goesOn_20 : decode cX1_goesOn 20 = .ok (.goto 4, 3) := dk_167 0 4 (dk_at dksX1_goesOn_0 20 rfl rfl)
theorem dX1_goesOn_23 : decode cX1_goesOn 23 = .ok (.iconst 0, 1) := dk_3 (dk_at dksX1_goesOn_0 23 rfl rfl)
theorem dX1_goesOn_24 : decode cX1_goesOn 24 = .ok (.istore 4, 2) := dk_54 4 (dk_at dksX1_goesOn_1 0 rfl rfl)
theorem dX1_goesOn_26 : decode cX1_goesOn 26 = .ok (.iload 4, 2) := dk_21 4 (dk_at dksX1_goesOn_1 2 rfl rfl)
theorem dX1_goesOn_28 : decode cX1_goesOn 28 = .ok (.ifCond .eq 29, 3) := dk_153 0 29 (dk_at dksX1_goesOn_1 4 rfl rfl)
theorem dX1_goesOn_31 : decode cX1_goesOn 31 = .ok (.iload_n 2, 1) := dk_28 (dk_at dksX1_goesOn_1 7 rfl rfl)
theorem dX1_goesOn_32 : decode cX1_goesOn 32 = .ok (.aload_n 0, 1) := dk_42 (dk_at dksX1_goesOn_1 8 rfl rfl)
theorem dX1_goesOn_33 : decode cX1_goesOn 33 = .ok (.invokevirtual 156, 3) := dk_182 0 156 (dk_at dksX1_goesOn_1 9 rfl rfl)
theorem dX1_goesOn_36 : decode cX1_goesOn 36 = .ok (.invokevirtual 160, 3) := dk_182 0 160 (dk_at dksX1_goesOn_1 12 rfl rfl)
theorem dX1_goesOn_39 : decode cX1_goesOn 39 = .ok (.if_icmp .le 18, 3) := dk_164 0 18 (dk_at dksX1_goesOn_1 15 rfl rfl)
theorem dX1_goesOn_42 : decode cX1_goesOn 42 = .ok (.iload_n 1, 1) := dk_27 (dk_at dksX1_goesOn_1 18 rfl rfl)
theorem dX1_goesOn_43 : decode cX1_goesOn 43 = .ok (.aload_n 0, 1) := dk_42 (dk_at dksX1_goesOn_1 19 rfl rfl)
theorem dX1_goesOn_44 : decode cX1_goesOn 44 = .ok (.invokevirtual 156, 3) := dk_182 0 156 (dk_at dksX1_goesOn_1 20 rfl rfl)
theorem dX1_goesOn_47 : decode cX1_goesOn 47 = .ok (.invokevirtual 163, 3) := dk_182 0 163 (dk_at dksX1_goesOn_2 0 rfl rfl)
theorem dX1_goesOn_50 : decode cX1_goesOn 50 = .ok (.if_icmp .eq 7, 3) := dk_159 0 7 (dk_at dksX1_goesOn_2 3 rfl rfl)
theorem dX1_goesOn_53 : decode cX1_goesOn 53 = .ok (.iconst 1, 1) := dk_4 (dk_at dksX1_goesOn_2 6 rfl rfl)
theorem dX1_goesOn_54 : decode cX1_goesOn 54 = .ok (.goto 4, 3) := dk_167 0 4 (dk_at dksX1_goesOn_2 7 rfl rfl)
theorem dX1_goesOn_57 : decode cX1_goesOn 57 = .ok (.iconst 0, 1) := dk_3 (dk_at dksX1_goesOn_2 10 rfl rfl)
theorem dX1_goesOn_58 : decode cX1_goesOn 58 = .ok (.ireturn, 1) := dk_172 (dk_at dksX1_goesOn_2 11 rfl rfl)
abbrev cX1_calls : ByteArray := prog_1_method_28_code
def yX1_calls : MethodName := ⟨RX1, "calls", "(I)I"⟩
def dkwX1_calls_0 : List UInt8 := [42, 27, 182, 0, 85, 180, 0, 89, 182, 0, 71, 172]
abbrev dktX1_calls_0 : List UInt8 := dkwX1_calls_0 ++ []
theorem dksX1_calls_0 : cX1_calls.data.toList.drop 0 = dktX1_calls_0 := by decide +kernel
theorem dX1_calls_0 : decode cX1_calls 0 = .ok (.aload_n 0, 1) := dk_42 (dk_at dksX1_calls_0 0 rfl rfl)
theorem dX1_calls_1 : decode cX1_calls 1 = .ok (.iload_n 1, 1) := dk_27 (dk_at dksX1_calls_0 1 rfl rfl)
theorem dX1_calls_2 : decode cX1_calls 2 = .ok (.invokevirtual 85, 3) := dk_182 0 85 (dk_at dksX1_calls_0 2 rfl rfl)
theorem dX1_calls_5 : decode cX1_calls 5 = .ok (.getfield 89, 3) := dk_180 0 89 (dk_at dksX1_calls_0 5 rfl rfl)
theorem dX1_calls_8 : decode cX1_calls 8 = .ok (.invokevirtual 71, 3) := dk_182 0 71 (dk_at dksX1_calls_0 8 rfl rfl)
theorem dX1_calls_11 : decode cX1_calls 11 = .ok (.ireturn, 1) := dk_172 (dk_at dksX1_calls_0 11 rfl rfl)
abbrev cX1_stopAt : ByteArray := prog_1_method_29_code
def yX1_stopAt : MethodName := ⟨RX1, "stopAt", "(II)I"⟩
def dkwX1_stopAt_0 : List UInt8 := [42, 27, 28, 182, 0, 170, 182, 0, 163, 172]
abbrev dktX1_stopAt_0 : List UInt8 := dkwX1_stopAt_0 ++ []
theorem dksX1_stopAt_0 : cX1_stopAt.data.toList.drop 0 = dktX1_stopAt_0 := by decide +kernel
theorem dX1_stopAt_0 : decode cX1_stopAt 0 = .ok (.aload_n 0, 1) := dk_42 (dk_at dksX1_stopAt_0 0 rfl rfl)
theorem dX1_stopAt_1 : decode cX1_stopAt 1 = .ok (.iload_n 1, 1) := dk_27 (dk_at dksX1_stopAt_0 1 rfl rfl)
theorem dX1_stopAt_2 : decode cX1_stopAt 2 = .ok (.iload_n 2, 1) := dk_28 (dk_at dksX1_stopAt_0 2 rfl rfl)
theorem dX1_stopAt_3 : decode cX1_stopAt 3 = .ok (.invokevirtual 170, 3) := dk_182 0 170 (dk_at dksX1_stopAt_0 3 rfl rfl)
theorem dX1_stopAt_6 : decode cX1_stopAt 6 = .ok (.invokevirtual 163, 3) := dk_182 0 163 (dk_at dksX1_stopAt_0 6 rfl rfl)
theorem dX1_stopAt_9 : decode cX1_stopAt 9 = .ok (.ireturn, 1) := dk_172 (dk_at dksX1_stopAt_0 9 rfl rfl)
abbrev cX1_callOf : ByteArray := prog_1_method_12_code
def yX1_callOf : MethodName := ⟨RX1, "callOf", "(II)LLastbus$Call;"⟩
def dkwX1_callOf_1 : List UInt8 := [180, 0, 89, 28, 182, 0, 79, 192, 0, 92, 176]
abbrev dktX1_callOf_1 : List UInt8 := dkwX1_callOf_1 ++ []
def dkwX1_callOf_0 : List UInt8 := [42, 27, 182, 0, 85, 78, 28, 3, 45, 180, 0, 89, 182, 0, 71, 4, 100, 184, 0, 64, 184, 0, 75, 45]
abbrev dktX1_callOf_0 : List UInt8 := dkwX1_callOf_0 ++ dktX1_callOf_1
theorem dksX1_callOf_0 : cX1_callOf.data.toList.drop 0 = dktX1_callOf_0 := by decide +kernel
theorem dksX1_callOf_1 : cX1_callOf.data.toList.drop 24 = dktX1_callOf_1 := dk_seg dksX1_callOf_0 24 rfl rfl
theorem dX1_callOf_0 : decode cX1_callOf 0 = .ok (.aload_n 0, 1) := dk_42 (dk_at dksX1_callOf_0 0 rfl rfl)
theorem dX1_callOf_1 : decode cX1_callOf 1 = .ok (.iload_n 1, 1) := dk_27 (dk_at dksX1_callOf_0 1 rfl rfl)
theorem dX1_callOf_2 : decode cX1_callOf 2 = .ok (.invokevirtual 85, 3) := dk_182 0 85 (dk_at dksX1_callOf_0 2 rfl rfl)
theorem dX1_callOf_5 : decode cX1_callOf 5 = .ok (.astore_n 3, 1) := dk_78 (dk_at dksX1_callOf_0 5 rfl rfl)
theorem dX1_callOf_6 : decode cX1_callOf 6 = .ok (.iload_n 2, 1) := dk_28 (dk_at dksX1_callOf_0 6 rfl rfl)
theorem dX1_callOf_7 : decode cX1_callOf 7 = .ok (.iconst 0, 1) := dk_3 (dk_at dksX1_callOf_0 7 rfl rfl)
theorem dX1_callOf_8 : decode cX1_callOf 8 = .ok (.aload_n 3, 1) := dk_45 (dk_at dksX1_callOf_0 8 rfl rfl)
theorem dX1_callOf_9 : decode cX1_callOf 9 = .ok (.getfield 89, 3) := dk_180 0 89 (dk_at dksX1_callOf_0 9 rfl rfl)
theorem dX1_callOf_12 : decode cX1_callOf 12 = .ok (.invokevirtual 71, 3) := dk_182 0 71 (dk_at dksX1_callOf_0 12 rfl rfl)
theorem dX1_callOf_15 : decode cX1_callOf 15 = .ok (.iconst 1, 1) := dk_4 (dk_at dksX1_callOf_0 15 rfl rfl)
theorem dX1_callOf_16 : decode cX1_callOf 16 = .ok (.isub, 1) := dk_100 (dk_at dksX1_callOf_0 16 rfl rfl)
theorem dX1_callOf_17 : decode cX1_callOf 17 = .ok (.invokestatic 64, 3) := dk_184 0 64 (dk_at dksX1_callOf_0 17 rfl rfl)
theorem dX1_callOf_20 : decode cX1_callOf 20 = .ok (.invokestatic 75, 3) := dk_184 0 75 (dk_at dksX1_callOf_0 20 rfl rfl)
theorem dX1_callOf_23 : decode cX1_callOf 23 = .ok (.aload_n 3, 1) := dk_45 (dk_at dksX1_callOf_0 23 rfl rfl)
theorem dX1_callOf_24 : decode cX1_callOf 24 = .ok (.getfield 89, 3) := dk_180 0 89 (dk_at dksX1_callOf_1 0 rfl rfl)
theorem dX1_callOf_27 : decode cX1_callOf 27 = .ok (.iload_n 2, 1) := dk_28 (dk_at dksX1_callOf_1 3 rfl rfl)
theorem dX1_callOf_28 : decode cX1_callOf 28 = .ok (.invokevirtual 79, 3) := dk_182 0 79 (dk_at dksX1_callOf_1 4 rfl rfl)
theorem dX1_callOf_31 : decode cX1_callOf 31 = .ok (.checkcast 92, 3) := dk_192 0 92 (dk_at dksX1_callOf_1 7 rfl rfl)
theorem dX1_callOf_34 : decode cX1_callOf 34 = .ok (.areturn, 1) := dk_176 (dk_at dksX1_callOf_1 10 rfl rfl)
abbrev cX1_timeAt : ByteArray := prog_1_method_30_code
def yX1_timeAt : MethodName := ⟨RX1, "timeAt", "(IIZ)I"⟩
def dkwX1_timeAt_1 : List UInt8 := [182, 0, 160, 172]
abbrev dktX1_timeAt_1 : List UInt8 := dkwX1_timeAt_1 ++ []
def dkwX1_timeAt_0 : List UInt8 := [42, 27, 28, 182, 0, 170, 58, 4, 29, 153, 0, 11, 25, 4, 182, 0, 174, 167, 0, 8, 25, 4]
abbrev dktX1_timeAt_0 : List UInt8 := dkwX1_timeAt_0 ++ dktX1_timeAt_1
theorem dksX1_timeAt_0 : cX1_timeAt.data.toList.drop 0 = dktX1_timeAt_0 := by decide +kernel
theorem dksX1_timeAt_1 : cX1_timeAt.data.toList.drop 22 = dktX1_timeAt_1 := dk_seg dksX1_timeAt_0 22 rfl rfl
theorem dX1_timeAt_0 : decode cX1_timeAt 0 = .ok (.aload_n 0, 1) := dk_42 (dk_at dksX1_timeAt_0 0 rfl rfl)
theorem dX1_timeAt_1 : decode cX1_timeAt 1 = .ok (.iload_n 1, 1) := dk_27 (dk_at dksX1_timeAt_0 1 rfl rfl)
theorem dX1_timeAt_2 : decode cX1_timeAt 2 = .ok (.iload_n 2, 1) := dk_28 (dk_at dksX1_timeAt_0 2 rfl rfl)
theorem dX1_timeAt_3 : decode cX1_timeAt 3 = .ok (.invokevirtual 170, 3) := dk_182 0 170 (dk_at dksX1_timeAt_0 3 rfl rfl)
theorem dX1_timeAt_6 : decode cX1_timeAt 6 = .ok (.astore 4, 2) := dk_58 4 (dk_at dksX1_timeAt_0 6 rfl rfl)
theorem dX1_timeAt_8 : decode cX1_timeAt 8 = .ok (.iload_n 3, 1) := dk_29 (dk_at dksX1_timeAt_0 8 rfl rfl)
theorem dX1_timeAt_9 : decode cX1_timeAt 9 = .ok (.ifCond .eq 11, 3) := dk_153 0 11 (dk_at dksX1_timeAt_0 9 rfl rfl)
theorem dX1_timeAt_12 : decode cX1_timeAt 12 = .ok (.aload 4, 2) := dk_25 4 (dk_at dksX1_timeAt_0 12 rfl rfl)
theorem dX1_timeAt_14 : decode cX1_timeAt 14 = .ok (.invokevirtual 174, 3) := dk_182 0 174 (dk_at dksX1_timeAt_0 14 rfl rfl)
theorem dX1_timeAt_17 : decode cX1_timeAt 17 = .ok (.goto 8, 3) := dk_167 0 8 (dk_at dksX1_timeAt_0 17 rfl rfl)
theorem dX1_timeAt_20 : decode cX1_timeAt 20 = .ok (.aload 4, 2) := dk_25 4 (dk_at dksX1_timeAt_0 20 rfl rfl)
theorem dX1_timeAt_22 : decode cX1_timeAt 22 = .ok (.invokevirtual 160, 3) := dk_182 0 160 (dk_at dksX1_timeAt_1 0 rfl rfl)
theorem dX1_timeAt_25 : decode cX1_timeAt 25 = .ok (.ireturn, 1) := dk_172 (dk_at dksX1_timeAt_1 3 rfl rfl)
abbrev cX1_shift : ByteArray := prog_1_method_31_code
def yX1_shift : MethodName := ⟨RX1, "shift", "(II)I"⟩
def dkwX1_shift_3 : List UInt8 := [182, 0, 160, 172]
abbrev dktX1_shift_3 : List UInt8 := dkwX1_shift_3 ++ []
def dkwX1_shift_2 : List UInt8 := [87, 42, 180, 0, 25, 27, 182, 0, 79, 192, 0, 83, 180, 0, 89, 3, 182, 0, 79, 192, 0, 92]
abbrev dktX1_shift_2 : List UInt8 := dkwX1_shift_2 ++ dktX1_shift_3
def dkwX1_shift_1 : List UInt8 := [153, 0, 7, 4, 167, 0, 4, 3, 184, 0, 96, 42, 180, 0, 25, 27, 45, 28, 182, 0, 180, 182, 0, 183]
abbrev dktX1_shift_1 : List UInt8 := dkwX1_shift_1 ++ dktX1_shift_2
def dkwX1_shift_0 : List UInt8 := [42, 27, 182, 0, 85, 78, 28, 16, 196, 16, 60, 184, 0, 64, 153, 0, 15, 45, 28, 182, 0, 177]
abbrev dktX1_shift_0 : List UInt8 := dkwX1_shift_0 ++ dktX1_shift_1
theorem dksX1_shift_0 : cX1_shift.data.toList.drop 0 = dktX1_shift_0 := by decide +kernel
theorem dksX1_shift_1 : cX1_shift.data.toList.drop 22 = dktX1_shift_1 := dk_seg dksX1_shift_0 22 rfl rfl
theorem dksX1_shift_2 : cX1_shift.data.toList.drop 46 = dktX1_shift_2 := dk_seg dksX1_shift_1 24 rfl rfl
theorem dksX1_shift_3 : cX1_shift.data.toList.drop 68 = dktX1_shift_3 := dk_seg dksX1_shift_2 22 rfl rfl
theorem dX1_shift_0 : decode cX1_shift 0 = .ok (.aload_n 0, 1) := dk_42 (dk_at dksX1_shift_0 0 rfl rfl)
theorem dX1_shift_1 : decode cX1_shift 1 = .ok (.iload_n 1, 1) := dk_27 (dk_at dksX1_shift_0 1 rfl rfl)
theorem dX1_shift_2 : decode cX1_shift 2 = .ok (.invokevirtual 85, 3) := dk_182 0 85 (dk_at dksX1_shift_0 2 rfl rfl)
theorem dX1_shift_5 : decode cX1_shift 5 = .ok (.astore_n 3, 1) := dk_78 (dk_at dksX1_shift_0 5 rfl rfl)
theorem dX1_shift_6 : decode cX1_shift 6 = .ok (.iload_n 2, 1) := dk_28 (dk_at dksX1_shift_0 6 rfl rfl)
theorem dX1_shift_7 : decode cX1_shift 7 = .ok (.bipush (-60), 2) := dk_16 196 (dk_at dksX1_shift_0 7 rfl rfl)
theorem dX1_shift_9 : decode cX1_shift 9 = .ok (.bipush 60, 2) := dk_16 60 (dk_at dksX1_shift_0 9 rfl rfl)
theorem dX1_shift_11 : decode cX1_shift 11 = .ok (.invokestatic 64, 3) := dk_184 0 64 (dk_at dksX1_shift_0 11 rfl rfl)
theorem dX1_shift_14 : decode cX1_shift 14 = .ok (.ifCond .eq 15, 3) := dk_153 0 15 (dk_at dksX1_shift_0 14 rfl rfl)
theorem dX1_shift_17 : decode cX1_shift 17 = .ok (.aload_n 3, 1) := dk_45 (dk_at dksX1_shift_0 17 rfl rfl)
theorem dX1_shift_18 : decode cX1_shift 18 = .ok (.iload_n 2, 1) := dk_28 (dk_at dksX1_shift_0 18 rfl rfl)
theorem dX1_shift_19 : decode cX1_shift 19 = .ok (.invokevirtual 177, 3) := dk_182 0 177 (dk_at dksX1_shift_0 19 rfl rfl)
theorem dX1_shift_22 : decode cX1_shift 22 = .ok (.ifCond .eq 7, 3) := dk_153 0 7 (dk_at dksX1_shift_1 0 rfl rfl)
theorem dX1_shift_25 : decode cX1_shift 25 = .ok (.iconst 1, 1) := dk_4 (dk_at dksX1_shift_1 3 rfl rfl)
theorem dX1_shift_26 : decode cX1_shift 26 = .ok (.goto 4, 3) := dk_167 0 4 (dk_at dksX1_shift_1 4 rfl rfl)
theorem dX1_shift_29 : decode cX1_shift 29 = .ok (.iconst 0, 1) := dk_3 (dk_at dksX1_shift_1 7 rfl rfl)
theorem dX1_shift_30 : decode cX1_shift 30 = .ok (.invokestatic 96, 3) := dk_184 0 96 (dk_at dksX1_shift_1 8 rfl rfl)
theorem dX1_shift_33 : decode cX1_shift 33 = .ok (.aload_n 0, 1) := dk_42 (dk_at dksX1_shift_1 11 rfl rfl)
theorem dX1_shift_34 : decode cX1_shift 34 = .ok (.getfield 25, 3) := dk_180 0 25 (dk_at dksX1_shift_1 12 rfl rfl)
theorem dX1_shift_37 : decode cX1_shift 37 = .ok (.iload_n 1, 1) := dk_27 (dk_at dksX1_shift_1 15 rfl rfl)
theorem dX1_shift_38 : decode cX1_shift 38 = .ok (.aload_n 3, 1) := dk_45 (dk_at dksX1_shift_1 16 rfl rfl)
theorem dX1_shift_39 : decode cX1_shift 39 = .ok (.iload_n 2, 1) := dk_28 (dk_at dksX1_shift_1 17 rfl rfl)
theorem dX1_shift_40 : decode cX1_shift 40 = .ok (.invokevirtual 180, 3) := dk_182 0 180 (dk_at dksX1_shift_1 18 rfl rfl)
theorem dX1_shift_43 : decode cX1_shift 43 = .ok (.invokevirtual 183, 3) := dk_182 0 183 (dk_at dksX1_shift_1 21 rfl rfl)
theorem dX1_shift_46 : decode cX1_shift 46 = .ok (.pop, 1) := dk_87 (dk_at dksX1_shift_2 0 rfl rfl)
theorem dX1_shift_47 : decode cX1_shift 47 = .ok (.aload_n 0, 1) := dk_42 (dk_at dksX1_shift_2 1 rfl rfl)
theorem dX1_shift_48 : decode cX1_shift 48 = .ok (.getfield 25, 3) := dk_180 0 25 (dk_at dksX1_shift_2 2 rfl rfl)
theorem dX1_shift_51 : decode cX1_shift 51 = .ok (.iload_n 1, 1) := dk_27 (dk_at dksX1_shift_2 5 rfl rfl)
theorem dX1_shift_52 : decode cX1_shift 52 = .ok (.invokevirtual 79, 3) := dk_182 0 79 (dk_at dksX1_shift_2 6 rfl rfl)
theorem dX1_shift_55 : decode cX1_shift 55 = .ok (.checkcast 83, 3) := dk_192 0 83 (dk_at dksX1_shift_2 9 rfl rfl)
theorem dX1_shift_58 : decode cX1_shift 58 = .ok (.getfield 89, 3) := dk_180 0 89 (dk_at dksX1_shift_2 12 rfl rfl)
theorem dX1_shift_61 : decode cX1_shift 61 = .ok (.iconst 0, 1) := dk_3 (dk_at dksX1_shift_2 15 rfl rfl)
theorem dX1_shift_62 : decode cX1_shift 62 = .ok (.invokevirtual 79, 3) := dk_182 0 79 (dk_at dksX1_shift_2 16 rfl rfl)
theorem dX1_shift_65 : decode cX1_shift 65 = .ok (.checkcast 92, 3) := dk_192 0 92 (dk_at dksX1_shift_2 19 rfl rfl)
theorem dX1_shift_68 : decode cX1_shift 68 = .ok (.invokevirtual 160, 3) := dk_182 0 160 (dk_at dksX1_shift_3 0 rfl rfl)
theorem dX1_shift_71 : decode cX1_shift 71 = .ok (.ireturn, 1) := dk_172 (dk_at dksX1_shift_3 3 rfl rfl)
abbrev cX1_type : ByteArray := prog_1_method_32_code
def yX1_type : MethodName := ⟨RX1, "type", "(C)I"⟩
def dkwX1_type_1 : List UInt8 := [27, 182, 0, 189, 87, 42, 180, 0, 41, 182, 0, 186, 172]
abbrev dktX1_type_1 : List UInt8 := dkwX1_type_1 ++ []
def dkwX1_type_0 : List UInt8 := [42, 180, 0, 41, 182, 0, 186, 16, 80, 162, 0, 7, 4, 167, 0, 4, 3, 184, 0, 99, 42, 180, 0, 41]
abbrev dktX1_type_0 : List UInt8 := dkwX1_type_0 ++ dktX1_type_1
theorem dksX1_type_0 : cX1_type.data.toList.drop 0 = dktX1_type_0 := by decide +kernel
theorem dksX1_type_1 : cX1_type.data.toList.drop 24 = dktX1_type_1 := dk_seg dksX1_type_0 24 rfl rfl
theorem dX1_type_0 : decode cX1_type 0 = .ok (.aload_n 0, 1) := dk_42 (dk_at dksX1_type_0 0 rfl rfl)
theorem dX1_type_1 : decode cX1_type 1 = .ok (.getfield 41, 3) := dk_180 0 41 (dk_at dksX1_type_0 1 rfl rfl)
theorem dX1_type_4 : decode cX1_type 4 = .ok (.invokevirtual 186, 3) := dk_182 0 186 (dk_at dksX1_type_0 4 rfl rfl)
theorem dX1_type_7 : decode cX1_type 7 = .ok (.bipush 80, 2) := dk_16 80 (dk_at dksX1_type_0 7 rfl rfl)
theorem dX1_type_9 : decode cX1_type 9 = .ok (.if_icmp .ge 7, 3) := dk_162 0 7 (dk_at dksX1_type_0 9 rfl rfl)
theorem dX1_type_12 : decode cX1_type 12 = .ok (.iconst 1, 1) := dk_4 (dk_at dksX1_type_0 12 rfl rfl)
theorem dX1_type_13 : decode cX1_type 13 = .ok (.goto 4, 3) := dk_167 0 4 (dk_at dksX1_type_0 13 rfl rfl)
theorem dX1_type_16 : decode cX1_type 16 = .ok (.iconst 0, 1) := dk_3 (dk_at dksX1_type_0 16 rfl rfl)
theorem dX1_type_17 : decode cX1_type 17 = .ok (.invokestatic 99, 3) := dk_184 0 99 (dk_at dksX1_type_0 17 rfl rfl)
theorem dX1_type_20 : decode cX1_type 20 = .ok (.aload_n 0, 1) := dk_42 (dk_at dksX1_type_0 20 rfl rfl)
theorem dX1_type_21 : decode cX1_type 21 = .ok (.getfield 41, 3) := dk_180 0 41 (dk_at dksX1_type_0 21 rfl rfl)
theorem dX1_type_24 : decode cX1_type 24 = .ok (.iload_n 1, 1) := dk_27 (dk_at dksX1_type_1 0 rfl rfl)
theorem dX1_type_25 : decode cX1_type 25 = .ok (.invokevirtual 189, 3) := dk_182 0 189 (dk_at dksX1_type_1 1 rfl rfl)
theorem dX1_type_28 : decode cX1_type 28 = .ok (.pop, 1) := dk_87 (dk_at dksX1_type_1 4 rfl rfl)
theorem dX1_type_29 : decode cX1_type 29 = .ok (.aload_n 0, 1) := dk_42 (dk_at dksX1_type_1 5 rfl rfl)
theorem dX1_type_30 : decode cX1_type 30 = .ok (.getfield 41, 3) := dk_180 0 41 (dk_at dksX1_type_1 6 rfl rfl)
theorem dX1_type_33 : decode cX1_type 33 = .ok (.invokevirtual 186, 3) := dk_182 0 186 (dk_at dksX1_type_1 9 rfl rfl)
theorem dX1_type_36 : decode cX1_type 36 = .ok (.ireturn, 1) := dk_172 (dk_at dksX1_type_1 12 rfl rfl)
abbrev cX1_typeNumber : ByteArray := prog_1_method_33_code
def yX1_typeNumber : MethodName := ⟨RX1, "typeNumber", "(I)I"⟩
def dkwX1_typeNumber_3 : List UInt8 := [180, 0, 41, 27, 182, 0, 193, 87, 42, 180, 0, 41, 182, 0, 186, 172]
abbrev dktX1_typeNumber_3 : List UInt8 := dkwX1_typeNumber_3 ++ []
def dkwX1_typeNumber_2 : List UInt8 := [180, 0, 41, 182, 0, 186, 28, 96, 16, 80, 163, 0, 7, 4, 167, 0, 4, 3, 184, 0, 99, 42]
abbrev dktX1_typeNumber_2 : List UInt8 := dkwX1_typeNumber_2 ++ dktX1_typeNumber_3
def dkwX1_typeNumber_1 : List UInt8 := [16, 99, 164, 0, 7, 6, 167, 0, 14, 27, 16, 9, 164, 0, 7, 5, 167, 0, 4, 4, 61, 42]
abbrev dktX1_typeNumber_1 : List UInt8 := dkwX1_typeNumber_1 ++ dktX1_typeNumber_2
def dkwX1_typeNumber_0 : List UInt8 := [27, 3, 17, 39, 15, 184, 0, 64, 184, 0, 96, 27, 17, 3, 231, 164, 0, 7, 7, 167, 0, 24, 27]
abbrev dktX1_typeNumber_0 : List UInt8 := dkwX1_typeNumber_0 ++ dktX1_typeNumber_1
theorem dksX1_typeNumber_0 : cX1_typeNumber.data.toList.drop 0 = dktX1_typeNumber_0 := by decide +kernel
theorem dksX1_typeNumber_1 : cX1_typeNumber.data.toList.drop 23 = dktX1_typeNumber_1 := dk_seg dksX1_typeNumber_0 23 rfl rfl
theorem dksX1_typeNumber_2 : cX1_typeNumber.data.toList.drop 45 = dktX1_typeNumber_2 := dk_seg dksX1_typeNumber_1 22 rfl rfl
theorem dksX1_typeNumber_3 : cX1_typeNumber.data.toList.drop 67 = dktX1_typeNumber_3 := dk_seg dksX1_typeNumber_2 22 rfl rfl
theorem dX1_typeNumber_0 : decode cX1_typeNumber 0 = .ok (.iload_n 1, 1) := dk_27 (dk_at dksX1_typeNumber_0 0 rfl rfl)
theorem dX1_typeNumber_1 : decode cX1_typeNumber 1 = .ok (.iconst 0, 1) := dk_3 (dk_at dksX1_typeNumber_0 1 rfl rfl)
theorem dX1_typeNumber_2 : decode cX1_typeNumber 2 = .ok (.sipush 9999, 3) := dk_17 39 15 (dk_at dksX1_typeNumber_0 2 rfl rfl)
theorem dX1_typeNumber_5 : decode cX1_typeNumber 5 = .ok (.invokestatic 64, 3) := dk_184 0 64 (dk_at dksX1_typeNumber_0 5 rfl rfl)
theorem dX1_typeNumber_8 : decode cX1_typeNumber 8 = .ok (.invokestatic 96, 3) := dk_184 0 96 (dk_at dksX1_typeNumber_0 8 rfl rfl)
theorem dX1_typeNumber_11 : decode cX1_typeNumber 11 = .ok (.iload_n 1, 1) := dk_27 (dk_at dksX1_typeNumber_0 11 rfl rfl)
theorem dX1_typeNumber_12 : decode cX1_typeNumber 12 = .ok (.sipush 999, 3) := dk_17 3 231 (dk_at dksX1_typeNumber_0 12 rfl rfl)
theorem dX1_typeNumber_15 : decode cX1_typeNumber 15 = .ok (.if_icmp .le 7, 3) := dk_164 0 7 (dk_at dksX1_typeNumber_0 15 rfl rfl)
theorem dX1_typeNumber_18 : decode cX1_typeNumber 18 = .ok (.iconst 4, 1) := dk_7 (dk_at dksX1_typeNumber_0 18 rfl rfl)
theorem dX1_typeNumber_19 : decode cX1_typeNumber 19 = .ok (.goto 24, 3) := dk_167 0 24 (dk_at dksX1_typeNumber_0 19 rfl rfl)
theorem dX1_typeNumber_22 : decode cX1_typeNumber 22 = .ok (.iload_n 1, 1) := dk_27 (dk_at dksX1_typeNumber_0 22 rfl rfl)
theorem dX1_typeNumber_23 : decode cX1_typeNumber 23 = .ok (.bipush 99, 2) := dk_16 99 (dk_at dksX1_typeNumber_1 0 rfl rfl)
theorem dX1_typeNumber_25 : decode cX1_typeNumber 25 = .ok (.if_icmp .le 7, 3) := dk_164 0 7 (dk_at dksX1_typeNumber_1 2 rfl rfl)
theorem dX1_typeNumber_28 : decode cX1_typeNumber 28 = .ok (.iconst 3, 1) := dk_6 (dk_at dksX1_typeNumber_1 5 rfl rfl)
theorem dX1_typeNumber_29 : decode cX1_typeNumber 29 = .ok (.goto 14, 3) := dk_167 0 14 (dk_at dksX1_typeNumber_1 6 rfl rfl)
theorem dX1_typeNumber_32 : decode cX1_typeNumber 32 = .ok (.iload_n 1, 1) := dk_27 (dk_at dksX1_typeNumber_1 9 rfl rfl)
theorem dX1_typeNumber_33 : decode cX1_typeNumber 33 = .ok (.bipush 9, 2) := dk_16 9 (dk_at dksX1_typeNumber_1 10 rfl rfl)
theorem dX1_typeNumber_35 : decode cX1_typeNumber 35 = .ok (.if_icmp .le 7, 3) := dk_164 0 7 (dk_at dksX1_typeNumber_1 12 rfl rfl)
theorem dX1_typeNumber_38 : decode cX1_typeNumber 38 = .ok (.iconst 2, 1) := dk_5 (dk_at dksX1_typeNumber_1 15 rfl rfl)
theorem dX1_typeNumber_39 : decode cX1_typeNumber 39 = .ok (.goto 4, 3) := dk_167 0 4 (dk_at dksX1_typeNumber_1 16 rfl rfl)
theorem dX1_typeNumber_42 : decode cX1_typeNumber 42 = .ok (.iconst 1, 1) := dk_4 (dk_at dksX1_typeNumber_1 19 rfl rfl)
theorem dX1_typeNumber_43 : decode cX1_typeNumber 43 = .ok (.istore_n 2, 1) := dk_61 (dk_at dksX1_typeNumber_1 20 rfl rfl)
theorem dX1_typeNumber_44 : decode cX1_typeNumber 44 = .ok (.aload_n 0, 1) := dk_42 (dk_at dksX1_typeNumber_1 21 rfl rfl)
theorem dX1_typeNumber_45 : decode cX1_typeNumber 45 = .ok (.getfield 41, 3) := dk_180 0 41 (dk_at dksX1_typeNumber_2 0 rfl rfl)
theorem dX1_typeNumber_48 : decode cX1_typeNumber 48 = .ok (.invokevirtual 186, 3) := dk_182 0 186 (dk_at dksX1_typeNumber_2 3 rfl rfl)
theorem dX1_typeNumber_51 : decode cX1_typeNumber 51 = .ok (.iload_n 2, 1) := dk_28 (dk_at dksX1_typeNumber_2 6 rfl rfl)
theorem dX1_typeNumber_52 : decode cX1_typeNumber 52 = .ok (.iadd, 1) := dk_96 (dk_at dksX1_typeNumber_2 7 rfl rfl)
theorem dX1_typeNumber_53 : decode cX1_typeNumber 53 = .ok (.bipush 80, 2) := dk_16 80 (dk_at dksX1_typeNumber_2 8 rfl rfl)
theorem dX1_typeNumber_55 : decode cX1_typeNumber 55 = .ok (.if_icmp .gt 7, 3) := dk_163 0 7 (dk_at dksX1_typeNumber_2 10 rfl rfl)
theorem dX1_typeNumber_58 : decode cX1_typeNumber 58 = .ok (.iconst 1, 1) := dk_4 (dk_at dksX1_typeNumber_2 13 rfl rfl)
theorem dX1_typeNumber_59 : decode cX1_typeNumber 59 = .ok (.goto 4, 3) := dk_167 0 4 (dk_at dksX1_typeNumber_2 14 rfl rfl)
theorem dX1_typeNumber_62 : decode cX1_typeNumber 62 = .ok (.iconst 0, 1) := dk_3 (dk_at dksX1_typeNumber_2 17 rfl rfl)
theorem dX1_typeNumber_63 : decode cX1_typeNumber 63 = .ok (.invokestatic 99, 3) := dk_184 0 99 (dk_at dksX1_typeNumber_2 18 rfl rfl)
theorem dX1_typeNumber_66 : decode cX1_typeNumber 66 = .ok (.aload_n 0, 1) := dk_42 (dk_at dksX1_typeNumber_2 21 rfl rfl)
theorem dX1_typeNumber_67 : decode cX1_typeNumber 67 = .ok (.getfield 41, 3) := dk_180 0 41 (dk_at dksX1_typeNumber_3 0 rfl rfl)
theorem dX1_typeNumber_70 : decode cX1_typeNumber 70 = .ok (.iload_n 1, 1) := dk_27 (dk_at dksX1_typeNumber_3 3 rfl rfl)
theorem dX1_typeNumber_71 : decode cX1_typeNumber 71 = .ok (.invokevirtual 193, 3) := dk_182 0 193 (dk_at dksX1_typeNumber_3 4 rfl rfl)
theorem dX1_typeNumber_74 : decode cX1_typeNumber 74 = .ok (.pop, 1) := dk_87 (dk_at dksX1_typeNumber_3 7 rfl rfl)
theorem dX1_typeNumber_75 : decode cX1_typeNumber 75 = .ok (.aload_n 0, 1) := dk_42 (dk_at dksX1_typeNumber_3 8 rfl rfl)
theorem dX1_typeNumber_76 : decode cX1_typeNumber 76 = .ok (.getfield 41, 3) := dk_180 0 41 (dk_at dksX1_typeNumber_3 9 rfl rfl)
theorem dX1_typeNumber_79 : decode cX1_typeNumber 79 = .ok (.invokevirtual 186, 3) := dk_182 0 186 (dk_at dksX1_typeNumber_3 12 rfl rfl)
theorem dX1_typeNumber_82 : decode cX1_typeNumber 82 = .ok (.ireturn, 1) := dk_172 (dk_at dksX1_typeNumber_3 15 rfl rfl)
abbrev cX1_readRow : ByteArray := prog_1_method_35_code
def yX1_readRow : MethodName := ⟨RX1, "readRow", "()I"⟩
def dkwX1_readRow_11 : List UInt8 := [4, 100, 172]
abbrev dktX1_readRow_11 : List UInt8 := dkwX1_readRow_11 ++ []
def dkwX1_readRow_10 : List UInt8 := [42, 180, 0, 25, 45, 182, 0, 121, 87, 42, 180, 0, 41, 3, 182, 0, 196, 42, 180, 0, 25, 182, 0, 71]
abbrev dktX1_readRow_10 : List UInt8 := dkwX1_readRow_10 ++ dktX1_readRow_11
def dkwX1_readRow_9 : List UInt8 := [87, 167, 255, 120, 42, 180, 0, 25, 182, 0, 71, 16, 24, 162, 0, 7, 4, 167, 0, 4, 3, 184, 0, 99]
abbrev dktX1_readRow_9 : List UInt8 := dkwX1_readRow_9 ++ dktX1_readRow_10
def dkwX1_readRow_8 : List UInt8 := [3, 184, 0, 228, 45, 180, 0, 89, 187, 0, 92, 89, 21, 4, 21, 5, 21, 6, 183, 0, 153, 182, 0, 121]
abbrev dktX1_readRow_8 : List UInt8 := dkwX1_readRow_8 ++ dktX1_readRow_9
def dkwX1_readRow_7 : List UInt8 := [167, 0, 4, 3, 54, 7, 42, 21, 4, 182, 0, 102, 153, 0, 12, 21, 7, 153, 0, 7, 4, 167, 0, 4]
abbrev dktX1_readRow_7 : List UInt8 := dkwX1_readRow_7 ++ dktX1_readRow_8
def dkwX1_readRow_6 : List UInt8 := [182, 0, 71, 16, 8, 162, 0, 20, 45, 21, 4, 21, 5, 21, 6, 184, 0, 166, 153, 0, 7, 4]
abbrev dktX1_readRow_6 : List UInt8 := dkwX1_readRow_6 ++ dktX1_readRow_7
def dkwX1_readRow_5 : List UInt8 := [45, 180, 0, 89, 182, 0, 235, 153, 0, 11, 21, 6, 184, 0, 148, 167, 0, 33, 45, 180, 0, 89]
abbrev dktX1_readRow_5 : List UInt8 := dkwX1_readRow_5 ++ dktX1_readRow_6
def dkwX1_readRow_4 : List UInt8 := [43, 182, 0, 217, 192, 0, 223, 182, 0, 225, 54, 5, 43, 182, 0, 217, 192, 0, 223, 182, 0, 225, 54, 6]
abbrev dktX1_readRow_4 : List UInt8 := dkwX1_readRow_4 ++ dktX1_readRow_5
def dkwX1_readRow_3 : List UInt8 := [28, 183, 0, 151, 78, 43, 182, 0, 231, 154, 0, 135, 43, 182, 0, 217, 192, 0, 223, 182, 0, 225, 54, 4]
abbrev dktX1_readRow_3 : List UInt8 := dkwX1_readRow_3 ++ dktX1_readRow_4
def dkwX1_readRow_2 : List UInt8 := [61, 28, 42, 180, 0, 21, 182, 0, 71, 162, 0, 7, 4, 167, 0, 4, 3, 184, 0, 228, 187, 0, 83, 89]
abbrev dktX1_readRow_2 : List UInt8 := dkwX1_readRow_2 ++ dktX1_readRow_3
def dkwX1_readRow_1 : List UInt8 := [180, 0, 214, 181, 0, 45, 187, 0, 49, 89, 183, 0, 51, 191, 43, 182, 0, 217, 192, 0, 223, 182, 0, 225]
abbrev dktX1_readRow_1 : List UInt8 := dkwX1_readRow_1 ++ dktX1_readRow_2
def dkwX1_readRow_0 : List UInt8 := [187, 0, 199, 89, 42, 180, 0, 41, 182, 0, 201, 183, 0, 205, 182, 0, 208, 76, 167, 0, 20, 77, 42, 44]
abbrev dktX1_readRow_0 : List UInt8 := dkwX1_readRow_0 ++ dktX1_readRow_1
theorem dksX1_readRow_0 : cX1_readRow.data.toList.drop 0 = dktX1_readRow_0 := by decide +kernel
theorem dksX1_readRow_1 : cX1_readRow.data.toList.drop 24 = dktX1_readRow_1 := dk_seg dksX1_readRow_0 24 rfl rfl
theorem dksX1_readRow_2 : cX1_readRow.data.toList.drop 48 = dktX1_readRow_2 := dk_seg dksX1_readRow_1 24 rfl rfl
theorem dksX1_readRow_3 : cX1_readRow.data.toList.drop 72 = dktX1_readRow_3 := dk_seg dksX1_readRow_2 24 rfl rfl
theorem dksX1_readRow_4 : cX1_readRow.data.toList.drop 96 = dktX1_readRow_4 := dk_seg dksX1_readRow_3 24 rfl rfl
theorem dksX1_readRow_5 : cX1_readRow.data.toList.drop 120 = dktX1_readRow_5 := dk_seg dksX1_readRow_4 24 rfl rfl
theorem dksX1_readRow_6 : cX1_readRow.data.toList.drop 142 = dktX1_readRow_6 := dk_seg dksX1_readRow_5 22 rfl rfl
theorem dksX1_readRow_7 : cX1_readRow.data.toList.drop 164 = dktX1_readRow_7 := dk_seg dksX1_readRow_6 22 rfl rfl
theorem dksX1_readRow_8 : cX1_readRow.data.toList.drop 188 = dktX1_readRow_8 := dk_seg dksX1_readRow_7 24 rfl rfl
theorem dksX1_readRow_9 : cX1_readRow.data.toList.drop 212 = dktX1_readRow_9 := dk_seg dksX1_readRow_8 24 rfl rfl
theorem dksX1_readRow_10 : cX1_readRow.data.toList.drop 236 = dktX1_readRow_10 := dk_seg dksX1_readRow_9 24 rfl rfl
theorem dksX1_readRow_11 : cX1_readRow.data.toList.drop 260 = dktX1_readRow_11 := dk_seg dksX1_readRow_10 24 rfl rfl
theorem dX1_readRow_0 : decode cX1_readRow 0 = .ok (.new 199, 3) := dk_187 0 199 (dk_at dksX1_readRow_0 0 rfl rfl)
theorem dX1_readRow_3 : decode cX1_readRow 3 = .ok (.dup, 1) := dk_89 (dk_at dksX1_readRow_0 3 rfl rfl)
theorem dX1_readRow_4 : decode cX1_readRow 4 = .ok (.aload_n 0, 1) := dk_42 (dk_at dksX1_readRow_0 4 rfl rfl)
theorem dX1_readRow_5 : decode cX1_readRow 5 = .ok (.getfield 41, 3) := dk_180 0 41 (dk_at dksX1_readRow_0 5 rfl rfl)
theorem dX1_readRow_8 : decode cX1_readRow 8 = .ok (.invokevirtual 201, 3) := dk_182 0 201 (dk_at dksX1_readRow_0 8 rfl rfl)
theorem dX1_readRow_11 : decode cX1_readRow 11 = .ok (.invokespecial 205, 3) := dk_183 0 205 (dk_at dksX1_readRow_0 11 rfl rfl)
theorem dX1_readRow_14 : decode cX1_readRow 14 = .ok (.invokevirtual 208, 3) := dk_182 0 208 (dk_at dksX1_readRow_0 14 rfl rfl)
theorem dX1_readRow_17 : decode cX1_readRow 17 = .ok (.astore_n 1, 1) := dk_76 (dk_at dksX1_readRow_0 17 rfl rfl)
theorem dX1_readRow_18 : decode cX1_readRow 18 = .ok (.goto 20, 3) := dk_167 0 20 (dk_at dksX1_readRow_0 18 rfl rfl)
theorem dX1_readRow_21 : decode cX1_readRow 21 = .ok (.astore_n 2, 1) := dk_77 (dk_at dksX1_readRow_0 21 rfl rfl)
theorem dX1_readRow_22 : decode cX1_readRow 22 = .ok (.aload_n 0, 1) := dk_42 (dk_at dksX1_readRow_0 22 rfl rfl)
theorem dX1_readRow_23 : decode cX1_readRow 23 = .ok (.aload_n 2, 1) := dk_44 (dk_at dksX1_readRow_0 23 rfl rfl)
theorem dX1_readRow_24 : decode cX1_readRow 24 = .ok (.getfield 214, 3) := dk_180 0 214 (dk_at dksX1_readRow_1 0 rfl rfl)
theorem dX1_readRow_27 : decode cX1_readRow 27 = .ok (.putfield 45, 3) := dk_181 0 45 (dk_at dksX1_readRow_1 3 rfl rfl)
theorem dX1_readRow_30 : decode cX1_readRow 30 = .ok (.new 49, 3) := dk_187 0 49 (dk_at dksX1_readRow_1 6 rfl rfl)
theorem dX1_readRow_33 : decode cX1_readRow 33 = .ok (.dup, 1) := dk_89 (dk_at dksX1_readRow_1 9 rfl rfl)
theorem dX1_readRow_34 : decode cX1_readRow 34 = .ok (.invokespecial 51, 3) := dk_183 0 51 (dk_at dksX1_readRow_1 10 rfl rfl)
theorem dX1_readRow_37 : decode cX1_readRow 37 = .ok (.athrow, 1) := dk_191 (dk_at dksX1_readRow_1 13 rfl rfl)
theorem dX1_readRow_38 : decode cX1_readRow 38 = .ok (.aload_n 1, 1) := dk_43 (dk_at dksX1_readRow_1 14 rfl rfl)
theorem dX1_readRow_39 : decode cX1_readRow 39 = .ok (.invokevirtual 217, 3) := dk_182 0 217 (dk_at dksX1_readRow_1 15 rfl rfl)
theorem dX1_readRow_42 : decode cX1_readRow 42 = .ok (.checkcast 223, 3) := dk_192 0 223 (dk_at dksX1_readRow_1 18 rfl rfl)
theorem dX1_readRow_45 : decode cX1_readRow 45 = .ok (.invokevirtual 225, 3) := dk_182 0 225 (dk_at dksX1_readRow_1 21 rfl rfl)
theorem dX1_readRow_48 : decode cX1_readRow 48 = .ok (.istore_n 2, 1) := dk_61 (dk_at dksX1_readRow_2 0 rfl rfl)
theorem dX1_readRow_49 : decode cX1_readRow 49 = .ok (.iload_n 2, 1) := dk_28 (dk_at dksX1_readRow_2 1 rfl rfl)
theorem dX1_readRow_50 : decode cX1_readRow 50 = .ok (.aload_n 0, 1) := dk_42 (dk_at dksX1_readRow_2 2 rfl rfl)
theorem dX1_readRow_51 : decode cX1_readRow 51 = .ok (.getfield 21, 3) := dk_180 0 21 (dk_at dksX1_readRow_2 3 rfl rfl)
theorem dX1_readRow_54 : decode cX1_readRow 54 = .ok (.invokevirtual 71, 3) := dk_182 0 71 (dk_at dksX1_readRow_2 6 rfl rfl)
theorem dX1_readRow_57 : decode cX1_readRow 57 = .ok (.if_icmp .ge 7, 3) := dk_162 0 7 (dk_at dksX1_readRow_2 9 rfl rfl)
theorem dX1_readRow_60 : decode cX1_readRow 60 = .ok (.iconst 1, 1) := dk_4 (dk_at dksX1_readRow_2 12 rfl rfl)
theorem dX1_readRow_61 : decode cX1_readRow 61 = .ok (.goto 4, 3) := dk_167 0 4 (dk_at dksX1_readRow_2 13 rfl rfl)
theorem dX1_readRow_64 : decode cX1_readRow 64 = .ok (.iconst 0, 1) := dk_3 (dk_at dksX1_readRow_2 16 rfl rfl)
theorem dX1_readRow_65 : decode cX1_readRow 65 = .ok (.invokestatic 228, 3) := dk_184 0 228 (dk_at dksX1_readRow_2 17 rfl rfl)
theorem dX1_readRow_68 : decode cX1_readRow 68 = .ok (.new 83, 3) := dk_187 0 83 (dk_at dksX1_readRow_2 20 rfl rfl)
theorem dX1_readRow_71 : decode cX1_readRow 71 = .ok (.dup, 1) := dk_89 (dk_at dksX1_readRow_2 23 rfl rfl)
theorem dX1_readRow_72 : decode cX1_readRow 72 = .ok (.iload_n 2, 1) := dk_28 (dk_at dksX1_readRow_3 0 rfl rfl)
theorem dX1_readRow_73 : decode cX1_readRow 73 = .ok (.invokespecial 151, 3) := dk_183 0 151 (dk_at dksX1_readRow_3 1 rfl rfl)
theorem dX1_readRow_76 : decode cX1_readRow 76 = .ok (.astore_n 3, 1) := dk_78 (dk_at dksX1_readRow_3 4 rfl rfl)
theorem dX1_readRow_77 : decode cX1_readRow 77 = .ok (.aload_n 1, 1) := dk_43 (dk_at dksX1_readRow_3 5 rfl rfl)
theorem dX1_readRow_78 : decode cX1_readRow 78 = .ok (.invokevirtual 231, 3) := dk_182 0 231 (dk_at dksX1_readRow_3 6 rfl rfl)
theorem dX1_readRow_81 : decode cX1_readRow 81 = .ok (.ifCond .ne 135, 3) := dk_154 0 135 (dk_at dksX1_readRow_3 9 rfl rfl)
theorem dX1_readRow_84 : decode cX1_readRow 84 = .ok (.aload_n 1, 1) := dk_43 (dk_at dksX1_readRow_3 12 rfl rfl)
theorem dX1_readRow_85 : decode cX1_readRow 85 = .ok (.invokevirtual 217, 3) := dk_182 0 217 (dk_at dksX1_readRow_3 13 rfl rfl)
theorem dX1_readRow_88 : decode cX1_readRow 88 = .ok (.checkcast 223, 3) := dk_192 0 223 (dk_at dksX1_readRow_3 16 rfl rfl)
theorem dX1_readRow_91 : decode cX1_readRow 91 = .ok (.invokevirtual 225, 3) := dk_182 0 225 (dk_at dksX1_readRow_3 19 rfl rfl)
theorem dX1_readRow_94 : decode cX1_readRow 94 = .ok (.istore 4, 2) := dk_54 4 (dk_at dksX1_readRow_3 22 rfl rfl)
theorem dX1_readRow_96 : decode cX1_readRow 96 = .ok (.aload_n 1, 1) := dk_43 (dk_at dksX1_readRow_4 0 rfl rfl)
theorem dX1_readRow_97 : decode cX1_readRow 97 = .ok (.invokevirtual 217, 3) := dk_182 0 217 (dk_at dksX1_readRow_4 1 rfl rfl)
theorem dX1_readRow_100 : decode cX1_readRow 100 = .ok (.checkcast 223, 3) := dk_192 0 223 (dk_at dksX1_readRow_4 4 rfl rfl)
theorem dX1_readRow_103 : decode cX1_readRow 103 = .ok (.invokevirtual 225, 3) := dk_182 0 225 (dk_at dksX1_readRow_4 7 rfl rfl)
theorem dX1_readRow_106 : decode cX1_readRow 106 = .ok (.istore 5, 2) := dk_54 5 (dk_at dksX1_readRow_4 10 rfl rfl)
theorem dX1_readRow_108 : decode cX1_readRow 108 = .ok (.aload_n 1, 1) := dk_43 (dk_at dksX1_readRow_4 12 rfl rfl)
theorem dX1_readRow_109 : decode cX1_readRow 109 = .ok (.invokevirtual 217, 3) := dk_182 0 217 (dk_at dksX1_readRow_4 13 rfl rfl)
theorem dX1_readRow_112 : decode cX1_readRow 112 = .ok (.checkcast 223, 3) := dk_192 0 223 (dk_at dksX1_readRow_4 16 rfl rfl)
theorem dX1_readRow_115 : decode cX1_readRow 115 = .ok (.invokevirtual 225, 3) := dk_182 0 225 (dk_at dksX1_readRow_4 19 rfl rfl)
theorem dX1_readRow_118 : decode cX1_readRow 118 = .ok (.istore 6, 2) := dk_54 6 (dk_at dksX1_readRow_4 22 rfl rfl)
theorem dX1_readRow_120 : decode cX1_readRow 120 = .ok (.aload_n 3, 1) := dk_45 (dk_at dksX1_readRow_5 0 rfl rfl)
theorem dX1_readRow_121 : decode cX1_readRow 121 = .ok (.getfield 89, 3) := dk_180 0 89 (dk_at dksX1_readRow_5 1 rfl rfl)
theorem dX1_readRow_124 : decode cX1_readRow 124 = .ok (.invokevirtual 235, 3) := dk_182 0 235 (dk_at dksX1_readRow_5 4 rfl rfl)
theorem dX1_readRow_127 : decode cX1_readRow 127 = .ok (.ifCond .eq 11, 3) := dk_153 0 11 (dk_at dksX1_readRow_5 7 rfl rfl)
theorem dX1_readRow_130 : decode cX1_readRow 130 = .ok (.iload 6, 2) := dk_21 6 (dk_at dksX1_readRow_5 10 rfl rfl)
theorem dX1_readRow_132 : decode cX1_readRow 132 = .ok (.invokestatic 148, 3) := dk_184 0 148 (dk_at dksX1_readRow_5 12 rfl rfl)
theorem dX1_readRow_135 : decode cX1_readRow 135 = .ok (.goto 33, 3) := dk_167 0 33 (dk_at dksX1_readRow_5 15 rfl rfl)
theorem dX1_readRow_138 : decode cX1_readRow 138 = .ok (.aload_n 3, 1) := dk_45 (dk_at dksX1_readRow_5 18 rfl rfl)
theorem dX1_readRow_139 : decode cX1_readRow 139 = .ok (.getfield 89, 3) := dk_180 0 89 (dk_at dksX1_readRow_5 19 rfl rfl)
theorem dX1_readRow_142 : decode cX1_readRow 142 = .ok (.invokevirtual 71, 3) := dk_182 0 71 (dk_at dksX1_readRow_6 0 rfl rfl)
theorem dX1_readRow_145 : decode cX1_readRow 145 = .ok (.bipush 8, 2) := dk_16 8 (dk_at dksX1_readRow_6 3 rfl rfl)
theorem dX1_readRow_147 : decode cX1_readRow 147 = .ok (.if_icmp .ge 20, 3) := dk_162 0 20 (dk_at dksX1_readRow_6 5 rfl rfl)
theorem dX1_readRow_150 : decode cX1_readRow 150 = .ok (.aload_n 3, 1) := dk_45 (dk_at dksX1_readRow_6 8 rfl rfl)
theorem dX1_readRow_151 : decode cX1_readRow 151 = .ok (.iload 4, 2) := dk_21 4 (dk_at dksX1_readRow_6 9 rfl rfl)
theorem dX1_readRow_153 : decode cX1_readRow 153 = .ok (.iload 5, 2) := dk_21 5 (dk_at dksX1_readRow_6 11 rfl rfl)
theorem dX1_readRow_155 : decode cX1_readRow 155 = .ok (.iload 6, 2) := dk_21 6 (dk_at dksX1_readRow_6 13 rfl rfl)
theorem dX1_readRow_157 : decode cX1_readRow 157 = .ok (.invokestatic 166, 3) := dk_184 0 166 (dk_at dksX1_readRow_6 15 rfl rfl)
theorem dX1_readRow_160 : decode cX1_readRow 160 = .ok (.ifCond .eq 7, 3) := dk_153 0 7 (dk_at dksX1_readRow_6 18 rfl rfl)
theorem dX1_readRow_163 : decode cX1_readRow 163 = .ok (.iconst 1, 1) := dk_4 (dk_at dksX1_readRow_6 21 rfl rfl)
theorem dX1_readRow_164 : decode cX1_readRow 164 = .ok (.goto 4, 3) := dk_167 0 4 (dk_at dksX1_readRow_7 0 rfl rfl)
theorem dX1_readRow_167 : decode cX1_readRow 167 = .ok (.iconst 0, 1) := dk_3 (dk_at dksX1_readRow_7 3 rfl rfl)
theorem dX1_readRow_168 : decode cX1_readRow 168 = .ok (.istore 7, 2) := dk_54 7 (dk_at dksX1_readRow_7 4 rfl rfl)
theorem dX1_readRow_170 : decode cX1_readRow 170 = .ok (.aload_n 0, 1) := dk_42 (dk_at dksX1_readRow_7 6 rfl rfl)
theorem dX1_readRow_171 : decode cX1_readRow 171 = .ok (.iload 4, 2) := dk_21 4 (dk_at dksX1_readRow_7 7 rfl rfl)
theorem dX1_readRow_173 : decode cX1_readRow 173 = .ok (.invokevirtual 102, 3) := dk_182 0 102 (dk_at dksX1_readRow_7 9 rfl rfl)
theorem dX1_readRow_176 : decode cX1_readRow 176 = .ok (.ifCond .eq 12, 3) := dk_153 0 12 (dk_at dksX1_readRow_7 12 rfl rfl)
theorem dX1_readRow_179 : decode cX1_readRow 179 = .ok (.iload 7, 2) := dk_21 7 (dk_at dksX1_readRow_7 15 rfl rfl)
theorem dX1_readRow_181 : decode cX1_readRow 181 = .ok (.ifCond .eq 7, 3) := dk_153 0 7 (dk_at dksX1_readRow_7 17 rfl rfl)
theorem dX1_readRow_184 : decode cX1_readRow 184 = .ok (.iconst 1, 1) := dk_4 (dk_at dksX1_readRow_7 20 rfl rfl)
theorem dX1_readRow_185 : decode cX1_readRow 185 = .ok (.goto 4, 3) := dk_167 0 4 (dk_at dksX1_readRow_7 21 rfl rfl)
theorem dX1_readRow_188 : decode cX1_readRow 188 = .ok (.iconst 0, 1) := dk_3 (dk_at dksX1_readRow_8 0 rfl rfl)
theorem dX1_readRow_189 : decode cX1_readRow 189 = .ok (.invokestatic 228, 3) := dk_184 0 228 (dk_at dksX1_readRow_8 1 rfl rfl)
theorem dX1_readRow_192 : decode cX1_readRow 192 = .ok (.aload_n 3, 1) := dk_45 (dk_at dksX1_readRow_8 4 rfl rfl)
theorem dX1_readRow_193 : decode cX1_readRow 193 = .ok (.getfield 89, 3) := dk_180 0 89 (dk_at dksX1_readRow_8 5 rfl rfl)
theorem dX1_readRow_196 : decode cX1_readRow 196 = .ok (.new 92, 3) := dk_187 0 92 (dk_at dksX1_readRow_8 8 rfl rfl)
theorem dX1_readRow_199 : decode cX1_readRow 199 = .ok (.dup, 1) := dk_89 (dk_at dksX1_readRow_8 11 rfl rfl)
theorem dX1_readRow_200 : decode cX1_readRow 200 = .ok (.iload 4, 2) := dk_21 4 (dk_at dksX1_readRow_8 12 rfl rfl)
theorem dX1_readRow_202 : decode cX1_readRow 202 = .ok (.iload 5, 2) := dk_21 5 (dk_at dksX1_readRow_8 14 rfl rfl)
theorem dX1_readRow_204 : decode cX1_readRow 204 = .ok (.iload 6, 2) := dk_21 6 (dk_at dksX1_readRow_8 16 rfl rfl)
theorem dX1_readRow_206 : decode cX1_readRow 206 = .ok (.invokespecial 153, 3) := dk_183 0 153 (dk_at dksX1_readRow_8 18 rfl rfl)
theorem dX1_readRow_209 : decode cX1_readRow 209 = .ok (.invokevirtual 121, 3) := dk_182 0 121 (dk_at dksX1_readRow_8 21 rfl rfl)
theorem dX1_readRow_212 : decode cX1_readRow 212 = .ok (.pop, 1) := dk_87 (dk_at dksX1_readRow_9 0 rfl rfl)
theorem dX1_readRow_213 : decode cX1_readRow 213 = .ok (.goto (-136), 3) := dk_167 255 120 (dk_at dksX1_readRow_9 1 rfl rfl)
theorem dX1_readRow_216 : decode cX1_readRow 216 = .ok (.aload_n 0, 1) := dk_42 (dk_at dksX1_readRow_9 4 rfl rfl)
theorem dX1_readRow_217 : decode cX1_readRow 217 = .ok (.getfield 25, 3) := dk_180 0 25 (dk_at dksX1_readRow_9 5 rfl rfl)
theorem dX1_readRow_220 : decode cX1_readRow 220 = .ok (.invokevirtual 71, 3) := dk_182 0 71 (dk_at dksX1_readRow_9 8 rfl rfl)
theorem dX1_readRow_223 : decode cX1_readRow 223 = .ok (.bipush 24, 2) := dk_16 24 (dk_at dksX1_readRow_9 11 rfl rfl)
theorem dX1_readRow_225 : decode cX1_readRow 225 = .ok (.if_icmp .ge 7, 3) := dk_162 0 7 (dk_at dksX1_readRow_9 13 rfl rfl)
theorem dX1_readRow_228 : decode cX1_readRow 228 = .ok (.iconst 1, 1) := dk_4 (dk_at dksX1_readRow_9 16 rfl rfl)
theorem dX1_readRow_229 : decode cX1_readRow 229 = .ok (.goto 4, 3) := dk_167 0 4 (dk_at dksX1_readRow_9 17 rfl rfl)
theorem dX1_readRow_232 : decode cX1_readRow 232 = .ok (.iconst 0, 1) := dk_3 (dk_at dksX1_readRow_9 20 rfl rfl)
theorem dX1_readRow_233 : decode cX1_readRow 233 = .ok (.invokestatic 99, 3) := dk_184 0 99 (dk_at dksX1_readRow_9 21 rfl rfl)
theorem dX1_readRow_236 : decode cX1_readRow 236 = .ok (.aload_n 0, 1) := dk_42 (dk_at dksX1_readRow_10 0 rfl rfl)
theorem dX1_readRow_237 : decode cX1_readRow 237 = .ok (.getfield 25, 3) := dk_180 0 25 (dk_at dksX1_readRow_10 1 rfl rfl)
theorem dX1_readRow_240 : decode cX1_readRow 240 = .ok (.aload_n 3, 1) := dk_45 (dk_at dksX1_readRow_10 4 rfl rfl)
theorem dX1_readRow_241 : decode cX1_readRow 241 = .ok (.invokevirtual 121, 3) := dk_182 0 121 (dk_at dksX1_readRow_10 5 rfl rfl)
theorem dX1_readRow_244 : decode cX1_readRow 244 = .ok (.pop, 1) := dk_87 (dk_at dksX1_readRow_10 8 rfl rfl)
theorem dX1_readRow_245 : decode cX1_readRow 245 = .ok (.aload_n 0, 1) := dk_42 (dk_at dksX1_readRow_10 9 rfl rfl)
theorem dX1_readRow_246 : decode cX1_readRow 246 = .ok (.getfield 41, 3) := dk_180 0 41 (dk_at dksX1_readRow_10 10 rfl rfl)
theorem dX1_readRow_249 : decode cX1_readRow 249 = .ok (.iconst 0, 1) := dk_3 (dk_at dksX1_readRow_10 13 rfl rfl)
theorem dX1_readRow_250 : decode cX1_readRow 250 = .ok (.invokevirtual 196, 3) := dk_182 0 196 (dk_at dksX1_readRow_10 14 rfl rfl)
theorem dX1_readRow_253 : decode cX1_readRow 253 = .ok (.aload_n 0, 1) := dk_42 (dk_at dksX1_readRow_10 17 rfl rfl)
theorem dX1_readRow_254 : decode cX1_readRow 254 = .ok (.getfield 25, 3) := dk_180 0 25 (dk_at dksX1_readRow_10 18 rfl rfl)
theorem dX1_readRow_257 : decode cX1_readRow 257 = .ok (.invokevirtual 71, 3) := dk_182 0 71 (dk_at dksX1_readRow_10 21 rfl rfl)
theorem dX1_readRow_260 : decode cX1_readRow 260 = .ok (.iconst 1, 1) := dk_4 (dk_at dksX1_readRow_11 0 rfl rfl)
theorem dX1_readRow_261 : decode cX1_readRow 261 = .ok (.isub, 1) := dk_100 (dk_at dksX1_readRow_11 1 rfl rfl)
theorem dX1_readRow_262 : decode cX1_readRow 262 = .ok (.ireturn, 1) := dk_172 (dk_at dksX1_readRow_11 2 rfl rfl)
abbrev cX1_requireSupported : ByteArray := prog_1_method_7_code
def yX1_requireSupported : MethodName := ⟨RX1, "requireSupported", "(Z)V"⟩
def dkwX1_requireSupported_0 : List UInt8 := [26, 154, 0, 11, 187, 0, 61, 89, 183, 0, 63, 191, 177]
abbrev dktX1_requireSupported_0 : List UInt8 := dkwX1_requireSupported_0 ++ []
theorem dksX1_requireSupported_0 : cX1_requireSupported.data.toList.drop 0 = dktX1_requireSupported_0 := by decide +kernel
theorem dX1_requireSupported_0 : decode cX1_requireSupported 0 = .ok (.iload_n 0, 1) := dk_26 (dk_at dksX1_requireSupported_0 0 rfl rfl)
theorem dX1_requireSupported_1 : decode cX1_requireSupported 1 = .ok (.ifCond .ne 11, 3) := dk_154 0 11 (dk_at dksX1_requireSupported_0 1 rfl rfl)
theorem dX1_requireSupported_4 : decode cX1_requireSupported 4 = .ok (.new 61, 3) := dk_187 0 61 (dk_at dksX1_requireSupported_0 4 rfl rfl)
theorem dX1_requireSupported_7 : decode cX1_requireSupported 7 = .ok (.dup, 1) := dk_89 (dk_at dksX1_requireSupported_0 7 rfl rfl)
theorem dX1_requireSupported_8 : decode cX1_requireSupported 8 = .ok (.invokespecial 63, 3) := dk_183 0 63 (dk_at dksX1_requireSupported_0 8 rfl rfl)
theorem dX1_requireSupported_11 : decode cX1_requireSupported 11 = .ok (.athrow, 1) := dk_191 (dk_at dksX1_requireSupported_0 11 rfl rfl)
theorem dX1_requireSupported_12 : decode cX1_requireSupported 12 = .ok (.return_, 1) := dk_177 (dk_at dksX1_requireSupported_0 12 rfl rfl)
abbrev cX1_faultAt : ByteArray := prog_1_method_36_code
def yX1_faultAt : MethodName := ⟨RX1, "faultAt", "()I"⟩
def dkwX1_faultAt_0 : List UInt8 := [42, 180, 0, 45, 155, 0, 7, 4, 167, 0, 4, 3, 184, 0, 117, 42, 180, 0, 45, 172]
abbrev dktX1_faultAt_0 : List UInt8 := dkwX1_faultAt_0 ++ []
theorem dksX1_faultAt_0 : cX1_faultAt.data.toList.drop 0 = dktX1_faultAt_0 := by decide +kernel
theorem dX1_faultAt_0 : decode cX1_faultAt 0 = .ok (.aload_n 0, 1) := dk_42 (dk_at dksX1_faultAt_0 0 rfl rfl)
theorem dX1_faultAt_1 : decode cX1_faultAt 1 = .ok (.getfield 45, 3) := dk_180 0 45 (dk_at dksX1_faultAt_0 1 rfl rfl)
theorem dX1_faultAt_4 : decode cX1_faultAt 4 = .ok (.ifCond .lt 7, 3) := dk_155 0 7 (dk_at dksX1_faultAt_0 4 rfl rfl)
theorem dX1_faultAt_7 : decode cX1_faultAt 7 = .ok (.iconst 1, 1) := dk_4 (dk_at dksX1_faultAt_0 7 rfl rfl)
theorem dX1_faultAt_8 : decode cX1_faultAt 8 = .ok (.goto 4, 3) := dk_167 0 4 (dk_at dksX1_faultAt_0 8 rfl rfl)
theorem dX1_faultAt_11 : decode cX1_faultAt 11 = .ok (.iconst 0, 1) := dk_3 (dk_at dksX1_faultAt_0 11 rfl rfl)
theorem dX1_faultAt_12 : decode cX1_faultAt 12 = .ok (.invokestatic 117, 3) := dk_184 0 117 (dk_at dksX1_faultAt_0 12 rfl rfl)
theorem dX1_faultAt_15 : decode cX1_faultAt 15 = .ok (.aload_n 0, 1) := dk_42 (dk_at dksX1_faultAt_0 15 rfl rfl)
theorem dX1_faultAt_16 : decode cX1_faultAt 16 = .ok (.getfield 45, 3) := dk_180 0 45 (dk_at dksX1_faultAt_0 16 rfl rfl)
theorem dX1_faultAt_19 : decode cX1_faultAt 19 = .ok (.ireturn, 1) := dk_172 (dk_at dksX1_faultAt_0 19 rfl rfl)
abbrev cX1_late : ByteArray := prog_1_method_38_code
def yX1_late : MethodName := ⟨RX1, "late", "(IIII)I"⟩
def dkwX1_late_6 : List UInt8 := [25, 6, 182, 1, 4, 172]
abbrev dktX1_late_6 : List UInt8 := dkwX1_late_6 ++ []
def dkwX1_late_5 : List UInt8 := [198, 0, 16, 42, 180, 0, 31, 21, 7, 184, 0, 236, 182, 1, 1, 87, 25, 6, 199, 0, 5, 3, 172]
abbrev dktX1_late_5 : List UInt8 := dkwX1_late_5 ++ dktX1_late_6
def dkwX1_late_4 : List UInt8 := [184, 0, 236, 187, 0, 243, 89, 29, 21, 4, 183, 0, 250, 182, 0, 253, 87, 167, 0, 21, 25, 6]
abbrev dktX1_late_4 : List UInt8 := dkwX1_late_4 ++ dktX1_late_5
def dkwX1_late_3 : List UInt8 := [184, 0, 99, 16, 24, 27, 104, 28, 96, 54, 7, 21, 4, 158, 0, 29, 42, 180, 0, 31, 21, 7]
abbrev dktX1_late_3 : List UInt8 := dkwX1_late_3 ++ dktX1_late_4
def dkwX1_late_2 : List UInt8 := [21, 4, 153, 0, 15, 42, 180, 0, 31, 182, 0, 249, 16, 12, 162, 0, 7, 4, 167, 0, 4, 3]
abbrev dktX1_late_2 : List UInt8 := dkwX1_late_2 ++ dktX1_late_3
def dkwX1_late_1 : List UInt8 := [153, 0, 7, 4, 167, 0, 4, 3, 184, 0, 96, 42, 27, 28, 182, 0, 245, 58, 6, 25, 6, 199, 0, 20]
abbrev dktX1_late_1 : List UInt8 := dkwX1_late_1 ++ dktX1_late_2
def dkwX1_late_0 : List UInt8 := [42, 28, 29, 182, 0, 170, 58, 5, 27, 184, 0, 129, 153, 0, 18, 21, 4, 3, 16, 120, 184, 0, 64]
abbrev dktX1_late_0 : List UInt8 := dkwX1_late_0 ++ dktX1_late_1
theorem dksX1_late_0 : cX1_late.data.toList.drop 0 = dktX1_late_0 := by decide +kernel
theorem dksX1_late_1 : cX1_late.data.toList.drop 23 = dktX1_late_1 := dk_seg dksX1_late_0 23 rfl rfl
theorem dksX1_late_2 : cX1_late.data.toList.drop 47 = dktX1_late_2 := dk_seg dksX1_late_1 24 rfl rfl
theorem dksX1_late_3 : cX1_late.data.toList.drop 69 = dktX1_late_3 := dk_seg dksX1_late_2 22 rfl rfl
theorem dksX1_late_4 : cX1_late.data.toList.drop 91 = dktX1_late_4 := dk_seg dksX1_late_3 22 rfl rfl
theorem dksX1_late_5 : cX1_late.data.toList.drop 113 = dktX1_late_5 := dk_seg dksX1_late_4 22 rfl rfl
theorem dksX1_late_6 : cX1_late.data.toList.drop 136 = dktX1_late_6 := dk_seg dksX1_late_5 23 rfl rfl
theorem dX1_late_0 : decode cX1_late 0 = .ok (.aload_n 0, 1) := dk_42 (dk_at dksX1_late_0 0 rfl rfl)
theorem dX1_late_1 : decode cX1_late 1 = .ok (.iload_n 2, 1) := dk_28 (dk_at dksX1_late_0 1 rfl rfl)
theorem dX1_late_2 : decode cX1_late 2 = .ok (.iload_n 3, 1) := dk_29 (dk_at dksX1_late_0 2 rfl rfl)
theorem dX1_late_3 : decode cX1_late 3 = .ok (.invokevirtual 170, 3) := dk_182 0 170 (dk_at dksX1_late_0 3 rfl rfl)
theorem dX1_late_6 : decode cX1_late 6 = .ok (.astore 5, 2) := dk_58 5 (dk_at dksX1_late_0 6 rfl rfl)
theorem dX1_late_8 : decode cX1_late 8 = .ok (.iload_n 1, 1) := dk_27 (dk_at dksX1_late_0 8 rfl rfl)
theorem dX1_late_9 : decode cX1_late 9 = .ok (.invokestatic 129, 3) := dk_184 0 129 (dk_at dksX1_late_0 9 rfl rfl)
theorem dX1_late_12 : decode cX1_late 12 = .ok (.ifCond .eq 18, 3) := dk_153 0 18 (dk_at dksX1_late_0 12 rfl rfl)
theorem dX1_late_15 : decode cX1_late 15 = .ok (.iload 4, 2) := dk_21 4 (dk_at dksX1_late_0 15 rfl rfl)
theorem dX1_late_17 : decode cX1_late 17 = .ok (.iconst 0, 1) := dk_3 (dk_at dksX1_late_0 17 rfl rfl)
theorem dX1_late_18 : decode cX1_late 18 = .ok (.bipush 120, 2) := dk_16 120 (dk_at dksX1_late_0 18 rfl rfl)
theorem dX1_late_20 : decode cX1_late 20 = .ok (.invokestatic 64, 3) := dk_184 0 64 (dk_at dksX1_late_0 20 rfl rfl)
theorem dX1_late_23 : decode cX1_late 23 = .ok (.ifCond .eq 7, 3) := dk_153 0 7 (dk_at dksX1_late_1 0 rfl rfl)
theorem dX1_late_26 : decode cX1_late 26 = .ok (.iconst 1, 1) := dk_4 (dk_at dksX1_late_1 3 rfl rfl)
theorem dX1_late_27 : decode cX1_late 27 = .ok (.goto 4, 3) := dk_167 0 4 (dk_at dksX1_late_1 4 rfl rfl)
theorem dX1_late_30 : decode cX1_late 30 = .ok (.iconst 0, 1) := dk_3 (dk_at dksX1_late_1 7 rfl rfl)
theorem dX1_late_31 : decode cX1_late 31 = .ok (.invokestatic 96, 3) := dk_184 0 96 (dk_at dksX1_late_1 8 rfl rfl)
theorem dX1_late_34 : decode cX1_late 34 = .ok (.aload_n 0, 1) := dk_42 (dk_at dksX1_late_1 11 rfl rfl)
theorem dX1_late_35 : decode cX1_late 35 = .ok (.iload_n 1, 1) := dk_27 (dk_at dksX1_late_1 12 rfl rfl)
theorem dX1_late_36 : decode cX1_late 36 = .ok (.iload_n 2, 1) := dk_28 (dk_at dksX1_late_1 13 rfl rfl)
theorem dX1_late_37 : decode cX1_late 37 = .ok (.invokevirtual 245, 3) := dk_182 0 245 (dk_at dksX1_late_1 14 rfl rfl)
theorem dX1_late_40 : decode cX1_late 40 = .ok (.astore 6, 2) := dk_58 6 (dk_at dksX1_late_1 17 rfl rfl)
theorem dX1_late_42 : decode cX1_late 42 = .ok (.aload 6, 2) := dk_25 6 (dk_at dksX1_late_1 19 rfl rfl)
theorem dX1_late_44 : decode cX1_late 44 = .ok (.ifnonnull 20, 3) := dk_199 0 20 (dk_at dksX1_late_1 21 rfl rfl)
theorem dX1_late_47 : decode cX1_late 47 = .ok (.iload 4, 2) := dk_21 4 (dk_at dksX1_late_2 0 rfl rfl)
theorem dX1_late_49 : decode cX1_late 49 = .ok (.ifCond .eq 15, 3) := dk_153 0 15 (dk_at dksX1_late_2 2 rfl rfl)
theorem dX1_late_52 : decode cX1_late 52 = .ok (.aload_n 0, 1) := dk_42 (dk_at dksX1_late_2 5 rfl rfl)
theorem dX1_late_53 : decode cX1_late 53 = .ok (.getfield 31, 3) := dk_180 0 31 (dk_at dksX1_late_2 6 rfl rfl)
theorem dX1_late_56 : decode cX1_late 56 = .ok (.invokevirtual 249, 3) := dk_182 0 249 (dk_at dksX1_late_2 9 rfl rfl)
theorem dX1_late_59 : decode cX1_late 59 = .ok (.bipush 12, 2) := dk_16 12 (dk_at dksX1_late_2 12 rfl rfl)
theorem dX1_late_61 : decode cX1_late 61 = .ok (.if_icmp .ge 7, 3) := dk_162 0 7 (dk_at dksX1_late_2 14 rfl rfl)
theorem dX1_late_64 : decode cX1_late 64 = .ok (.iconst 1, 1) := dk_4 (dk_at dksX1_late_2 17 rfl rfl)
theorem dX1_late_65 : decode cX1_late 65 = .ok (.goto 4, 3) := dk_167 0 4 (dk_at dksX1_late_2 18 rfl rfl)
theorem dX1_late_68 : decode cX1_late 68 = .ok (.iconst 0, 1) := dk_3 (dk_at dksX1_late_2 21 rfl rfl)
theorem dX1_late_69 : decode cX1_late 69 = .ok (.invokestatic 99, 3) := dk_184 0 99 (dk_at dksX1_late_3 0 rfl rfl)
theorem dX1_late_72 : decode cX1_late 72 = .ok (.bipush 24, 2) := dk_16 24 (dk_at dksX1_late_3 3 rfl rfl)
theorem dX1_late_74 : decode cX1_late 74 = .ok (.iload_n 1, 1) := dk_27 (dk_at dksX1_late_3 5 rfl rfl)
theorem dX1_late_75 : decode cX1_late 75 = .ok (.imul, 1) := dk_104 (dk_at dksX1_late_3 6 rfl rfl)
theorem dX1_late_76 : decode cX1_late 76 = .ok (.iload_n 2, 1) := dk_28 (dk_at dksX1_late_3 7 rfl rfl)
theorem dX1_late_77 : decode cX1_late 77 = .ok (.iadd, 1) := dk_96 (dk_at dksX1_late_3 8 rfl rfl)
theorem dX1_late_78 : decode cX1_late 78 = .ok (.istore 7, 2) := dk_54 7 (dk_at dksX1_late_3 9 rfl rfl)
theorem dX1_late_80 : decode cX1_late 80 = .ok (.iload 4, 2) := dk_21 4 (dk_at dksX1_late_3 11 rfl rfl)
theorem dX1_late_82 : decode cX1_late 82 = .ok (.ifCond .le 29, 3) := dk_158 0 29 (dk_at dksX1_late_3 13 rfl rfl)
theorem dX1_late_85 : decode cX1_late 85 = .ok (.aload_n 0, 1) := dk_42 (dk_at dksX1_late_3 16 rfl rfl)
theorem dX1_late_86 : decode cX1_late 86 = .ok (.getfield 31, 3) := dk_180 0 31 (dk_at dksX1_late_3 17 rfl rfl)
theorem dX1_late_89 : decode cX1_late 89 = .ok (.iload 7, 2) := dk_21 7 (dk_at dksX1_late_3 20 rfl rfl)
theorem dX1_late_91 : decode cX1_late 91 = .ok (.invokestatic 236, 3) := dk_184 0 236 (dk_at dksX1_late_4 0 rfl rfl)
theorem dX1_late_94 : decode cX1_late 94 = .ok (.new 243, 3) := dk_187 0 243 (dk_at dksX1_late_4 3 rfl rfl)
theorem dX1_late_97 : decode cX1_late 97 = .ok (.dup, 1) := dk_89 (dk_at dksX1_late_4 6 rfl rfl)
theorem dX1_late_98 : decode cX1_late 98 = .ok (.iload_n 3, 1) := dk_29 (dk_at dksX1_late_4 7 rfl rfl)
theorem dX1_late_99 : decode cX1_late 99 = .ok (.iload 4, 2) := dk_21 4 (dk_at dksX1_late_4 8 rfl rfl)
theorem dX1_late_101 : decode cX1_late 101 = .ok (.invokespecial 250, 3) := dk_183 0 250 (dk_at dksX1_late_4 10 rfl rfl)
theorem dX1_late_104 : decode cX1_late 104 = .ok (.invokevirtual 253, 3) := dk_182 0 253 (dk_at dksX1_late_4 13 rfl rfl)
theorem dX1_late_107 : decode cX1_late 107 = .ok (.pop, 1) := dk_87 (dk_at dksX1_late_4 16 rfl rfl)
theorem dX1_late_108 : decode cX1_late 108 = .ok (.goto 21, 3) := dk_167 0 21 (dk_at dksX1_late_4 17 rfl rfl)
theorem dX1_late_111 : decode cX1_late 111 = .ok (.aload 6, 2) := dk_25 6 (dk_at dksX1_late_4 20 rfl rfl)
theorem dX1_late_113 : decode cX1_late 113 = .ok (.ifnull 16, 3) := dk_198 0 16 (dk_at dksX1_late_5 0 rfl rfl)
theorem dX1_late_116 : decode cX1_late 116 = .ok (.aload_n 0, 1) := dk_42 (dk_at dksX1_late_5 3 rfl rfl)
theorem dX1_late_117 : decode cX1_late 117 = .ok (.getfield 31, 3) := dk_180 0 31 (dk_at dksX1_late_5 4 rfl rfl)
theorem dX1_late_120 : decode cX1_late 120 = .ok (.iload 7, 2) := dk_21 7 (dk_at dksX1_late_5 7 rfl rfl)
theorem dX1_late_122 : decode cX1_late 122 = .ok (.invokestatic 236, 3) := dk_184 0 236 (dk_at dksX1_late_5 9 rfl rfl)
theorem dX1_late_125 : decode cX1_late 125 = .ok (.invokevirtual 257, 3) := dk_182 1 1 (dk_at dksX1_late_5 12 rfl rfl)
theorem dX1_late_128 : decode cX1_late 128 = .ok (.pop, 1) := dk_87 (dk_at dksX1_late_5 15 rfl rfl)
theorem dX1_late_129 : decode cX1_late 129 = .ok (.aload 6, 2) := dk_25 6 (dk_at dksX1_late_5 16 rfl rfl)
theorem dX1_late_131 : decode cX1_late 131 = .ok (.ifnonnull 5, 3) := dk_199 0 5 (dk_at dksX1_late_5 18 rfl rfl)
theorem dX1_late_134 : decode cX1_late 134 = .ok (.iconst 0, 1) := dk_3 (dk_at dksX1_late_5 21 rfl rfl)
theorem dX1_late_135 : decode cX1_late 135 = .ok (.ireturn, 1) := dk_172 (dk_at dksX1_late_5 22 rfl rfl)
theorem dX1_late_136 : decode cX1_late 136 = .ok (.aload 6, 2) := dk_25 6 (dk_at dksX1_late_6 0 rfl rfl)
theorem dX1_late_138 : decode cX1_late 138 = .ok (.invokevirtual 260, 3) := dk_182 1 4 (dk_at dksX1_late_6 2 rfl rfl)
theorem dX1_late_141 : decode cX1_late 141 = .ok (.ireturn, 1) := dk_172 (dk_at dksX1_late_6 5 rfl rfl)
abbrev cX1_lateOf : ByteArray := prog_1_method_37_code
def yX1_lateOf : MethodName := ⟨RX1, "lateOf", "(II)LLastbus$Late;"⟩
def dkwX1_lateOf_0 : List UInt8 := [42, 180, 0, 31, 16, 24, 27, 104, 28, 96, 184, 0, 236, 182, 0, 240, 192, 0, 243, 176]
abbrev dktX1_lateOf_0 : List UInt8 := dkwX1_lateOf_0 ++ []
theorem dksX1_lateOf_0 : cX1_lateOf.data.toList.drop 0 = dktX1_lateOf_0 := by decide +kernel
theorem dX1_lateOf_0 : decode cX1_lateOf 0 = .ok (.aload_n 0, 1) := dk_42 (dk_at dksX1_lateOf_0 0 rfl rfl)
theorem dX1_lateOf_1 : decode cX1_lateOf 1 = .ok (.getfield 31, 3) := dk_180 0 31 (dk_at dksX1_lateOf_0 1 rfl rfl)
theorem dX1_lateOf_4 : decode cX1_lateOf 4 = .ok (.bipush 24, 2) := dk_16 24 (dk_at dksX1_lateOf_0 4 rfl rfl)
theorem dX1_lateOf_6 : decode cX1_lateOf 6 = .ok (.iload_n 1, 1) := dk_27 (dk_at dksX1_lateOf_0 6 rfl rfl)
theorem dX1_lateOf_7 : decode cX1_lateOf 7 = .ok (.imul, 1) := dk_104 (dk_at dksX1_lateOf_0 7 rfl rfl)
theorem dX1_lateOf_8 : decode cX1_lateOf 8 = .ok (.iload_n 2, 1) := dk_28 (dk_at dksX1_lateOf_0 8 rfl rfl)
theorem dX1_lateOf_9 : decode cX1_lateOf 9 = .ok (.iadd, 1) := dk_96 (dk_at dksX1_lateOf_0 9 rfl rfl)
theorem dX1_lateOf_10 : decode cX1_lateOf 10 = .ok (.invokestatic 236, 3) := dk_184 0 236 (dk_at dksX1_lateOf_0 10 rfl rfl)
theorem dX1_lateOf_13 : decode cX1_lateOf 13 = .ok (.invokevirtual 240, 3) := dk_182 0 240 (dk_at dksX1_lateOf_0 13 rfl rfl)
theorem dX1_lateOf_16 : decode cX1_lateOf 16 = .ok (.checkcast 243, 3) := dk_192 0 243 (dk_at dksX1_lateOf_0 16 rfl rfl)
theorem dX1_lateOf_19 : decode cX1_lateOf 19 = .ok (.areturn, 1) := dk_176 (dk_at dksX1_lateOf_0 19 rfl rfl)
abbrev cX1_lateness : ByteArray := prog_1_method_40_code
def yX1_lateness : MethodName := ⟨RX1, "lateness", "(III)I"⟩
def dkwX1_lateness_0 : List UInt8 := [42, 28, 29, 182, 0, 170, 58, 4, 27, 184, 0, 129, 184, 0, 96, 42, 27, 28, 29, 182, 1, 10, 172]
abbrev dktX1_lateness_0 : List UInt8 := dkwX1_lateness_0 ++ []
theorem dksX1_lateness_0 : cX1_lateness.data.toList.drop 0 = dktX1_lateness_0 := by decide +kernel
theorem dX1_lateness_0 : decode cX1_lateness 0 = .ok (.aload_n 0, 1) := dk_42 (dk_at dksX1_lateness_0 0 rfl rfl)
theorem dX1_lateness_1 : decode cX1_lateness 1 = .ok (.iload_n 2, 1) := dk_28 (dk_at dksX1_lateness_0 1 rfl rfl)
theorem dX1_lateness_2 : decode cX1_lateness 2 = .ok (.iload_n 3, 1) := dk_29 (dk_at dksX1_lateness_0 2 rfl rfl)
theorem dX1_lateness_3 : decode cX1_lateness 3 = .ok (.invokevirtual 170, 3) := dk_182 0 170 (dk_at dksX1_lateness_0 3 rfl rfl)
theorem dX1_lateness_6 : decode cX1_lateness 6 = .ok (.astore 4, 2) := dk_58 4 (dk_at dksX1_lateness_0 6 rfl rfl)
theorem dX1_lateness_8 : decode cX1_lateness 8 = .ok (.iload_n 1, 1) := dk_27 (dk_at dksX1_lateness_0 8 rfl rfl)
theorem dX1_lateness_9 : decode cX1_lateness 9 = .ok (.invokestatic 129, 3) := dk_184 0 129 (dk_at dksX1_lateness_0 9 rfl rfl)
theorem dX1_lateness_12 : decode cX1_lateness 12 = .ok (.invokestatic 96, 3) := dk_184 0 96 (dk_at dksX1_lateness_0 12 rfl rfl)
theorem dX1_lateness_15 : decode cX1_lateness 15 = .ok (.aload_n 0, 1) := dk_42 (dk_at dksX1_lateness_0 15 rfl rfl)
theorem dX1_lateness_16 : decode cX1_lateness 16 = .ok (.iload_n 1, 1) := dk_27 (dk_at dksX1_lateness_0 16 rfl rfl)
theorem dX1_lateness_17 : decode cX1_lateness 17 = .ok (.iload_n 2, 1) := dk_28 (dk_at dksX1_lateness_0 17 rfl rfl)
theorem dX1_lateness_18 : decode cX1_lateness 18 = .ok (.iload_n 3, 1) := dk_29 (dk_at dksX1_lateness_0 18 rfl rfl)
theorem dX1_lateness_19 : decode cX1_lateness 19 = .ok (.invokevirtual 266, 3) := dk_182 1 10 (dk_at dksX1_lateness_0 19 rfl rfl)
theorem dX1_lateness_22 : decode cX1_lateness 22 = .ok (.ireturn, 1) := dk_172 (dk_at dksX1_lateness_0 22 rfl rfl)
abbrev cX1_toldLateness : ByteArray := prog_1_method_39_code
def yX1_toldLateness : MethodName := ⟨RX1, "toldLateness", "(III)I"⟩
def dkwX1_toldLateness_1 : List UInt8 := [167, 0, 8, 25, 4, 182, 1, 4, 172]
abbrev dktX1_toldLateness_1 : List UInt8 := dkwX1_toldLateness_1 ++ []
def dkwX1_toldLateness_0 : List UInt8 := [42, 27, 28, 182, 0, 245, 58, 4, 25, 4, 198, 0, 12, 29, 25, 4, 182, 1, 7, 162, 0, 7, 3]
abbrev dktX1_toldLateness_0 : List UInt8 := dkwX1_toldLateness_0 ++ dktX1_toldLateness_1
theorem dksX1_toldLateness_0 : cX1_toldLateness.data.toList.drop 0 = dktX1_toldLateness_0 := by decide +kernel
theorem dksX1_toldLateness_1 : cX1_toldLateness.data.toList.drop 23 = dktX1_toldLateness_1 := dk_seg dksX1_toldLateness_0 23 rfl rfl
theorem dX1_toldLateness_0 : decode cX1_toldLateness 0 = .ok (.aload_n 0, 1) := dk_42 (dk_at dksX1_toldLateness_0 0 rfl rfl)
theorem dX1_toldLateness_1 : decode cX1_toldLateness 1 = .ok (.iload_n 1, 1) := dk_27 (dk_at dksX1_toldLateness_0 1 rfl rfl)
theorem dX1_toldLateness_2 : decode cX1_toldLateness 2 = .ok (.iload_n 2, 1) := dk_28 (dk_at dksX1_toldLateness_0 2 rfl rfl)
theorem dX1_toldLateness_3 : decode cX1_toldLateness 3 = .ok (.invokevirtual 245, 3) := dk_182 0 245 (dk_at dksX1_toldLateness_0 3 rfl rfl)
theorem dX1_toldLateness_6 : decode cX1_toldLateness 6 = .ok (.astore 4, 2) := dk_58 4 (dk_at dksX1_toldLateness_0 6 rfl rfl)
theorem dX1_toldLateness_8 : decode cX1_toldLateness 8 = .ok (.aload 4, 2) := dk_25 4 (dk_at dksX1_toldLateness_0 8 rfl rfl)
theorem dX1_toldLateness_10 : decode cX1_toldLateness 10 = .ok (.ifnull 12, 3) := dk_198 0 12 (dk_at dksX1_toldLateness_0 10 rfl rfl)
theorem dX1_toldLateness_13 : decode cX1_toldLateness 13 = .ok (.iload_n 3, 1) := dk_29 (dk_at dksX1_toldLateness_0 13 rfl rfl)
theorem dX1_toldLateness_14 : decode cX1_toldLateness 14 = .ok (.aload 4, 2) := dk_25 4 (dk_at dksX1_toldLateness_0 14 rfl rfl)
theorem dX1_toldLateness_16 : decode cX1_toldLateness 16 = .ok (.invokevirtual 263, 3) := dk_182 1 7 (dk_at dksX1_toldLateness_0 16 rfl rfl)
theorem dX1_toldLateness_19 : decode cX1_toldLateness 19 = .ok (.if_icmp .ge 7, 3) := dk_162 0 7 (dk_at dksX1_toldLateness_0 19 rfl rfl)
theorem dX1_toldLateness_22 : decode cX1_toldLateness 22 = .ok (.iconst 0, 1) := dk_3 (dk_at dksX1_toldLateness_0 22 rfl rfl)
theorem dX1_toldLateness_23 : decode cX1_toldLateness 23 = .ok (.goto 8, 3) := dk_167 0 8 (dk_at dksX1_toldLateness_1 0 rfl rfl)
theorem dX1_toldLateness_26 : decode cX1_toldLateness 26 = .ok (.aload 4, 2) := dk_25 4 (dk_at dksX1_toldLateness_1 3 rfl rfl)
theorem dX1_toldLateness_28 : decode cX1_toldLateness 28 = .ok (.invokevirtual 260, 3) := dk_182 1 4 (dk_at dksX1_toldLateness_1 5 rfl rfl)
theorem dX1_toldLateness_31 : decode cX1_toldLateness 31 = .ok (.ireturn, 1) := dk_172 (dk_at dksX1_toldLateness_1 8 rfl rfl)
abbrev cX1_earliest : ByteArray := prog_1_method_52_code
def yX1_earliest : MethodName := ⟨RX1, "earliest", "(IIII)I"⟩
def dkwX1_earliest_1 : List UInt8 := [184, 1, 117, 172]
abbrev dktX1_earliest_1 : List UInt8 := dkwX1_earliest_1 ++ []
def dkwX1_earliest_0 : List UInt8 := [42, 27, 28, 29, 21, 4, 182, 1, 109, 42, 27, 29, 21, 4, 182, 1, 113, 180, 1, 116, 28, 46]
abbrev dktX1_earliest_0 : List UInt8 := dkwX1_earliest_0 ++ dktX1_earliest_1
theorem dksX1_earliest_0 : cX1_earliest.data.toList.drop 0 = dktX1_earliest_0 := by decide +kernel
theorem dksX1_earliest_1 : cX1_earliest.data.toList.drop 22 = dktX1_earliest_1 := dk_seg dksX1_earliest_0 22 rfl rfl
theorem dX1_earliest_0 : decode cX1_earliest 0 = .ok (.aload_n 0, 1) := dk_42 (dk_at dksX1_earliest_0 0 rfl rfl)
theorem dX1_earliest_1 : decode cX1_earliest 1 = .ok (.iload_n 1, 1) := dk_27 (dk_at dksX1_earliest_0 1 rfl rfl)
theorem dX1_earliest_2 : decode cX1_earliest 2 = .ok (.iload_n 2, 1) := dk_28 (dk_at dksX1_earliest_0 2 rfl rfl)
theorem dX1_earliest_3 : decode cX1_earliest 3 = .ok (.iload_n 3, 1) := dk_29 (dk_at dksX1_earliest_0 3 rfl rfl)
theorem dX1_earliest_4 : decode cX1_earliest 4 = .ok (.iload 4, 2) := dk_21 4 (dk_at dksX1_earliest_0 4 rfl rfl)
theorem dX1_earliest_6 : decode cX1_earliest 6 = .ok (.invokevirtual 365, 3) := dk_182 1 109 (dk_at dksX1_earliest_0 6 rfl rfl)
theorem dX1_earliest_9 : decode cX1_earliest 9 = .ok (.aload_n 0, 1) := dk_42 (dk_at dksX1_earliest_0 9 rfl rfl)
theorem dX1_earliest_10 : decode cX1_earliest 10 = .ok (.iload_n 1, 1) := dk_27 (dk_at dksX1_earliest_0 10 rfl rfl)
theorem dX1_earliest_11 : decode cX1_earliest 11 = .ok (.iload_n 3, 1) := dk_29 (dk_at dksX1_earliest_0 11 rfl rfl)
theorem dX1_earliest_12 : decode cX1_earliest 12 = .ok (.iload 4, 2) := dk_21 4 (dk_at dksX1_earliest_0 12 rfl rfl)
theorem dX1_earliest_14 : decode cX1_earliest 14 = .ok (.invokevirtual 369, 3) := dk_182 1 113 (dk_at dksX1_earliest_0 14 rfl rfl)
theorem dX1_earliest_17 : decode cX1_earliest 17 = .ok (.getfield 372, 3) := dk_180 1 116 (dk_at dksX1_earliest_0 17 rfl rfl)
theorem dX1_earliest_20 : decode cX1_earliest 20 = .ok (.iload_n 2, 1) := dk_28 (dk_at dksX1_earliest_0 20 rfl rfl)
theorem dX1_earliest_21 : decode cX1_earliest 21 = .ok (.iaload, 1) := dk_46 (dk_at dksX1_earliest_0 21 rfl rfl)
theorem dX1_earliest_22 : decode cX1_earliest 22 = .ok (.invokestatic 373, 3) := dk_184 1 117 (dk_at dksX1_earliest_1 0 rfl rfl)
theorem dX1_earliest_25 : decode cX1_earliest 25 = .ok (.ireturn, 1) := dk_172 (dk_at dksX1_earliest_1 3 rfl rfl)
abbrev cX1_requireAsked : ByteArray := prog_1_method_50_code
def yX1_requireAsked : MethodName := ⟨RX1, "requireAsked", "(IIII)V"⟩
def dkwX1_requireAsked_2 : List UInt8 := [184, 0, 96, 177]
abbrev dktX1_requireAsked_2 : List UInt8 := dkwX1_requireAsked_2 ++ []
def dkwX1_requireAsked_1 : List UInt8 := [29, 184, 0, 129, 153, 0, 19, 21, 4, 3, 17, 5, 159, 184, 0, 64, 153, 0, 7, 4, 167, 0, 4, 3]
abbrev dktX1_requireAsked_1 : List UInt8 := dkwX1_requireAsked_1 ++ dktX1_requireAsked_2
def dkwX1_requireAsked_0 : List UInt8 := [42, 27, 182, 0, 102, 153, 0, 15, 42, 28, 182, 0, 102, 153, 0, 7, 4, 167, 0, 4, 3, 184, 0, 75]
abbrev dktX1_requireAsked_0 : List UInt8 := dkwX1_requireAsked_0 ++ dktX1_requireAsked_1
theorem dksX1_requireAsked_0 : cX1_requireAsked.data.toList.drop 0 = dktX1_requireAsked_0 := by decide +kernel
theorem dksX1_requireAsked_1 : cX1_requireAsked.data.toList.drop 24 = dktX1_requireAsked_1 := dk_seg dksX1_requireAsked_0 24 rfl rfl
theorem dksX1_requireAsked_2 : cX1_requireAsked.data.toList.drop 48 = dktX1_requireAsked_2 := dk_seg dksX1_requireAsked_1 24 rfl rfl
theorem dX1_requireAsked_0 : decode cX1_requireAsked 0 = .ok (.aload_n 0, 1) := dk_42 (dk_at dksX1_requireAsked_0 0 rfl rfl)
theorem dX1_requireAsked_1 : decode cX1_requireAsked 1 = .ok (.iload_n 1, 1) := dk_27 (dk_at dksX1_requireAsked_0 1 rfl rfl)
theorem dX1_requireAsked_2 : decode cX1_requireAsked 2 = .ok (.invokevirtual 102, 3) := dk_182 0 102 (dk_at dksX1_requireAsked_0 2 rfl rfl)
theorem dX1_requireAsked_5 : decode cX1_requireAsked 5 = .ok (.ifCond .eq 15, 3) := dk_153 0 15 (dk_at dksX1_requireAsked_0 5 rfl rfl)
theorem dX1_requireAsked_8 : decode cX1_requireAsked 8 = .ok (.aload_n 0, 1) := dk_42 (dk_at dksX1_requireAsked_0 8 rfl rfl)
theorem dX1_requireAsked_9 : decode cX1_requireAsked 9 = .ok (.iload_n 2, 1) := dk_28 (dk_at dksX1_requireAsked_0 9 rfl rfl)
theorem dX1_requireAsked_10 : decode cX1_requireAsked 10 = .ok (.invokevirtual 102, 3) := dk_182 0 102 (dk_at dksX1_requireAsked_0 10 rfl rfl)
theorem dX1_requireAsked_13 : decode cX1_requireAsked 13 = .ok (.ifCond .eq 7, 3) := dk_153 0 7 (dk_at dksX1_requireAsked_0 13 rfl rfl)
theorem dX1_requireAsked_16 : decode cX1_requireAsked 16 = .ok (.iconst 1, 1) := dk_4 (dk_at dksX1_requireAsked_0 16 rfl rfl)
theorem dX1_requireAsked_17 : decode cX1_requireAsked 17 = .ok (.goto 4, 3) := dk_167 0 4 (dk_at dksX1_requireAsked_0 17 rfl rfl)
theorem dX1_requireAsked_20 : decode cX1_requireAsked 20 = .ok (.iconst 0, 1) := dk_3 (dk_at dksX1_requireAsked_0 20 rfl rfl)
theorem dX1_requireAsked_21 : decode cX1_requireAsked 21 = .ok (.invokestatic 75, 3) := dk_184 0 75 (dk_at dksX1_requireAsked_0 21 rfl rfl)
theorem dX1_requireAsked_24 : decode cX1_requireAsked 24 = .ok (.iload_n 3, 1) := dk_29 (dk_at dksX1_requireAsked_1 0 rfl rfl)
theorem dX1_requireAsked_25 : decode cX1_requireAsked 25 = .ok (.invokestatic 129, 3) := dk_184 0 129 (dk_at dksX1_requireAsked_1 1 rfl rfl)
theorem dX1_requireAsked_28 : decode cX1_requireAsked 28 = .ok (.ifCond .eq 19, 3) := dk_153 0 19 (dk_at dksX1_requireAsked_1 4 rfl rfl)
theorem dX1_requireAsked_31 : decode cX1_requireAsked 31 = .ok (.iload 4, 2) := dk_21 4 (dk_at dksX1_requireAsked_1 7 rfl rfl)
theorem dX1_requireAsked_33 : decode cX1_requireAsked 33 = .ok (.iconst 0, 1) := dk_3 (dk_at dksX1_requireAsked_1 9 rfl rfl)
theorem dX1_requireAsked_34 : decode cX1_requireAsked 34 = .ok (.sipush 1439, 3) := dk_17 5 159 (dk_at dksX1_requireAsked_1 10 rfl rfl)
theorem dX1_requireAsked_37 : decode cX1_requireAsked 37 = .ok (.invokestatic 64, 3) := dk_184 0 64 (dk_at dksX1_requireAsked_1 13 rfl rfl)
theorem dX1_requireAsked_40 : decode cX1_requireAsked 40 = .ok (.ifCond .eq 7, 3) := dk_153 0 7 (dk_at dksX1_requireAsked_1 16 rfl rfl)
theorem dX1_requireAsked_43 : decode cX1_requireAsked 43 = .ok (.iconst 1, 1) := dk_4 (dk_at dksX1_requireAsked_1 19 rfl rfl)
theorem dX1_requireAsked_44 : decode cX1_requireAsked 44 = .ok (.goto 4, 3) := dk_167 0 4 (dk_at dksX1_requireAsked_1 20 rfl rfl)
theorem dX1_requireAsked_47 : decode cX1_requireAsked 47 = .ok (.iconst 0, 1) := dk_3 (dk_at dksX1_requireAsked_1 23 rfl rfl)
theorem dX1_requireAsked_48 : decode cX1_requireAsked 48 = .ok (.invokestatic 96, 3) := dk_184 0 96 (dk_at dksX1_requireAsked_2 0 rfl rfl)
theorem dX1_requireAsked_51 : decode cX1_requireAsked 51 = .ok (.return_, 1) := dk_177 (dk_at dksX1_requireAsked_2 3 rfl rfl)
abbrev cX1_scanned : ByteArray := prog_1_method_49_code
def yX1_scanned : MethodName := ⟨RX1, "scanned", "(III)LLastbus$Labels;"⟩
def dkwX1_scanned_0 : List UInt8 := [42, 42, 28, 182, 1, 98, 184, 1, 101, 27, 29, 2, 42, 2, 182, 0, 113, 182, 1, 105, 176]
abbrev dktX1_scanned_0 : List UInt8 := dkwX1_scanned_0 ++ []
theorem dksX1_scanned_0 : cX1_scanned.data.toList.drop 0 = dktX1_scanned_0 := by decide +kernel
theorem dX1_scanned_0 : decode cX1_scanned 0 = .ok (.aload_n 0, 1) := dk_42 (dk_at dksX1_scanned_0 0 rfl rfl)
theorem dX1_scanned_1 : decode cX1_scanned 1 = .ok (.aload_n 0, 1) := dk_42 (dk_at dksX1_scanned_0 1 rfl rfl)
theorem dX1_scanned_2 : decode cX1_scanned 2 = .ok (.iload_n 2, 1) := dk_28 (dk_at dksX1_scanned_0 2 rfl rfl)
theorem dX1_scanned_3 : decode cX1_scanned 3 = .ok (.invokevirtual 354, 3) := dk_182 1 98 (dk_at dksX1_scanned_0 3 rfl rfl)
theorem dX1_scanned_6 : decode cX1_scanned 6 = .ok (.invokestatic 357, 3) := dk_184 1 101 (dk_at dksX1_scanned_0 6 rfl rfl)
theorem dX1_scanned_9 : decode cX1_scanned 9 = .ok (.iload_n 1, 1) := dk_27 (dk_at dksX1_scanned_0 9 rfl rfl)
theorem dX1_scanned_10 : decode cX1_scanned 10 = .ok (.iload_n 3, 1) := dk_29 (dk_at dksX1_scanned_0 10 rfl rfl)
theorem dX1_scanned_11 : decode cX1_scanned 11 = .ok (.iconst (-1), 1) := dk_2 (dk_at dksX1_scanned_0 11 rfl rfl)
theorem dX1_scanned_12 : decode cX1_scanned 12 = .ok (.aload_n 0, 1) := dk_42 (dk_at dksX1_scanned_0 12 rfl rfl)
theorem dX1_scanned_13 : decode cX1_scanned 13 = .ok (.iconst (-1), 1) := dk_2 (dk_at dksX1_scanned_0 13 rfl rfl)
theorem dX1_scanned_14 : decode cX1_scanned 14 = .ok (.invokevirtual 113, 3) := dk_182 0 113 (dk_at dksX1_scanned_0 14 rfl rfl)
theorem dX1_scanned_17 : decode cX1_scanned 17 = .ok (.invokevirtual 361, 3) := dk_182 1 105 (dk_at dksX1_scanned_0 17 rfl rfl)
theorem dX1_scanned_20 : decode cX1_scanned 20 = .ok (.areturn, 1) := dk_176 (dk_at dksX1_scanned_0 20 rfl rfl)
abbrev cX1_runsAbout : ByteArray := prog_1_method_44_code
def yX1_runsAbout : MethodName := ⟨RX1, "runsAbout", "(I)Ljava/util/ArrayList;"⟩
def dkwX1_runsAbout_0 : List UInt8 := [42, 27, 2, 1, 182, 1, 29, 176]
abbrev dktX1_runsAbout_0 : List UInt8 := dkwX1_runsAbout_0 ++ []
theorem dksX1_runsAbout_0 : cX1_runsAbout.data.toList.drop 0 = dktX1_runsAbout_0 := by decide +kernel
theorem dX1_runsAbout_0 : decode cX1_runsAbout 0 = .ok (.aload_n 0, 1) := dk_42 (dk_at dksX1_runsAbout_0 0 rfl rfl)
theorem dX1_runsAbout_1 : decode cX1_runsAbout 1 = .ok (.iload_n 1, 1) := dk_27 (dk_at dksX1_runsAbout_0 1 rfl rfl)
theorem dX1_runsAbout_2 : decode cX1_runsAbout 2 = .ok (.iconst (-1), 1) := dk_2 (dk_at dksX1_runsAbout_0 2 rfl rfl)
theorem dX1_runsAbout_3 : decode cX1_runsAbout 3 = .ok (.aconst_null, 1) := dk_1 (dk_at dksX1_runsAbout_0 3 rfl rfl)
theorem dX1_runsAbout_4 : decode cX1_runsAbout 4 = .ok (.invokevirtual 285, 3) := dk_182 1 29 (dk_at dksX1_runsAbout_0 4 rfl rfl)
theorem dX1_runsAbout_7 : decode cX1_runsAbout 7 = .ok (.areturn, 1) := dk_176 (dk_at dksX1_runsAbout_0 7 rfl rfl)
abbrev cX1_runsAbout_2 : ByteArray := prog_1_method_43_code
def yX1_runsAbout_2 : MethodName := ⟨RX1, "runsAbout", "(IILLastbus$Trip;)Ljava/util/ArrayList;"⟩
def dkwX1_runsAbout_2_4 : List UInt8 := [182, 0, 121, 87, 132, 6, 1, 167, 255, 174, 132, 5, 1, 167, 255, 159, 25, 4, 176]
abbrev dktX1_runsAbout_2_4 : List UInt8 := dkwX1_runsAbout_2_4 ++ []
def dkwX1_runsAbout_2_3 : List UInt8 := [180, 0, 25, 21, 6, 182, 0, 79, 192, 0, 83, 42, 27, 21, 5, 96, 21, 6, 182, 0, 245, 183, 1, 26]
abbrev dktX1_runsAbout_2_3 : List UInt8 := dkwX1_runsAbout_2_3 ++ dktX1_runsAbout_2_4
def dkwX1_runsAbout_2_2 : List UInt8 := [187, 1, 24, 89, 25, 4, 182, 0, 71, 21, 6, 21, 5, 21, 6, 28, 160, 0, 7, 45, 167, 0, 15, 42]
abbrev dktX1_runsAbout_2_2 : List UInt8 := dkwX1_runsAbout_2_2 ++ dktX1_runsAbout_2_3
def dkwX1_runsAbout_2_1 : List UInt8 := [180, 0, 25, 182, 0, 71, 162, 0, 76, 42, 21, 6, 27, 21, 5, 96, 182, 1, 20, 153, 0, 57, 25, 4]
abbrev dktX1_runsAbout_2_1 : List UInt8 := dkwX1_runsAbout_2_1 ++ dktX1_runsAbout_2_2
def dkwX1_runsAbout_2_0 : List UInt8 := [187, 0, 18, 89, 183, 0, 20, 58, 4, 2, 54, 5, 21, 5, 4, 163, 0, 97, 3, 54, 6, 21, 6, 42]
abbrev dktX1_runsAbout_2_0 : List UInt8 := dkwX1_runsAbout_2_0 ++ dktX1_runsAbout_2_1
theorem dksX1_runsAbout_2_0 : cX1_runsAbout_2.data.toList.drop 0 = dktX1_runsAbout_2_0 := by decide +kernel
theorem dksX1_runsAbout_2_1 : cX1_runsAbout_2.data.toList.drop 24 = dktX1_runsAbout_2_1 := dk_seg dksX1_runsAbout_2_0 24 rfl rfl
theorem dksX1_runsAbout_2_2 : cX1_runsAbout_2.data.toList.drop 48 = dktX1_runsAbout_2_2 := dk_seg dksX1_runsAbout_2_1 24 rfl rfl
theorem dksX1_runsAbout_2_3 : cX1_runsAbout_2.data.toList.drop 72 = dktX1_runsAbout_2_3 := dk_seg dksX1_runsAbout_2_2 24 rfl rfl
theorem dksX1_runsAbout_2_4 : cX1_runsAbout_2.data.toList.drop 96 = dktX1_runsAbout_2_4 := dk_seg dksX1_runsAbout_2_3 24 rfl rfl
theorem dX1_runsAbout_2_0 : decode cX1_runsAbout_2 0 = .ok (.new 18, 3) := dk_187 0 18 (dk_at dksX1_runsAbout_2_0 0 rfl rfl)
theorem dX1_runsAbout_2_3 : decode cX1_runsAbout_2 3 = .ok (.dup, 1) := dk_89 (dk_at dksX1_runsAbout_2_0 3 rfl rfl)
theorem dX1_runsAbout_2_4 : decode cX1_runsAbout_2 4 = .ok (.invokespecial 20, 3) := dk_183 0 20 (dk_at dksX1_runsAbout_2_0 4 rfl rfl)
theorem dX1_runsAbout_2_7 : decode cX1_runsAbout_2 7 = .ok (.astore 4, 2) := dk_58 4 (dk_at dksX1_runsAbout_2_0 7 rfl rfl)
theorem dX1_runsAbout_2_9 : decode cX1_runsAbout_2 9 = .ok (.iconst (-1), 1) := dk_2 (dk_at dksX1_runsAbout_2_0 9 rfl rfl)
theorem dX1_runsAbout_2_10 : decode cX1_runsAbout_2 10 = .ok (.istore 5, 2) := dk_54 5 (dk_at dksX1_runsAbout_2_0 10 rfl rfl)
theorem dX1_runsAbout_2_12 : decode cX1_runsAbout_2 12 = .ok (.iload 5, 2) := dk_21 5 (dk_at dksX1_runsAbout_2_0 12 rfl rfl)
theorem dX1_runsAbout_2_14 : decode cX1_runsAbout_2 14 = .ok (.iconst 1, 1) := dk_4 (dk_at dksX1_runsAbout_2_0 14 rfl rfl)
theorem dX1_runsAbout_2_15 : decode cX1_runsAbout_2 15 = .ok (.if_icmp .gt 97, 3) := dk_163 0 97 (dk_at dksX1_runsAbout_2_0 15 rfl rfl)
theorem dX1_runsAbout_2_18 : decode cX1_runsAbout_2 18 = .ok (.iconst 0, 1) := dk_3 (dk_at dksX1_runsAbout_2_0 18 rfl rfl)
theorem dX1_runsAbout_2_19 : decode cX1_runsAbout_2 19 = .ok (.istore 6, 2) := dk_54 6 (dk_at dksX1_runsAbout_2_0 19 rfl rfl)
theorem dX1_runsAbout_2_21 : decode cX1_runsAbout_2 21 = .ok (.iload 6, 2) := dk_21 6 (dk_at dksX1_runsAbout_2_0 21 rfl rfl)
theorem dX1_runsAbout_2_23 : decode cX1_runsAbout_2 23 = .ok (.aload_n 0, 1) := dk_42 (dk_at dksX1_runsAbout_2_0 23 rfl rfl)
theorem dX1_runsAbout_2_24 : decode cX1_runsAbout_2 24 = .ok (.getfield 25, 3) := dk_180 0 25 (dk_at dksX1_runsAbout_2_1 0 rfl rfl)
theorem dX1_runsAbout_2_27 : decode cX1_runsAbout_2 27 = .ok (.invokevirtual 71, 3) := dk_182 0 71 (dk_at dksX1_runsAbout_2_1 3 rfl rfl)
theorem dX1_runsAbout_2_30 : decode cX1_runsAbout_2 30 = .ok (.if_icmp .ge 76, 3) := dk_162 0 76 (dk_at dksX1_runsAbout_2_1 6 rfl rfl)
theorem dX1_runsAbout_2_33 : decode cX1_runsAbout_2 33 = .ok (.aload_n 0, 1) := dk_42 (dk_at dksX1_runsAbout_2_1 9 rfl rfl)
theorem dX1_runsAbout_2_34 : decode cX1_runsAbout_2 34 = .ok (.iload 6, 2) := dk_21 6 (dk_at dksX1_runsAbout_2_1 10 rfl rfl)
theorem dX1_runsAbout_2_36 : decode cX1_runsAbout_2 36 = .ok (.iload_n 1, 1) := dk_27 (dk_at dksX1_runsAbout_2_1 12 rfl rfl)
theorem dX1_runsAbout_2_37 : decode cX1_runsAbout_2 37 = .ok (.iload 5, 2) := dk_21 5 (dk_at dksX1_runsAbout_2_1 13 rfl rfl)
theorem dX1_runsAbout_2_39 : decode cX1_runsAbout_2 39 = .ok (.iadd, 1) := dk_96 (dk_at dksX1_runsAbout_2_1 15 rfl rfl)
theorem dX1_runsAbout_2_40 : decode cX1_runsAbout_2 40 = .ok (.invokevirtual 276, 3) := dk_182 1 20 (dk_at dksX1_runsAbout_2_1 16 rfl rfl)
theorem dX1_runsAbout_2_43 : decode cX1_runsAbout_2 43 = .ok (.ifCond .eq 57, 3) := dk_153 0 57 (dk_at dksX1_runsAbout_2_1 19 rfl rfl)
theorem dX1_runsAbout_2_46 : decode cX1_runsAbout_2 46 = .ok (.aload 4, 2) := dk_25 4 (dk_at dksX1_runsAbout_2_1 22 rfl rfl)
theorem dX1_runsAbout_2_48 : decode cX1_runsAbout_2 48 = .ok (.new 280, 3) := dk_187 1 24 (dk_at dksX1_runsAbout_2_2 0 rfl rfl)
theorem dX1_runsAbout_2_51 : decode cX1_runsAbout_2 51 = .ok (.dup, 1) := dk_89 (dk_at dksX1_runsAbout_2_2 3 rfl rfl)
theorem dX1_runsAbout_2_52 : decode cX1_runsAbout_2 52 = .ok (.aload 4, 2) := dk_25 4 (dk_at dksX1_runsAbout_2_2 4 rfl rfl)
theorem dX1_runsAbout_2_54 : decode cX1_runsAbout_2 54 = .ok (.invokevirtual 71, 3) := dk_182 0 71 (dk_at dksX1_runsAbout_2_2 6 rfl rfl)
theorem dX1_runsAbout_2_57 : decode cX1_runsAbout_2 57 = .ok (.iload 6, 2) := dk_21 6 (dk_at dksX1_runsAbout_2_2 9 rfl rfl)
theorem dX1_runsAbout_2_59 : decode cX1_runsAbout_2 59 = .ok (.iload 5, 2) := dk_21 5 (dk_at dksX1_runsAbout_2_2 11 rfl rfl)
theorem dX1_runsAbout_2_61 : decode cX1_runsAbout_2 61 = .ok (.iload 6, 2) := dk_21 6 (dk_at dksX1_runsAbout_2_2 13 rfl rfl)
theorem dX1_runsAbout_2_63 : decode cX1_runsAbout_2 63 = .ok (.iload_n 2, 1) := dk_28 (dk_at dksX1_runsAbout_2_2 15 rfl rfl)
theorem dX1_runsAbout_2_64 : decode cX1_runsAbout_2 64 = .ok (.if_icmp .ne 7, 3) := dk_160 0 7 (dk_at dksX1_runsAbout_2_2 16 rfl rfl)
theorem dX1_runsAbout_2_67 : decode cX1_runsAbout_2 67 = .ok (.aload_n 3, 1) := dk_45 (dk_at dksX1_runsAbout_2_2 19 rfl rfl)
theorem dX1_runsAbout_2_68 : decode cX1_runsAbout_2 68 = .ok (.goto 15, 3) := dk_167 0 15 (dk_at dksX1_runsAbout_2_2 20 rfl rfl)
theorem dX1_runsAbout_2_71 : decode cX1_runsAbout_2 71 = .ok (.aload_n 0, 1) := dk_42 (dk_at dksX1_runsAbout_2_2 23 rfl rfl)
theorem dX1_runsAbout_2_72 : decode cX1_runsAbout_2 72 = .ok (.getfield 25, 3) := dk_180 0 25 (dk_at dksX1_runsAbout_2_3 0 rfl rfl)
theorem dX1_runsAbout_2_75 : decode cX1_runsAbout_2 75 = .ok (.iload 6, 2) := dk_21 6 (dk_at dksX1_runsAbout_2_3 3 rfl rfl)
theorem dX1_runsAbout_2_77 : decode cX1_runsAbout_2 77 = .ok (.invokevirtual 79, 3) := dk_182 0 79 (dk_at dksX1_runsAbout_2_3 5 rfl rfl)
theorem dX1_runsAbout_2_80 : decode cX1_runsAbout_2 80 = .ok (.checkcast 83, 3) := dk_192 0 83 (dk_at dksX1_runsAbout_2_3 8 rfl rfl)
theorem dX1_runsAbout_2_83 : decode cX1_runsAbout_2 83 = .ok (.aload_n 0, 1) := dk_42 (dk_at dksX1_runsAbout_2_3 11 rfl rfl)
theorem dX1_runsAbout_2_84 : decode cX1_runsAbout_2 84 = .ok (.iload_n 1, 1) := dk_27 (dk_at dksX1_runsAbout_2_3 12 rfl rfl)
theorem dX1_runsAbout_2_85 : decode cX1_runsAbout_2 85 = .ok (.iload 5, 2) := dk_21 5 (dk_at dksX1_runsAbout_2_3 13 rfl rfl)
theorem dX1_runsAbout_2_87 : decode cX1_runsAbout_2 87 = .ok (.iadd, 1) := dk_96 (dk_at dksX1_runsAbout_2_3 15 rfl rfl)
theorem dX1_runsAbout_2_88 : decode cX1_runsAbout_2 88 = .ok (.iload 6, 2) := dk_21 6 (dk_at dksX1_runsAbout_2_3 16 rfl rfl)
theorem dX1_runsAbout_2_90 : decode cX1_runsAbout_2 90 = .ok (.invokevirtual 245, 3) := dk_182 0 245 (dk_at dksX1_runsAbout_2_3 18 rfl rfl)
theorem dX1_runsAbout_2_93 : decode cX1_runsAbout_2 93 = .ok (.invokespecial 282, 3) := dk_183 1 26 (dk_at dksX1_runsAbout_2_3 21 rfl rfl)
theorem dX1_runsAbout_2_96 : decode cX1_runsAbout_2 96 = .ok (.invokevirtual 121, 3) := dk_182 0 121 (dk_at dksX1_runsAbout_2_4 0 rfl rfl)
theorem dX1_runsAbout_2_99 : decode cX1_runsAbout_2 99 = .ok (.pop, 1) := dk_87 (dk_at dksX1_runsAbout_2_4 3 rfl rfl)
theorem dX1_runsAbout_2_100 : decode cX1_runsAbout_2 100 = .ok (.iinc 6 1, 3) := dk_132 6 1 (dk_at dksX1_runsAbout_2_4 4 rfl rfl)
theorem dX1_runsAbout_2_103 : decode cX1_runsAbout_2 103 = .ok (.goto (-82), 3) := dk_167 255 174 (dk_at dksX1_runsAbout_2_4 7 rfl rfl)
theorem dX1_runsAbout_2_106 : decode cX1_runsAbout_2 106 = .ok (.iinc 5 1, 3) := dk_132 5 1 (dk_at dksX1_runsAbout_2_4 10 rfl rfl)
theorem dX1_runsAbout_2_109 : decode cX1_runsAbout_2 109 = .ok (.goto (-97), 3) := dk_167 255 159 (dk_at dksX1_runsAbout_2_4 13 rfl rfl)
theorem dX1_runsAbout_2_112 : decode cX1_runsAbout_2 112 = .ok (.aload 4, 2) := dk_25 4 (dk_at dksX1_runsAbout_2_4 16 rfl rfl)
theorem dX1_runsAbout_2_114 : decode cX1_runsAbout_2 114 = .ok (.areturn, 1) := dk_176 (dk_at dksX1_runsAbout_2_4 18 rfl rfl)
abbrev cX1_runs : ByteArray := prog_1_method_42_code
def yX1_runs : MethodName := ⟨RX1, "runs", "(II)Z"⟩
def dkwX1_runs_1 : List UInt8 := [180, 1, 17, 182, 0, 79, 192, 0, 94, 28, 182, 0, 139, 153, 0, 7, 4, 167, 0, 4, 3, 172]
abbrev dktX1_runs_1 : List UInt8 := dkwX1_runs_1 ++ []
def dkwX1_runs_0 : List UInt8 := [28, 184, 0, 129, 153, 0, 38, 42, 180, 0, 21, 42, 180, 0, 25, 27, 182, 0, 79, 192, 0, 83]
abbrev dktX1_runs_0 : List UInt8 := dkwX1_runs_0 ++ dktX1_runs_1
theorem dksX1_runs_0 : cX1_runs.data.toList.drop 0 = dktX1_runs_0 := by decide +kernel
theorem dksX1_runs_1 : cX1_runs.data.toList.drop 22 = dktX1_runs_1 := dk_seg dksX1_runs_0 22 rfl rfl
theorem dX1_runs_0 : decode cX1_runs 0 = .ok (.iload_n 2, 1) := dk_28 (dk_at dksX1_runs_0 0 rfl rfl)
theorem dX1_runs_1 : decode cX1_runs 1 = .ok (.invokestatic 129, 3) := dk_184 0 129 (dk_at dksX1_runs_0 1 rfl rfl)
theorem dX1_runs_4 : decode cX1_runs 4 = .ok (.ifCond .eq 38, 3) := dk_153 0 38 (dk_at dksX1_runs_0 4 rfl rfl)
theorem dX1_runs_7 : decode cX1_runs 7 = .ok (.aload_n 0, 1) := dk_42 (dk_at dksX1_runs_0 7 rfl rfl)
theorem dX1_runs_8 : decode cX1_runs 8 = .ok (.getfield 21, 3) := dk_180 0 21 (dk_at dksX1_runs_0 8 rfl rfl)
theorem dX1_runs_11 : decode cX1_runs 11 = .ok (.aload_n 0, 1) := dk_42 (dk_at dksX1_runs_0 11 rfl rfl)
theorem dX1_runs_12 : decode cX1_runs 12 = .ok (.getfield 25, 3) := dk_180 0 25 (dk_at dksX1_runs_0 12 rfl rfl)
theorem dX1_runs_15 : decode cX1_runs 15 = .ok (.iload_n 1, 1) := dk_27 (dk_at dksX1_runs_0 15 rfl rfl)
theorem dX1_runs_16 : decode cX1_runs 16 = .ok (.invokevirtual 79, 3) := dk_182 0 79 (dk_at dksX1_runs_0 16 rfl rfl)
theorem dX1_runs_19 : decode cX1_runs 19 = .ok (.checkcast 83, 3) := dk_192 0 83 (dk_at dksX1_runs_0 19 rfl rfl)
theorem dX1_runs_22 : decode cX1_runs 22 = .ok (.getfield 273, 3) := dk_180 1 17 (dk_at dksX1_runs_1 0 rfl rfl)
theorem dX1_runs_25 : decode cX1_runs 25 = .ok (.invokevirtual 79, 3) := dk_182 0 79 (dk_at dksX1_runs_1 3 rfl rfl)
theorem dX1_runs_28 : decode cX1_runs 28 = .ok (.checkcast 94, 3) := dk_192 0 94 (dk_at dksX1_runs_1 6 rfl rfl)
theorem dX1_runs_31 : decode cX1_runs 31 = .ok (.iload_n 2, 1) := dk_28 (dk_at dksX1_runs_1 9 rfl rfl)
theorem dX1_runs_32 : decode cX1_runs 32 = .ok (.invokevirtual 139, 3) := dk_182 0 139 (dk_at dksX1_runs_1 10 rfl rfl)
theorem dX1_runs_35 : decode cX1_runs 35 = .ok (.ifCond .eq 7, 3) := dk_153 0 7 (dk_at dksX1_runs_1 13 rfl rfl)
theorem dX1_runs_38 : decode cX1_runs 38 = .ok (.iconst 1, 1) := dk_4 (dk_at dksX1_runs_1 16 rfl rfl)
theorem dX1_runs_39 : decode cX1_runs 39 = .ok (.goto 4, 3) := dk_167 0 4 (dk_at dksX1_runs_1 17 rfl rfl)
theorem dX1_runs_42 : decode cX1_runs 42 = .ok (.iconst 0, 1) := dk_3 (dk_at dksX1_runs_1 20 rfl rfl)
theorem dX1_runs_43 : decode cX1_runs 43 = .ok (.ireturn, 1) := dk_172 (dk_at dksX1_runs_1 21 rfl rfl)
abbrev cX1_byDepartures : ByteArray := prog_1_method_45_code
def yX1_byDepartures : MethodName := ⟨RX1, "byDepartures", "(Ljava/util/List;)Ljava/util/ArrayList;"⟩
def dkwX1_byDepartures_3 : List UInt8 := [183, 1, 58, 182, 0, 121, 87, 132, 4, 1, 167, 255, 211, 167, 255, 186, 43, 184, 1, 61, 43, 176]
abbrev dktX1_byDepartures_3 : List UInt8 := dkwX1_byDepartures_3 ++ []
def dkwX1_byDepartures_2 : List UInt8 := [45, 21, 4, 182, 1, 50, 153, 0, 25, 43, 187, 1, 53, 89, 45, 21, 4, 45, 180, 1, 55, 21, 4, 46]
abbrev dktX1_byDepartures_2 : List UInt8 := dkwX1_byDepartures_2 ++ dktX1_byDepartures_3
def dkwX1_byDepartures_1 : List UInt8 := [44, 185, 1, 44, 1, 0, 192, 1, 24, 78, 3, 54, 4, 21, 4, 45, 182, 1, 47, 4, 100, 162, 0, 40]
abbrev dktX1_byDepartures_1 : List UInt8 := dkwX1_byDepartures_1 ++ dktX1_byDepartures_2
def dkwX1_byDepartures_0 : List UInt8 := [187, 0, 18, 89, 183, 0, 20, 76, 42, 185, 1, 33, 1, 0, 77, 44, 185, 1, 39, 1, 0, 153, 0, 67]
abbrev dktX1_byDepartures_0 : List UInt8 := dkwX1_byDepartures_0 ++ dktX1_byDepartures_1
theorem dksX1_byDepartures_0 : cX1_byDepartures.data.toList.drop 0 = dktX1_byDepartures_0 := by decide +kernel
theorem dksX1_byDepartures_1 : cX1_byDepartures.data.toList.drop 24 = dktX1_byDepartures_1 := dk_seg dksX1_byDepartures_0 24 rfl rfl
theorem dksX1_byDepartures_2 : cX1_byDepartures.data.toList.drop 48 = dktX1_byDepartures_2 := dk_seg dksX1_byDepartures_1 24 rfl rfl
theorem dksX1_byDepartures_3 : cX1_byDepartures.data.toList.drop 72 = dktX1_byDepartures_3 := dk_seg dksX1_byDepartures_2 24 rfl rfl
theorem dX1_byDepartures_0 : decode cX1_byDepartures 0 = .ok (.new 18, 3) := dk_187 0 18 (dk_at dksX1_byDepartures_0 0 rfl rfl)
theorem dX1_byDepartures_3 : decode cX1_byDepartures 3 = .ok (.dup, 1) := dk_89 (dk_at dksX1_byDepartures_0 3 rfl rfl)
theorem dX1_byDepartures_4 : decode cX1_byDepartures 4 = .ok (.invokespecial 20, 3) := dk_183 0 20 (dk_at dksX1_byDepartures_0 4 rfl rfl)
theorem dX1_byDepartures_7 : decode cX1_byDepartures 7 = .ok (.astore_n 1, 1) := dk_76 (dk_at dksX1_byDepartures_0 7 rfl rfl)
theorem dX1_byDepartures_8 : decode cX1_byDepartures 8 = .ok (.aload_n 0, 1) := dk_42 (dk_at dksX1_byDepartures_0 8 rfl rfl)
theorem dX1_byDepartures_9 : decode cX1_byDepartures 9 = .ok (.invokeinterface 289 1, 5) := by decide +kernel
theorem dX1_byDepartures_14 : decode cX1_byDepartures 14 = .ok (.astore_n 2, 1) := dk_77 (dk_at dksX1_byDepartures_0 14 rfl rfl)
theorem dX1_byDepartures_15 : decode cX1_byDepartures 15 = .ok (.aload_n 2, 1) := dk_44 (dk_at dksX1_byDepartures_0 15 rfl rfl)
theorem dX1_byDepartures_16 : decode cX1_byDepartures 16 = .ok (.invokeinterface 295 1, 5) := by decide +kernel
theorem dX1_byDepartures_21 : decode cX1_byDepartures 21 = .ok (.ifCond .eq 67, 3) := dk_153 0 67 (dk_at dksX1_byDepartures_0 21 rfl rfl)
theorem dX1_byDepartures_24 : decode cX1_byDepartures 24 = .ok (.aload_n 2, 1) := dk_44 (dk_at dksX1_byDepartures_1 0 rfl rfl)
theorem dX1_byDepartures_25 : decode cX1_byDepartures 25 = .ok (.invokeinterface 300 1, 5) := by decide +kernel
theorem dX1_byDepartures_30 : decode cX1_byDepartures 30 = .ok (.checkcast 280, 3) := dk_192 1 24 (dk_at dksX1_byDepartures_1 6 rfl rfl)
theorem dX1_byDepartures_33 : decode cX1_byDepartures 33 = .ok (.astore_n 3, 1) := dk_78 (dk_at dksX1_byDepartures_1 9 rfl rfl)
theorem dX1_byDepartures_34 : decode cX1_byDepartures 34 = .ok (.iconst 0, 1) := dk_3 (dk_at dksX1_byDepartures_1 10 rfl rfl)
theorem dX1_byDepartures_35 : decode cX1_byDepartures 35 = .ok (.istore 4, 2) := dk_54 4 (dk_at dksX1_byDepartures_1 11 rfl rfl)
theorem dX1_byDepartures_37 : decode cX1_byDepartures 37 = .ok (.iload 4, 2) := dk_21 4 (dk_at dksX1_byDepartures_1 13 rfl rfl)
theorem dX1_byDepartures_39 : decode cX1_byDepartures 39 = .ok (.aload_n 3, 1) := dk_45 (dk_at dksX1_byDepartures_1 15 rfl rfl)
theorem dX1_byDepartures_40 : decode cX1_byDepartures 40 = .ok (.invokevirtual 303, 3) := dk_182 1 47 (dk_at dksX1_byDepartures_1 16 rfl rfl)
theorem dX1_byDepartures_43 : decode cX1_byDepartures 43 = .ok (.iconst 1, 1) := dk_4 (dk_at dksX1_byDepartures_1 19 rfl rfl)
theorem dX1_byDepartures_44 : decode cX1_byDepartures 44 = .ok (.isub, 1) := dk_100 (dk_at dksX1_byDepartures_1 20 rfl rfl)
theorem dX1_byDepartures_45 : decode cX1_byDepartures 45 = .ok (.if_icmp .ge 40, 3) := dk_162 0 40 (dk_at dksX1_byDepartures_1 21 rfl rfl)
theorem dX1_byDepartures_48 : decode cX1_byDepartures 48 = .ok (.aload_n 3, 1) := dk_45 (dk_at dksX1_byDepartures_2 0 rfl rfl)
theorem dX1_byDepartures_49 : decode cX1_byDepartures 49 = .ok (.iload 4, 2) := dk_21 4 (dk_at dksX1_byDepartures_2 1 rfl rfl)
theorem dX1_byDepartures_51 : decode cX1_byDepartures 51 = .ok (.invokevirtual 306, 3) := dk_182 1 50 (dk_at dksX1_byDepartures_2 3 rfl rfl)
theorem dX1_byDepartures_54 : decode cX1_byDepartures 54 = .ok (.ifCond .eq 25, 3) := dk_153 0 25 (dk_at dksX1_byDepartures_2 6 rfl rfl)
theorem dX1_byDepartures_57 : decode cX1_byDepartures 57 = .ok (.aload_n 1, 1) := dk_43 (dk_at dksX1_byDepartures_2 9 rfl rfl)
theorem dX1_byDepartures_58 : decode cX1_byDepartures 58 = .ok (.new 309, 3) := dk_187 1 53 (dk_at dksX1_byDepartures_2 10 rfl rfl)
theorem dX1_byDepartures_61 : decode cX1_byDepartures 61 = .ok (.dup, 1) := dk_89 (dk_at dksX1_byDepartures_2 13 rfl rfl)
theorem dX1_byDepartures_62 : decode cX1_byDepartures 62 = .ok (.aload_n 3, 1) := dk_45 (dk_at dksX1_byDepartures_2 14 rfl rfl)
theorem dX1_byDepartures_63 : decode cX1_byDepartures 63 = .ok (.iload 4, 2) := dk_21 4 (dk_at dksX1_byDepartures_2 15 rfl rfl)
theorem dX1_byDepartures_65 : decode cX1_byDepartures 65 = .ok (.aload_n 3, 1) := dk_45 (dk_at dksX1_byDepartures_2 17 rfl rfl)
theorem dX1_byDepartures_66 : decode cX1_byDepartures 66 = .ok (.getfield 311, 3) := dk_180 1 55 (dk_at dksX1_byDepartures_2 18 rfl rfl)
theorem dX1_byDepartures_69 : decode cX1_byDepartures 69 = .ok (.iload 4, 2) := dk_21 4 (dk_at dksX1_byDepartures_2 21 rfl rfl)
theorem dX1_byDepartures_71 : decode cX1_byDepartures 71 = .ok (.iaload, 1) := dk_46 (dk_at dksX1_byDepartures_2 23 rfl rfl)
theorem dX1_byDepartures_72 : decode cX1_byDepartures 72 = .ok (.invokespecial 314, 3) := dk_183 1 58 (dk_at dksX1_byDepartures_3 0 rfl rfl)
theorem dX1_byDepartures_75 : decode cX1_byDepartures 75 = .ok (.invokevirtual 121, 3) := dk_182 0 121 (dk_at dksX1_byDepartures_3 3 rfl rfl)
theorem dX1_byDepartures_78 : decode cX1_byDepartures 78 = .ok (.pop, 1) := dk_87 (dk_at dksX1_byDepartures_3 6 rfl rfl)
theorem dX1_byDepartures_79 : decode cX1_byDepartures 79 = .ok (.iinc 4 1, 3) := dk_132 4 1 (dk_at dksX1_byDepartures_3 7 rfl rfl)
theorem dX1_byDepartures_82 : decode cX1_byDepartures 82 = .ok (.goto (-45), 3) := dk_167 255 211 (dk_at dksX1_byDepartures_3 10 rfl rfl)
theorem dX1_byDepartures_85 : decode cX1_byDepartures 85 = .ok (.goto (-70), 3) := dk_167 255 186 (dk_at dksX1_byDepartures_3 13 rfl rfl)
theorem dX1_byDepartures_88 : decode cX1_byDepartures 88 = .ok (.aload_n 1, 1) := dk_43 (dk_at dksX1_byDepartures_3 16 rfl rfl)
theorem dX1_byDepartures_89 : decode cX1_byDepartures 89 = .ok (.invokestatic 317, 3) := dk_184 1 61 (dk_at dksX1_byDepartures_3 17 rfl rfl)
theorem dX1_byDepartures_92 : decode cX1_byDepartures 92 = .ok (.aload_n 1, 1) := dk_43 (dk_at dksX1_byDepartures_3 20 rfl rfl)
theorem dX1_byDepartures_93 : decode cX1_byDepartures 93 = .ok (.areturn, 1) := dk_176 (dk_at dksX1_byDepartures_3 21 rfl rfl)
abbrev cX1_scanned_2 : ByteArray := prog_1_method_48_code
def yX1_scanned_2 : MethodName := ⟨RX1, "scanned", "(Ljava/util/List;III[[I)LLastbus$Labels;"⟩
def dkwX1_scanned_2_1 : List UInt8 := [43, 1, 3, 182, 1, 94, 25, 6, 176]
abbrev dktX1_scanned_2_1 : List UInt8 := dkwX1_scanned_2_1 ++ []
def dkwX1_scanned_2_0 : List UInt8 := [187, 1, 80, 89, 42, 21, 4, 25, 5, 183, 1, 88, 58, 6, 25, 6, 28, 29, 182, 1, 91, 42, 25, 6]
abbrev dktX1_scanned_2_0 : List UInt8 := dkwX1_scanned_2_0 ++ dktX1_scanned_2_1
theorem dksX1_scanned_2_0 : cX1_scanned_2.data.toList.drop 0 = dktX1_scanned_2_0 := by decide +kernel
theorem dksX1_scanned_2_1 : cX1_scanned_2.data.toList.drop 24 = dktX1_scanned_2_1 := dk_seg dksX1_scanned_2_0 24 rfl rfl
theorem dX1_scanned_2_0 : decode cX1_scanned_2 0 = .ok (.new 336, 3) := dk_187 1 80 (dk_at dksX1_scanned_2_0 0 rfl rfl)
theorem dX1_scanned_2_3 : decode cX1_scanned_2 3 = .ok (.dup, 1) := dk_89 (dk_at dksX1_scanned_2_0 3 rfl rfl)
theorem dX1_scanned_2_4 : decode cX1_scanned_2 4 = .ok (.aload_n 0, 1) := dk_42 (dk_at dksX1_scanned_2_0 4 rfl rfl)
theorem dX1_scanned_2_5 : decode cX1_scanned_2 5 = .ok (.iload 4, 2) := dk_21 4 (dk_at dksX1_scanned_2_0 5 rfl rfl)
theorem dX1_scanned_2_7 : decode cX1_scanned_2 7 = .ok (.aload 5, 2) := dk_25 5 (dk_at dksX1_scanned_2_0 7 rfl rfl)
theorem dX1_scanned_2_9 : decode cX1_scanned_2 9 = .ok (.invokespecial 344, 3) := dk_183 1 88 (dk_at dksX1_scanned_2_0 9 rfl rfl)
theorem dX1_scanned_2_12 : decode cX1_scanned_2 12 = .ok (.astore 6, 2) := dk_58 6 (dk_at dksX1_scanned_2_0 12 rfl rfl)
theorem dX1_scanned_2_14 : decode cX1_scanned_2 14 = .ok (.aload 6, 2) := dk_25 6 (dk_at dksX1_scanned_2_0 14 rfl rfl)
theorem dX1_scanned_2_16 : decode cX1_scanned_2 16 = .ok (.iload_n 2, 1) := dk_28 (dk_at dksX1_scanned_2_0 16 rfl rfl)
theorem dX1_scanned_2_17 : decode cX1_scanned_2 17 = .ok (.iload_n 3, 1) := dk_29 (dk_at dksX1_scanned_2_0 17 rfl rfl)
theorem dX1_scanned_2_18 : decode cX1_scanned_2 18 = .ok (.invokevirtual 347, 3) := dk_182 1 91 (dk_at dksX1_scanned_2_0 18 rfl rfl)
theorem dX1_scanned_2_21 : decode cX1_scanned_2 21 = .ok (.aload_n 0, 1) := dk_42 (dk_at dksX1_scanned_2_0 21 rfl rfl)
theorem dX1_scanned_2_22 : decode cX1_scanned_2 22 = .ok (.aload 6, 2) := dk_25 6 (dk_at dksX1_scanned_2_0 22 rfl rfl)
theorem dX1_scanned_2_24 : decode cX1_scanned_2 24 = .ok (.aload_n 1, 1) := dk_43 (dk_at dksX1_scanned_2_1 0 rfl rfl)
theorem dX1_scanned_2_25 : decode cX1_scanned_2 25 = .ok (.aconst_null, 1) := dk_1 (dk_at dksX1_scanned_2_1 1 rfl rfl)
theorem dX1_scanned_2_26 : decode cX1_scanned_2 26 = .ok (.iconst 0, 1) := dk_3 (dk_at dksX1_scanned_2_1 2 rfl rfl)
theorem dX1_scanned_2_27 : decode cX1_scanned_2 27 = .ok (.invokevirtual 350, 3) := dk_182 1 94 (dk_at dksX1_scanned_2_1 3 rfl rfl)
theorem dX1_scanned_2_30 : decode cX1_scanned_2 30 = .ok (.aload 6, 2) := dk_25 6 (dk_at dksX1_scanned_2_1 6 rfl rfl)
theorem dX1_scanned_2_32 : decode cX1_scanned_2 32 = .ok (.areturn, 1) := dk_176 (dk_at dksX1_scanned_2_1 8 rfl rfl)
abbrev cX1_scan : ByteArray := prog_1_method_47_code
def yX1_scan : MethodName := ⟨RX1, "scan", "(LLastbus$Labels;Ljava/util/List;LLastbus$Run;I)V"⟩
def dkwX1_scan_6 : List UInt8 := [167, 255, 131, 177]
abbrev dktX1_scan_6 : List UInt8 := dkwX1_scan_6 ++ []
def dkwX1_scan_5 : List UInt8 := [180, 1, 74, 182, 0, 132, 43, 25, 7, 180, 1, 70, 25, 7, 180, 1, 77, 4, 96, 182, 1, 84]
abbrev dktX1_scan_5 : List UInt8 := dkwX1_scan_5 ++ dktX1_scan_6
def dkwX1_scan_4 : List UInt8 := [43, 25, 7, 180, 1, 70, 25, 7, 180, 1, 77, 182, 1, 79, 153, 0, 32, 25, 5, 25, 7, 180, 1, 70]
abbrev dktX1_scan_4 : List UInt8 := dkwX1_scan_4 ++ dktX1_scan_5
def dkwX1_scan_3 : List UInt8 := [3, 54, 8, 25, 5, 25, 7, 180, 1, 70, 180, 1, 74, 182, 0, 139, 154, 0, 25, 21, 8, 154, 0, 20]
abbrev dktX1_scan_3 : List UInt8 := dkwX1_scan_3 ++ dktX1_scan_4
def dkwX1_scan_2 : List UInt8 := [180, 1, 74, 45, 180, 1, 74, 160, 0, 17, 25, 7, 180, 1, 77, 21, 4, 160, 0, 7, 4, 167, 0, 4]
abbrev dktX1_scan_2 : List UInt8 := dkwX1_scan_2 ++ dktX1_scan_3
def dkwX1_scan_1 : List UInt8 := [153, 0, 121, 25, 6, 185, 1, 44, 1, 0, 192, 1, 53, 58, 7, 45, 198, 0, 32, 25, 7, 180, 1, 70]
abbrev dktX1_scan_1 : List UInt8 := dkwX1_scan_1 ++ dktX1_scan_2
def dkwX1_scan_0 : List UInt8 := [187, 0, 94, 89, 183, 0, 120, 58, 5, 44, 185, 1, 33, 1, 0, 58, 6, 25, 6, 185, 1, 39, 1, 0]
abbrev dktX1_scan_0 : List UInt8 := dkwX1_scan_0 ++ dktX1_scan_1
theorem dksX1_scan_0 : cX1_scan.data.toList.drop 0 = dktX1_scan_0 := by decide +kernel
theorem dksX1_scan_1 : cX1_scan.data.toList.drop 24 = dktX1_scan_1 := dk_seg dksX1_scan_0 24 rfl rfl
theorem dksX1_scan_2 : cX1_scan.data.toList.drop 48 = dktX1_scan_2 := dk_seg dksX1_scan_1 24 rfl rfl
theorem dksX1_scan_3 : cX1_scan.data.toList.drop 72 = dktX1_scan_3 := dk_seg dksX1_scan_2 24 rfl rfl
theorem dksX1_scan_4 : cX1_scan.data.toList.drop 96 = dktX1_scan_4 := dk_seg dksX1_scan_3 24 rfl rfl
theorem dksX1_scan_5 : cX1_scan.data.toList.drop 120 = dktX1_scan_5 := dk_seg dksX1_scan_4 24 rfl rfl
theorem dksX1_scan_6 : cX1_scan.data.toList.drop 142 = dktX1_scan_6 := dk_seg dksX1_scan_5 22 rfl rfl
theorem dX1_scan_0 : decode cX1_scan 0 = .ok (.new 94, 3) := dk_187 0 94 (dk_at dksX1_scan_0 0 rfl rfl)
theorem dX1_scan_3 : decode cX1_scan 3 = .ok (.dup, 1) := dk_89 (dk_at dksX1_scan_0 3 rfl rfl)
theorem dX1_scan_4 : decode cX1_scan 4 = .ok (.invokespecial 120, 3) := dk_183 0 120 (dk_at dksX1_scan_0 4 rfl rfl)
theorem dX1_scan_7 : decode cX1_scan 7 = .ok (.astore 5, 2) := dk_58 5 (dk_at dksX1_scan_0 7 rfl rfl)
theorem dX1_scan_9 : decode cX1_scan 9 = .ok (.aload_n 2, 1) := dk_44 (dk_at dksX1_scan_0 9 rfl rfl)
theorem dX1_scan_10 : decode cX1_scan 10 = .ok (.invokeinterface 289 1, 5) := by decide +kernel
theorem dX1_scan_15 : decode cX1_scan 15 = .ok (.astore 6, 2) := dk_58 6 (dk_at dksX1_scan_0 15 rfl rfl)
theorem dX1_scan_17 : decode cX1_scan 17 = .ok (.aload 6, 2) := dk_25 6 (dk_at dksX1_scan_0 17 rfl rfl)
theorem dX1_scan_19 : decode cX1_scan 19 = .ok (.invokeinterface 295 1, 5) := by decide +kernel
theorem dX1_scan_24 : decode cX1_scan 24 = .ok (.ifCond .eq 121, 3) := dk_153 0 121 (dk_at dksX1_scan_1 0 rfl rfl)
theorem dX1_scan_27 : decode cX1_scan 27 = .ok (.aload 6, 2) := dk_25 6 (dk_at dksX1_scan_1 3 rfl rfl)
theorem dX1_scan_29 : decode cX1_scan 29 = .ok (.invokeinterface 300 1, 5) := by decide +kernel
theorem dX1_scan_34 : decode cX1_scan 34 = .ok (.checkcast 309, 3) := dk_192 1 53 (dk_at dksX1_scan_1 10 rfl rfl)
theorem dX1_scan_37 : decode cX1_scan 37 = .ok (.astore 7, 2) := dk_58 7 (dk_at dksX1_scan_1 13 rfl rfl)
theorem dX1_scan_39 : decode cX1_scan 39 = .ok (.aload_n 3, 1) := dk_45 (dk_at dksX1_scan_1 15 rfl rfl)
theorem dX1_scan_40 : decode cX1_scan 40 = .ok (.ifnull 32, 3) := dk_198 0 32 (dk_at dksX1_scan_1 16 rfl rfl)
theorem dX1_scan_43 : decode cX1_scan 43 = .ok (.aload 7, 2) := dk_25 7 (dk_at dksX1_scan_1 19 rfl rfl)
theorem dX1_scan_45 : decode cX1_scan 45 = .ok (.getfield 326, 3) := dk_180 1 70 (dk_at dksX1_scan_1 21 rfl rfl)
theorem dX1_scan_48 : decode cX1_scan 48 = .ok (.getfield 330, 3) := dk_180 1 74 (dk_at dksX1_scan_2 0 rfl rfl)
theorem dX1_scan_51 : decode cX1_scan 51 = .ok (.aload_n 3, 1) := dk_45 (dk_at dksX1_scan_2 3 rfl rfl)
theorem dX1_scan_52 : decode cX1_scan 52 = .ok (.getfield 330, 3) := dk_180 1 74 (dk_at dksX1_scan_2 4 rfl rfl)
theorem dX1_scan_55 : decode cX1_scan 55 = .ok (.if_icmp .ne 17, 3) := dk_160 0 17 (dk_at dksX1_scan_2 7 rfl rfl)
theorem dX1_scan_58 : decode cX1_scan 58 = .ok (.aload 7, 2) := dk_25 7 (dk_at dksX1_scan_2 10 rfl rfl)
theorem dX1_scan_60 : decode cX1_scan 60 = .ok (.getfield 333, 3) := dk_180 1 77 (dk_at dksX1_scan_2 12 rfl rfl)
theorem dX1_scan_63 : decode cX1_scan 63 = .ok (.iload 4, 2) := dk_21 4 (dk_at dksX1_scan_2 15 rfl rfl)
theorem dX1_scan_65 : decode cX1_scan 65 = .ok (.if_icmp .ne 7, 3) := dk_160 0 7 (dk_at dksX1_scan_2 17 rfl rfl)
theorem dX1_scan_68 : decode cX1_scan 68 = .ok (.iconst 1, 1) := dk_4 (dk_at dksX1_scan_2 20 rfl rfl)
theorem dX1_scan_69 : decode cX1_scan 69 = .ok (.goto 4, 3) := dk_167 0 4 (dk_at dksX1_scan_2 21 rfl rfl)
theorem dX1_scan_72 : decode cX1_scan 72 = .ok (.iconst 0, 1) := dk_3 (dk_at dksX1_scan_3 0 rfl rfl)
theorem dX1_scan_73 : decode cX1_scan 73 = .ok (.istore 8, 2) := dk_54 8 (dk_at dksX1_scan_3 1 rfl rfl)
theorem dX1_scan_75 : decode cX1_scan 75 = .ok (.aload 5, 2) := dk_25 5 (dk_at dksX1_scan_3 3 rfl rfl)
theorem dX1_scan_77 : decode cX1_scan 77 = .ok (.aload 7, 2) := dk_25 7 (dk_at dksX1_scan_3 5 rfl rfl)
theorem dX1_scan_79 : decode cX1_scan 79 = .ok (.getfield 326, 3) := dk_180 1 70 (dk_at dksX1_scan_3 7 rfl rfl)
theorem dX1_scan_82 : decode cX1_scan 82 = .ok (.getfield 330, 3) := dk_180 1 74 (dk_at dksX1_scan_3 10 rfl rfl)
theorem dX1_scan_85 : decode cX1_scan 85 = .ok (.invokevirtual 139, 3) := dk_182 0 139 (dk_at dksX1_scan_3 13 rfl rfl)
theorem dX1_scan_88 : decode cX1_scan 88 = .ok (.ifCond .ne 25, 3) := dk_154 0 25 (dk_at dksX1_scan_3 16 rfl rfl)
theorem dX1_scan_91 : decode cX1_scan 91 = .ok (.iload 8, 2) := dk_21 8 (dk_at dksX1_scan_3 19 rfl rfl)
theorem dX1_scan_93 : decode cX1_scan 93 = .ok (.ifCond .ne 20, 3) := dk_154 0 20 (dk_at dksX1_scan_3 21 rfl rfl)
theorem dX1_scan_96 : decode cX1_scan 96 = .ok (.aload_n 1, 1) := dk_43 (dk_at dksX1_scan_4 0 rfl rfl)
theorem dX1_scan_97 : decode cX1_scan 97 = .ok (.aload 7, 2) := dk_25 7 (dk_at dksX1_scan_4 1 rfl rfl)
theorem dX1_scan_99 : decode cX1_scan 99 = .ok (.getfield 326, 3) := dk_180 1 70 (dk_at dksX1_scan_4 3 rfl rfl)
theorem dX1_scan_102 : decode cX1_scan 102 = .ok (.aload 7, 2) := dk_25 7 (dk_at dksX1_scan_4 6 rfl rfl)
theorem dX1_scan_104 : decode cX1_scan 104 = .ok (.getfield 333, 3) := dk_180 1 77 (dk_at dksX1_scan_4 8 rfl rfl)
theorem dX1_scan_107 : decode cX1_scan 107 = .ok (.invokevirtual 335, 3) := dk_182 1 79 (dk_at dksX1_scan_4 11 rfl rfl)
theorem dX1_scan_110 : decode cX1_scan 110 = .ok (.ifCond .eq 32, 3) := dk_153 0 32 (dk_at dksX1_scan_4 14 rfl rfl)
theorem dX1_scan_113 : decode cX1_scan 113 = .ok (.aload 5, 2) := dk_25 5 (dk_at dksX1_scan_4 17 rfl rfl)
theorem dX1_scan_115 : decode cX1_scan 115 = .ok (.aload 7, 2) := dk_25 7 (dk_at dksX1_scan_4 19 rfl rfl)
theorem dX1_scan_117 : decode cX1_scan 117 = .ok (.getfield 326, 3) := dk_180 1 70 (dk_at dksX1_scan_4 21 rfl rfl)
theorem dX1_scan_120 : decode cX1_scan 120 = .ok (.getfield 330, 3) := dk_180 1 74 (dk_at dksX1_scan_5 0 rfl rfl)
theorem dX1_scan_123 : decode cX1_scan 123 = .ok (.invokevirtual 132, 3) := dk_182 0 132 (dk_at dksX1_scan_5 3 rfl rfl)
theorem dX1_scan_126 : decode cX1_scan 126 = .ok (.aload_n 1, 1) := dk_43 (dk_at dksX1_scan_5 6 rfl rfl)
theorem dX1_scan_127 : decode cX1_scan 127 = .ok (.aload 7, 2) := dk_25 7 (dk_at dksX1_scan_5 7 rfl rfl)
theorem dX1_scan_129 : decode cX1_scan 129 = .ok (.getfield 326, 3) := dk_180 1 70 (dk_at dksX1_scan_5 9 rfl rfl)
theorem dX1_scan_132 : decode cX1_scan 132 = .ok (.aload 7, 2) := dk_25 7 (dk_at dksX1_scan_5 12 rfl rfl)
theorem dX1_scan_134 : decode cX1_scan 134 = .ok (.getfield 333, 3) := dk_180 1 77 (dk_at dksX1_scan_5 14 rfl rfl)
theorem dX1_scan_137 : decode cX1_scan 137 = .ok (.iconst 1, 1) := dk_4 (dk_at dksX1_scan_5 17 rfl rfl)
theorem dX1_scan_138 : decode cX1_scan 138 = .ok (.iadd, 1) := dk_96 (dk_at dksX1_scan_5 18 rfl rfl)
theorem dX1_scan_139 : decode cX1_scan 139 = .ok (.invokevirtual 340, 3) := dk_182 1 84 (dk_at dksX1_scan_5 19 rfl rfl)
theorem dX1_scan_142 : decode cX1_scan 142 = .ok (.goto (-125), 3) := dk_167 255 131 (dk_at dksX1_scan_6 0 rfl rfl)
theorem dX1_scan_145 : decode cX1_scan 145 = .ok (.return_, 1) := dk_177 (dk_at dksX1_scan_6 3 rfl rfl)
abbrev cX1_told : ByteArray := prog_1_method_51_code
def yX1_told : MethodName := ⟨RX1, "told", "(I)I"⟩
def dkwX1_told_0 : List UInt8 := [26, 18, 106, 162, 0, 7, 4, 167, 0, 4, 3, 184, 0, 117, 26, 172]
abbrev dktX1_told_0 : List UInt8 := dkwX1_told_0 ++ []
theorem dksX1_told_0 : cX1_told.data.toList.drop 0 = dktX1_told_0 := by decide +kernel
theorem dX1_told_0 : decode cX1_told 0 = .ok (.iload_n 0, 1) := dk_26 (dk_at dksX1_told_0 0 rfl rfl)
theorem dX1_told_1 : decode cX1_told 1 = .ok (.ldc 106, 2) := dk_18 106 (dk_at dksX1_told_0 1 rfl rfl)
theorem dX1_told_3 : decode cX1_told 3 = .ok (.if_icmp .ge 7, 3) := dk_162 0 7 (dk_at dksX1_told_0 3 rfl rfl)
theorem dX1_told_6 : decode cX1_told 6 = .ok (.iconst 1, 1) := dk_4 (dk_at dksX1_told_0 6 rfl rfl)
theorem dX1_told_7 : decode cX1_told 7 = .ok (.goto 4, 3) := dk_167 0 4 (dk_at dksX1_told_0 7 rfl rfl)
theorem dX1_told_10 : decode cX1_told 10 = .ok (.iconst 0, 1) := dk_3 (dk_at dksX1_told_0 10 rfl rfl)
theorem dX1_told_11 : decode cX1_told 11 = .ok (.invokestatic 117, 3) := dk_184 0 117 (dk_at dksX1_told_0 11 rfl rfl)
theorem dX1_told_14 : decode cX1_told 14 = .ok (.iload_n 0, 1) := dk_26 (dk_at dksX1_told_0 14 rfl rfl)
theorem dX1_told_15 : decode cX1_told 15 = .ok (.ireturn, 1) := dk_172 (dk_at dksX1_told_0 15 rfl rfl)
abbrev cX1_earliestByQueue : ByteArray := prog_1_method_54_code
def yX1_earliestByQueue : MethodName := ⟨RX1, "earliestByQueue", "(IIII)I"⟩
def dkwX1_earliestByQueue_0 : List UInt8 := [42, 27, 28, 29, 21, 4, 182, 1, 109, 42, 27, 29, 21, 4, 182, 1, 151, 28, 46, 184, 1, 117, 172]
abbrev dktX1_earliestByQueue_0 : List UInt8 := dkwX1_earliestByQueue_0 ++ []
theorem dksX1_earliestByQueue_0 : cX1_earliestByQueue.data.toList.drop 0 = dktX1_earliestByQueue_0 := by decide +kernel
theorem dX1_earliestByQueue_0 : decode cX1_earliestByQueue 0 = .ok (.aload_n 0, 1) := dk_42 (dk_at dksX1_earliestByQueue_0 0 rfl rfl)
theorem dX1_earliestByQueue_1 : decode cX1_earliestByQueue 1 = .ok (.iload_n 1, 1) := dk_27 (dk_at dksX1_earliestByQueue_0 1 rfl rfl)
theorem dX1_earliestByQueue_2 : decode cX1_earliestByQueue 2 = .ok (.iload_n 2, 1) := dk_28 (dk_at dksX1_earliestByQueue_0 2 rfl rfl)
theorem dX1_earliestByQueue_3 : decode cX1_earliestByQueue 3 = .ok (.iload_n 3, 1) := dk_29 (dk_at dksX1_earliestByQueue_0 3 rfl rfl)
theorem dX1_earliestByQueue_4 : decode cX1_earliestByQueue 4 = .ok (.iload 4, 2) := dk_21 4 (dk_at dksX1_earliestByQueue_0 4 rfl rfl)
theorem dX1_earliestByQueue_6 : decode cX1_earliestByQueue 6 = .ok (.invokevirtual 365, 3) := dk_182 1 109 (dk_at dksX1_earliestByQueue_0 6 rfl rfl)
theorem dX1_earliestByQueue_9 : decode cX1_earliestByQueue 9 = .ok (.aload_n 0, 1) := dk_42 (dk_at dksX1_earliestByQueue_0 9 rfl rfl)
theorem dX1_earliestByQueue_10 : decode cX1_earliestByQueue 10 = .ok (.iload_n 1, 1) := dk_27 (dk_at dksX1_earliestByQueue_0 10 rfl rfl)
theorem dX1_earliestByQueue_11 : decode cX1_earliestByQueue 11 = .ok (.iload_n 3, 1) := dk_29 (dk_at dksX1_earliestByQueue_0 11 rfl rfl)
theorem dX1_earliestByQueue_12 : decode cX1_earliestByQueue 12 = .ok (.iload 4, 2) := dk_21 4 (dk_at dksX1_earliestByQueue_0 12 rfl rfl)
theorem dX1_earliestByQueue_14 : decode cX1_earliestByQueue 14 = .ok (.invokevirtual 407, 3) := dk_182 1 151 (dk_at dksX1_earliestByQueue_0 14 rfl rfl)
theorem dX1_earliestByQueue_17 : decode cX1_earliestByQueue 17 = .ok (.iload_n 2, 1) := dk_28 (dk_at dksX1_earliestByQueue_0 17 rfl rfl)
theorem dX1_earliestByQueue_18 : decode cX1_earliestByQueue 18 = .ok (.iaload, 1) := dk_46 (dk_at dksX1_earliestByQueue_0 18 rfl rfl)
theorem dX1_earliestByQueue_19 : decode cX1_earliestByQueue 19 = .ok (.invokestatic 373, 3) := dk_184 1 117 (dk_at dksX1_earliestByQueue_0 19 rfl rfl)
theorem dX1_earliestByQueue_22 : decode cX1_earliestByQueue 22 = .ok (.ireturn, 1) := dk_172 (dk_at dksX1_earliestByQueue_0 22 rfl rfl)
abbrev cX1_byQueue : ByteArray := prog_1_method_53_code
def yX1_byQueue : MethodName := ⟨RX1, "byQueue", "(III)[I"⟩
def dkwX1_byQueue_20 : List UInt8 := [183, 1, 131, 182, 1, 134, 87, 167, 254, 150, 25, 6, 176]
abbrev dktX1_byQueue_20 : List UInt8 := dkwX1_byQueue_20 ++ []
def dkwX1_byQueue_19 : List UInt8 := [180, 1, 67, 25, 9, 180, 1, 150, 4, 96, 46, 2, 25, 9, 180, 1, 141, 25, 9, 180, 1, 150, 4, 96]
abbrev dktX1_byQueue_19 : List UInt8 := dkwX1_byQueue_19 ++ dktX1_byQueue_20
def dkwX1_byQueue_18 : List UInt8 := [180, 1, 141, 182, 1, 47, 4, 100, 162, 0, 45, 25, 8, 187, 1, 129, 89, 25, 9, 180, 1, 141]
abbrev dktX1_byQueue_18 : List UInt8 := dkwX1_byQueue_18 ++ dktX1_byQueue_19
def dkwX1_byQueue_17 : List UInt8 := [21, 11, 1, 3, 183, 1, 131, 182, 1, 134, 87, 132, 11, 1, 167, 255, 156, 25, 9, 180, 1, 150, 25, 9]
abbrev dktX1_byQueue_17 : List UInt8 := dkwX1_byQueue_17 ++ dktX1_byQueue_18
def dkwX1_byQueue_16 : List UInt8 := [21, 10, 160, 0, 13, 42, 180, 0, 9, 21, 10, 46, 167, 0, 11, 25, 5, 21, 10, 50, 21, 11, 46, 96]
abbrev dktX1_byQueue_16 : List UInt8 := dkwX1_byQueue_16 ++ dktX1_byQueue_17
def dkwX1_byQueue_15 : List UInt8 := [21, 10, 50, 21, 11, 46, 96, 184, 0, 107, 79, 25, 8, 187, 1, 129, 89, 25, 9, 180, 1, 147, 21, 11]
abbrev dktX1_byQueue_15 : List UInt8 := dkwX1_byQueue_15 ++ dktX1_byQueue_16
def dkwX1_byQueue_14 : List UInt8 := [21, 11, 46, 18, 106, 162, 0, 78, 25, 6, 21, 11, 25, 6, 21, 11, 46, 25, 9, 180, 1, 147, 25, 5]
abbrev dktX1_byQueue_14 : List UInt8 := dkwX1_byQueue_14 ++ dktX1_byQueue_15
def dkwX1_byQueue_13 : List UInt8 := [180, 1, 150, 46, 54, 10, 3, 54, 11, 21, 11, 42, 180, 0, 68, 162, 0, 97, 25, 5, 21, 10, 50]
abbrev dktX1_byQueue_13 : List UInt8 := dkwX1_byQueue_13 ++ dktX1_byQueue_14
def dkwX1_byQueue_12 : List UInt8 := [132, 12, 1, 167, 255, 169, 167, 255, 141, 167, 0, 185, 25, 9, 180, 1, 141, 180, 1, 143, 25, 9]
abbrev dktX1_byQueue_12 : List UInt8 := dkwX1_byQueue_12 ++ dktX1_byQueue_13
def dkwX1_byQueue_11 : List UInt8 := [180, 1, 67, 21, 12, 4, 96, 46, 2, 25, 11, 21, 12, 4, 96, 183, 1, 131, 182, 1, 134, 87]
abbrev dktX1_byQueue_11 : List UInt8 := dkwX1_byQueue_11 ++ dktX1_byQueue_12
def dkwX1_byQueue_10 : List UInt8 := [25, 11, 180, 1, 55, 21, 12, 46, 25, 9, 180, 1, 147, 161, 0, 33, 25, 8, 187, 1, 129, 89, 25, 11]
abbrev dktX1_byQueue_10 : List UInt8 := dkwX1_byQueue_10 ++ dktX1_byQueue_11
def dkwX1_byQueue_9 : List UInt8 := [180, 1, 143, 21, 12, 46, 25, 9, 180, 1, 145, 160, 0, 59, 25, 11, 21, 12, 182, 1, 50, 153, 0, 49]
abbrev dktX1_byQueue_9 : List UInt8 := dkwX1_byQueue_9 ++ dktX1_byQueue_10
def dkwX1_byQueue_8 : List UInt8 := [192, 1, 24, 58, 11, 3, 54, 12, 21, 12, 25, 11, 182, 1, 47, 4, 100, 162, 0, 81, 25, 11]
abbrev dktX1_byQueue_8 : List UInt8 := dkwX1_byQueue_8 ++ dktX1_byQueue_9
def dkwX1_byQueue_7 : List UInt8 := [25, 4, 182, 1, 142, 58, 10, 25, 10, 185, 1, 39, 1, 0, 153, 0, 111, 25, 10, 185, 1, 44, 1, 0]
abbrev dktX1_byQueue_7 : List UInt8 := dkwX1_byQueue_7 ++ dktX1_byQueue_8
def dkwX1_byQueue_6 : List UInt8 := [153, 0, 6, 167, 255, 225, 25, 7, 25, 9, 182, 1, 138, 182, 0, 132, 25, 9, 180, 1, 141, 199, 0, 131]
abbrev dktX1_byQueue_6 : List UInt8 := dkwX1_byQueue_6 ++ dktX1_byQueue_7
def dkwX1_byQueue_5 : List UInt8 := [154, 1, 104, 25, 8, 182, 1, 136, 192, 1, 129, 58, 9, 25, 7, 25, 9, 182, 1, 138, 182, 0, 139]
abbrev dktX1_byQueue_5 : List UInt8 := dkwX1_byQueue_5 ++ dktX1_byQueue_6
def dkwX1_byQueue_4 : List UInt8 := [21, 9, 1, 3, 183, 1, 131, 182, 1, 134, 87, 132, 9, 1, 167, 255, 196, 25, 8, 182, 1, 135]
abbrev dktX1_byQueue_4 : List UInt8 := dkwX1_byQueue_4 ++ dktX1_byQueue_5
def dkwX1_byQueue_3 : List UInt8 := [21, 9, 29, 25, 5, 27, 50, 21, 9, 46, 96, 79, 25, 8, 187, 1, 129, 89, 25, 6, 21, 9, 46]
abbrev dktX1_byQueue_3 : List UInt8 := dkwX1_byQueue_3 ++ dktX1_byQueue_4
def dkwX1_byQueue_2 : List UInt8 := [21, 9, 42, 180, 0, 68, 162, 0, 57, 25, 5, 27, 50, 21, 9, 46, 18, 106, 162, 0, 39, 25, 6]
abbrev dktX1_byQueue_2 : List UInt8 := dkwX1_byQueue_2 ++ dktX1_byQueue_3
def dkwX1_byQueue_1 : List UInt8 := [184, 1, 120, 187, 0, 94, 89, 183, 0, 120, 58, 7, 187, 1, 126, 89, 183, 1, 128, 58, 8, 3, 54, 9]
abbrev dktX1_byQueue_1 : List UInt8 := dkwX1_byQueue_1 ++ dktX1_byQueue_2
def dkwX1_byQueue_0 : List UInt8 := [42, 28, 182, 1, 98, 58, 4, 42, 2, 182, 0, 113, 58, 5, 16, 12, 188, 10, 58, 6, 25, 6, 18, 106]
abbrev dktX1_byQueue_0 : List UInt8 := dkwX1_byQueue_0 ++ dktX1_byQueue_1
theorem dksX1_byQueue_0 : cX1_byQueue.data.toList.drop 0 = dktX1_byQueue_0 := by decide +kernel
theorem dksX1_byQueue_1 : cX1_byQueue.data.toList.drop 24 = dktX1_byQueue_1 := dk_seg dksX1_byQueue_0 24 rfl rfl
theorem dksX1_byQueue_2 : cX1_byQueue.data.toList.drop 48 = dktX1_byQueue_2 := dk_seg dksX1_byQueue_1 24 rfl rfl
theorem dksX1_byQueue_3 : cX1_byQueue.data.toList.drop 71 = dktX1_byQueue_3 := dk_seg dksX1_byQueue_2 23 rfl rfl
theorem dksX1_byQueue_4 : cX1_byQueue.data.toList.drop 94 = dktX1_byQueue_4 := dk_seg dksX1_byQueue_3 23 rfl rfl
theorem dksX1_byQueue_5 : cX1_byQueue.data.toList.drop 116 = dktX1_byQueue_5 := dk_seg dksX1_byQueue_4 22 rfl rfl
theorem dksX1_byQueue_6 : cX1_byQueue.data.toList.drop 139 = dktX1_byQueue_6 := dk_seg dksX1_byQueue_5 23 rfl rfl
theorem dksX1_byQueue_7 : cX1_byQueue.data.toList.drop 163 = dktX1_byQueue_7 := dk_seg dksX1_byQueue_6 24 rfl rfl
theorem dksX1_byQueue_8 : cX1_byQueue.data.toList.drop 187 = dktX1_byQueue_8 := dk_seg dksX1_byQueue_7 24 rfl rfl
theorem dksX1_byQueue_9 : cX1_byQueue.data.toList.drop 209 = dktX1_byQueue_9 := dk_seg dksX1_byQueue_8 22 rfl rfl
theorem dksX1_byQueue_10 : cX1_byQueue.data.toList.drop 233 = dktX1_byQueue_10 := dk_seg dksX1_byQueue_9 24 rfl rfl
theorem dksX1_byQueue_11 : cX1_byQueue.data.toList.drop 257 = dktX1_byQueue_11 := dk_seg dksX1_byQueue_10 24 rfl rfl
theorem dksX1_byQueue_12 : cX1_byQueue.data.toList.drop 279 = dktX1_byQueue_12 := dk_seg dksX1_byQueue_11 22 rfl rfl
theorem dksX1_byQueue_13 : cX1_byQueue.data.toList.drop 301 = dktX1_byQueue_13 := dk_seg dksX1_byQueue_12 22 rfl rfl
theorem dksX1_byQueue_14 : cX1_byQueue.data.toList.drop 324 = dktX1_byQueue_14 := dk_seg dksX1_byQueue_13 23 rfl rfl
theorem dksX1_byQueue_15 : cX1_byQueue.data.toList.drop 348 = dktX1_byQueue_15 := dk_seg dksX1_byQueue_14 24 rfl rfl
theorem dksX1_byQueue_16 : cX1_byQueue.data.toList.drop 372 = dktX1_byQueue_16 := dk_seg dksX1_byQueue_15 24 rfl rfl
theorem dksX1_byQueue_17 : cX1_byQueue.data.toList.drop 396 = dktX1_byQueue_17 := dk_seg dksX1_byQueue_16 24 rfl rfl
theorem dksX1_byQueue_18 : cX1_byQueue.data.toList.drop 420 = dktX1_byQueue_18 := dk_seg dksX1_byQueue_17 24 rfl rfl
theorem dksX1_byQueue_19 : cX1_byQueue.data.toList.drop 442 = dktX1_byQueue_19 := dk_seg dksX1_byQueue_18 22 rfl rfl
theorem dksX1_byQueue_20 : cX1_byQueue.data.toList.drop 466 = dktX1_byQueue_20 := dk_seg dksX1_byQueue_19 24 rfl rfl
theorem dX1_byQueue_0 : decode cX1_byQueue 0 = .ok (.aload_n 0, 1) := dk_42 (dk_at dksX1_byQueue_0 0 rfl rfl)
theorem dX1_byQueue_1 : decode cX1_byQueue 1 = .ok (.iload_n 2, 1) := dk_28 (dk_at dksX1_byQueue_0 1 rfl rfl)
theorem dX1_byQueue_2 : decode cX1_byQueue 2 = .ok (.invokevirtual 354, 3) := dk_182 1 98 (dk_at dksX1_byQueue_0 2 rfl rfl)
theorem dX1_byQueue_5 : decode cX1_byQueue 5 = .ok (.astore 4, 2) := dk_58 4 (dk_at dksX1_byQueue_0 5 rfl rfl)
theorem dX1_byQueue_7 : decode cX1_byQueue 7 = .ok (.aload_n 0, 1) := dk_42 (dk_at dksX1_byQueue_0 7 rfl rfl)
theorem dX1_byQueue_8 : decode cX1_byQueue 8 = .ok (.iconst (-1), 1) := dk_2 (dk_at dksX1_byQueue_0 8 rfl rfl)
theorem dX1_byQueue_9 : decode cX1_byQueue 9 = .ok (.invokevirtual 113, 3) := dk_182 0 113 (dk_at dksX1_byQueue_0 9 rfl rfl)
theorem dX1_byQueue_12 : decode cX1_byQueue 12 = .ok (.astore 5, 2) := dk_58 5 (dk_at dksX1_byQueue_0 12 rfl rfl)
theorem dX1_byQueue_14 : decode cX1_byQueue 14 = .ok (.bipush 12, 2) := dk_16 12 (dk_at dksX1_byQueue_0 14 rfl rfl)
theorem dX1_byQueue_16 : decode cX1_byQueue 16 = .ok (.newarray .int, 2) := dk_188_10 (dk_at dksX1_byQueue_0 16 rfl rfl)
theorem dX1_byQueue_18 : decode cX1_byQueue 18 = .ok (.astore 6, 2) := dk_58 6 (dk_at dksX1_byQueue_0 18 rfl rfl)
theorem dX1_byQueue_20 : decode cX1_byQueue 20 = .ok (.aload 6, 2) := dk_25 6 (dk_at dksX1_byQueue_0 20 rfl rfl)
theorem dX1_byQueue_22 : decode cX1_byQueue 22 = .ok (.ldc 106, 2) := dk_18 106 (dk_at dksX1_byQueue_0 22 rfl rfl)
theorem dX1_byQueue_24 : decode cX1_byQueue 24 = .ok (.invokestatic 376, 3) := dk_184 1 120 (dk_at dksX1_byQueue_1 0 rfl rfl)
theorem dX1_byQueue_27 : decode cX1_byQueue 27 = .ok (.new 94, 3) := dk_187 0 94 (dk_at dksX1_byQueue_1 3 rfl rfl)
theorem dX1_byQueue_30 : decode cX1_byQueue 30 = .ok (.dup, 1) := dk_89 (dk_at dksX1_byQueue_1 6 rfl rfl)
theorem dX1_byQueue_31 : decode cX1_byQueue 31 = .ok (.invokespecial 120, 3) := dk_183 0 120 (dk_at dksX1_byQueue_1 7 rfl rfl)
theorem dX1_byQueue_34 : decode cX1_byQueue 34 = .ok (.astore 7, 2) := dk_58 7 (dk_at dksX1_byQueue_1 10 rfl rfl)
theorem dX1_byQueue_36 : decode cX1_byQueue 36 = .ok (.new 382, 3) := dk_187 1 126 (dk_at dksX1_byQueue_1 12 rfl rfl)
theorem dX1_byQueue_39 : decode cX1_byQueue 39 = .ok (.dup, 1) := dk_89 (dk_at dksX1_byQueue_1 15 rfl rfl)
theorem dX1_byQueue_40 : decode cX1_byQueue 40 = .ok (.invokespecial 384, 3) := dk_183 1 128 (dk_at dksX1_byQueue_1 16 rfl rfl)
theorem dX1_byQueue_43 : decode cX1_byQueue 43 = .ok (.astore 8, 2) := dk_58 8 (dk_at dksX1_byQueue_1 19 rfl rfl)
theorem dX1_byQueue_45 : decode cX1_byQueue 45 = .ok (.iconst 0, 1) := dk_3 (dk_at dksX1_byQueue_1 21 rfl rfl)
theorem dX1_byQueue_46 : decode cX1_byQueue 46 = .ok (.istore 9, 2) := dk_54 9 (dk_at dksX1_byQueue_1 22 rfl rfl)
theorem dX1_byQueue_48 : decode cX1_byQueue 48 = .ok (.iload 9, 2) := dk_21 9 (dk_at dksX1_byQueue_2 0 rfl rfl)
theorem dX1_byQueue_50 : decode cX1_byQueue 50 = .ok (.aload_n 0, 1) := dk_42 (dk_at dksX1_byQueue_2 2 rfl rfl)
theorem dX1_byQueue_51 : decode cX1_byQueue 51 = .ok (.getfield 68, 3) := dk_180 0 68 (dk_at dksX1_byQueue_2 3 rfl rfl)
theorem dX1_byQueue_54 : decode cX1_byQueue 54 = .ok (.if_icmp .ge 57, 3) := dk_162 0 57 (dk_at dksX1_byQueue_2 6 rfl rfl)
theorem dX1_byQueue_57 : decode cX1_byQueue 57 = .ok (.aload 5, 2) := dk_25 5 (dk_at dksX1_byQueue_2 9 rfl rfl)
theorem dX1_byQueue_59 : decode cX1_byQueue 59 = .ok (.iload_n 1, 1) := dk_27 (dk_at dksX1_byQueue_2 11 rfl rfl)
theorem dX1_byQueue_60 : decode cX1_byQueue 60 = .ok (.aaload, 1) := dk_50 (dk_at dksX1_byQueue_2 12 rfl rfl)
theorem dX1_byQueue_61 : decode cX1_byQueue 61 = .ok (.iload 9, 2) := dk_21 9 (dk_at dksX1_byQueue_2 13 rfl rfl)
theorem dX1_byQueue_63 : decode cX1_byQueue 63 = .ok (.iaload, 1) := dk_46 (dk_at dksX1_byQueue_2 15 rfl rfl)
theorem dX1_byQueue_64 : decode cX1_byQueue 64 = .ok (.ldc 106, 2) := dk_18 106 (dk_at dksX1_byQueue_2 16 rfl rfl)
theorem dX1_byQueue_66 : decode cX1_byQueue 66 = .ok (.if_icmp .ge 39, 3) := dk_162 0 39 (dk_at dksX1_byQueue_2 18 rfl rfl)
theorem dX1_byQueue_69 : decode cX1_byQueue 69 = .ok (.aload 6, 2) := dk_25 6 (dk_at dksX1_byQueue_2 21 rfl rfl)
theorem dX1_byQueue_71 : decode cX1_byQueue 71 = .ok (.iload 9, 2) := dk_21 9 (dk_at dksX1_byQueue_3 0 rfl rfl)
theorem dX1_byQueue_73 : decode cX1_byQueue 73 = .ok (.iload_n 3, 1) := dk_29 (dk_at dksX1_byQueue_3 2 rfl rfl)
theorem dX1_byQueue_74 : decode cX1_byQueue 74 = .ok (.aload 5, 2) := dk_25 5 (dk_at dksX1_byQueue_3 3 rfl rfl)
theorem dX1_byQueue_76 : decode cX1_byQueue 76 = .ok (.iload_n 1, 1) := dk_27 (dk_at dksX1_byQueue_3 5 rfl rfl)
theorem dX1_byQueue_77 : decode cX1_byQueue 77 = .ok (.aaload, 1) := dk_50 (dk_at dksX1_byQueue_3 6 rfl rfl)
theorem dX1_byQueue_78 : decode cX1_byQueue 78 = .ok (.iload 9, 2) := dk_21 9 (dk_at dksX1_byQueue_3 7 rfl rfl)
theorem dX1_byQueue_80 : decode cX1_byQueue 80 = .ok (.iaload, 1) := dk_46 (dk_at dksX1_byQueue_3 9 rfl rfl)
theorem dX1_byQueue_81 : decode cX1_byQueue 81 = .ok (.iadd, 1) := dk_96 (dk_at dksX1_byQueue_3 10 rfl rfl)
theorem dX1_byQueue_82 : decode cX1_byQueue 82 = .ok (.iastore, 1) := dk_79 (dk_at dksX1_byQueue_3 11 rfl rfl)
theorem dX1_byQueue_83 : decode cX1_byQueue 83 = .ok (.aload 8, 2) := dk_25 8 (dk_at dksX1_byQueue_3 12 rfl rfl)
theorem dX1_byQueue_85 : decode cX1_byQueue 85 = .ok (.new 385, 3) := dk_187 1 129 (dk_at dksX1_byQueue_3 14 rfl rfl)
theorem dX1_byQueue_88 : decode cX1_byQueue 88 = .ok (.dup, 1) := dk_89 (dk_at dksX1_byQueue_3 17 rfl rfl)
theorem dX1_byQueue_89 : decode cX1_byQueue 89 = .ok (.aload 6, 2) := dk_25 6 (dk_at dksX1_byQueue_3 18 rfl rfl)
theorem dX1_byQueue_91 : decode cX1_byQueue 91 = .ok (.iload 9, 2) := dk_21 9 (dk_at dksX1_byQueue_3 20 rfl rfl)
theorem dX1_byQueue_93 : decode cX1_byQueue 93 = .ok (.iaload, 1) := dk_46 (dk_at dksX1_byQueue_3 22 rfl rfl)
theorem dX1_byQueue_94 : decode cX1_byQueue 94 = .ok (.iload 9, 2) := dk_21 9 (dk_at dksX1_byQueue_4 0 rfl rfl)
theorem dX1_byQueue_96 : decode cX1_byQueue 96 = .ok (.aconst_null, 1) := dk_1 (dk_at dksX1_byQueue_4 2 rfl rfl)
theorem dX1_byQueue_97 : decode cX1_byQueue 97 = .ok (.iconst 0, 1) := dk_3 (dk_at dksX1_byQueue_4 3 rfl rfl)
theorem dX1_byQueue_98 : decode cX1_byQueue 98 = .ok (.invokespecial 387, 3) := dk_183 1 131 (dk_at dksX1_byQueue_4 4 rfl rfl)
theorem dX1_byQueue_101 : decode cX1_byQueue 101 = .ok (.invokevirtual 390, 3) := dk_182 1 134 (dk_at dksX1_byQueue_4 7 rfl rfl)
theorem dX1_byQueue_104 : decode cX1_byQueue 104 = .ok (.pop, 1) := dk_87 (dk_at dksX1_byQueue_4 10 rfl rfl)
theorem dX1_byQueue_105 : decode cX1_byQueue 105 = .ok (.iinc 9 1, 3) := dk_132 9 1 (dk_at dksX1_byQueue_4 11 rfl rfl)
theorem dX1_byQueue_108 : decode cX1_byQueue 108 = .ok (.goto (-60), 3) := dk_167 255 196 (dk_at dksX1_byQueue_4 14 rfl rfl)
theorem dX1_byQueue_111 : decode cX1_byQueue 111 = .ok (.aload 8, 2) := dk_25 8 (dk_at dksX1_byQueue_4 17 rfl rfl)
theorem dX1_byQueue_113 : decode cX1_byQueue 113 = .ok (.invokevirtual 391, 3) := dk_182 1 135 (dk_at dksX1_byQueue_4 19 rfl rfl)
theorem dX1_byQueue_116 : decode cX1_byQueue 116 = .ok (.ifCond .ne 360, 3) := dk_154 1 104 (dk_at dksX1_byQueue_5 0 rfl rfl)
theorem dX1_byQueue_119 : decode cX1_byQueue 119 = .ok (.aload 8, 2) := dk_25 8 (dk_at dksX1_byQueue_5 3 rfl rfl)
theorem dX1_byQueue_121 : decode cX1_byQueue 121 = .ok (.invokevirtual 392, 3) := dk_182 1 136 (dk_at dksX1_byQueue_5 5 rfl rfl)
theorem dX1_byQueue_124 : decode cX1_byQueue 124 = .ok (.checkcast 385, 3) := dk_192 1 129 (dk_at dksX1_byQueue_5 8 rfl rfl)
theorem dX1_byQueue_127 : decode cX1_byQueue 127 = .ok (.astore 9, 2) := dk_58 9 (dk_at dksX1_byQueue_5 11 rfl rfl)
theorem dX1_byQueue_129 : decode cX1_byQueue 129 = .ok (.aload 7, 2) := dk_25 7 (dk_at dksX1_byQueue_5 13 rfl rfl)
theorem dX1_byQueue_131 : decode cX1_byQueue 131 = .ok (.aload 9, 2) := dk_25 9 (dk_at dksX1_byQueue_5 15 rfl rfl)
theorem dX1_byQueue_133 : decode cX1_byQueue 133 = .ok (.invokevirtual 394, 3) := dk_182 1 138 (dk_at dksX1_byQueue_5 17 rfl rfl)
theorem dX1_byQueue_136 : decode cX1_byQueue 136 = .ok (.invokevirtual 139, 3) := dk_182 0 139 (dk_at dksX1_byQueue_5 20 rfl rfl)
theorem dX1_byQueue_139 : decode cX1_byQueue 139 = .ok (.ifCond .eq 6, 3) := dk_153 0 6 (dk_at dksX1_byQueue_6 0 rfl rfl)
theorem dX1_byQueue_142 : decode cX1_byQueue 142 = .ok (.goto (-31), 3) := dk_167 255 225 (dk_at dksX1_byQueue_6 3 rfl rfl)
theorem dX1_byQueue_145 : decode cX1_byQueue 145 = .ok (.aload 7, 2) := dk_25 7 (dk_at dksX1_byQueue_6 6 rfl rfl)
theorem dX1_byQueue_147 : decode cX1_byQueue 147 = .ok (.aload 9, 2) := dk_25 9 (dk_at dksX1_byQueue_6 8 rfl rfl)
theorem dX1_byQueue_149 : decode cX1_byQueue 149 = .ok (.invokevirtual 394, 3) := dk_182 1 138 (dk_at dksX1_byQueue_6 10 rfl rfl)
theorem dX1_byQueue_152 : decode cX1_byQueue 152 = .ok (.invokevirtual 132, 3) := dk_182 0 132 (dk_at dksX1_byQueue_6 13 rfl rfl)
theorem dX1_byQueue_155 : decode cX1_byQueue 155 = .ok (.aload 9, 2) := dk_25 9 (dk_at dksX1_byQueue_6 16 rfl rfl)
theorem dX1_byQueue_157 : decode cX1_byQueue 157 = .ok (.getfield 397, 3) := dk_180 1 141 (dk_at dksX1_byQueue_6 18 rfl rfl)
theorem dX1_byQueue_160 : decode cX1_byQueue 160 = .ok (.ifnonnull 131, 3) := dk_199 0 131 (dk_at dksX1_byQueue_6 21 rfl rfl)
theorem dX1_byQueue_163 : decode cX1_byQueue 163 = .ok (.aload 4, 2) := dk_25 4 (dk_at dksX1_byQueue_7 0 rfl rfl)
theorem dX1_byQueue_165 : decode cX1_byQueue 165 = .ok (.invokevirtual 398, 3) := dk_182 1 142 (dk_at dksX1_byQueue_7 2 rfl rfl)
theorem dX1_byQueue_168 : decode cX1_byQueue 168 = .ok (.astore 10, 2) := dk_58 10 (dk_at dksX1_byQueue_7 5 rfl rfl)
theorem dX1_byQueue_170 : decode cX1_byQueue 170 = .ok (.aload 10, 2) := dk_25 10 (dk_at dksX1_byQueue_7 7 rfl rfl)
theorem dX1_byQueue_172 : decode cX1_byQueue 172 = .ok (.invokeinterface 295 1, 5) := by decide +kernel
theorem dX1_byQueue_177 : decode cX1_byQueue 177 = .ok (.ifCond .eq 111, 3) := dk_153 0 111 (dk_at dksX1_byQueue_7 14 rfl rfl)
theorem dX1_byQueue_180 : decode cX1_byQueue 180 = .ok (.aload 10, 2) := dk_25 10 (dk_at dksX1_byQueue_7 17 rfl rfl)
theorem dX1_byQueue_182 : decode cX1_byQueue 182 = .ok (.invokeinterface 300 1, 5) := by decide +kernel
theorem dX1_byQueue_187 : decode cX1_byQueue 187 = .ok (.checkcast 280, 3) := dk_192 1 24 (dk_at dksX1_byQueue_8 0 rfl rfl)
theorem dX1_byQueue_190 : decode cX1_byQueue 190 = .ok (.astore 11, 2) := dk_58 11 (dk_at dksX1_byQueue_8 3 rfl rfl)
theorem dX1_byQueue_192 : decode cX1_byQueue 192 = .ok (.iconst 0, 1) := dk_3 (dk_at dksX1_byQueue_8 5 rfl rfl)
theorem dX1_byQueue_193 : decode cX1_byQueue 193 = .ok (.istore 12, 2) := dk_54 12 (dk_at dksX1_byQueue_8 6 rfl rfl)
theorem dX1_byQueue_195 : decode cX1_byQueue 195 = .ok (.iload 12, 2) := dk_21 12 (dk_at dksX1_byQueue_8 8 rfl rfl)
theorem dX1_byQueue_197 : decode cX1_byQueue 197 = .ok (.aload 11, 2) := dk_25 11 (dk_at dksX1_byQueue_8 10 rfl rfl)
theorem dX1_byQueue_199 : decode cX1_byQueue 199 = .ok (.invokevirtual 303, 3) := dk_182 1 47 (dk_at dksX1_byQueue_8 12 rfl rfl)
theorem dX1_byQueue_202 : decode cX1_byQueue 202 = .ok (.iconst 1, 1) := dk_4 (dk_at dksX1_byQueue_8 15 rfl rfl)
theorem dX1_byQueue_203 : decode cX1_byQueue 203 = .ok (.isub, 1) := dk_100 (dk_at dksX1_byQueue_8 16 rfl rfl)
theorem dX1_byQueue_204 : decode cX1_byQueue 204 = .ok (.if_icmp .ge 81, 3) := dk_162 0 81 (dk_at dksX1_byQueue_8 17 rfl rfl)
theorem dX1_byQueue_207 : decode cX1_byQueue 207 = .ok (.aload 11, 2) := dk_25 11 (dk_at dksX1_byQueue_8 20 rfl rfl)
theorem dX1_byQueue_209 : decode cX1_byQueue 209 = .ok (.getfield 399, 3) := dk_180 1 143 (dk_at dksX1_byQueue_9 0 rfl rfl)
theorem dX1_byQueue_212 : decode cX1_byQueue 212 = .ok (.iload 12, 2) := dk_21 12 (dk_at dksX1_byQueue_9 3 rfl rfl)
theorem dX1_byQueue_214 : decode cX1_byQueue 214 = .ok (.iaload, 1) := dk_46 (dk_at dksX1_byQueue_9 5 rfl rfl)
theorem dX1_byQueue_215 : decode cX1_byQueue 215 = .ok (.aload 9, 2) := dk_25 9 (dk_at dksX1_byQueue_9 6 rfl rfl)
theorem dX1_byQueue_217 : decode cX1_byQueue 217 = .ok (.getfield 401, 3) := dk_180 1 145 (dk_at dksX1_byQueue_9 8 rfl rfl)
theorem dX1_byQueue_220 : decode cX1_byQueue 220 = .ok (.if_icmp .ne 59, 3) := dk_160 0 59 (dk_at dksX1_byQueue_9 11 rfl rfl)
theorem dX1_byQueue_223 : decode cX1_byQueue 223 = .ok (.aload 11, 2) := dk_25 11 (dk_at dksX1_byQueue_9 14 rfl rfl)
theorem dX1_byQueue_225 : decode cX1_byQueue 225 = .ok (.iload 12, 2) := dk_21 12 (dk_at dksX1_byQueue_9 16 rfl rfl)
theorem dX1_byQueue_227 : decode cX1_byQueue 227 = .ok (.invokevirtual 306, 3) := dk_182 1 50 (dk_at dksX1_byQueue_9 18 rfl rfl)
theorem dX1_byQueue_230 : decode cX1_byQueue 230 = .ok (.ifCond .eq 49, 3) := dk_153 0 49 (dk_at dksX1_byQueue_9 21 rfl rfl)
theorem dX1_byQueue_233 : decode cX1_byQueue 233 = .ok (.aload 11, 2) := dk_25 11 (dk_at dksX1_byQueue_10 0 rfl rfl)
theorem dX1_byQueue_235 : decode cX1_byQueue 235 = .ok (.getfield 311, 3) := dk_180 1 55 (dk_at dksX1_byQueue_10 2 rfl rfl)
theorem dX1_byQueue_238 : decode cX1_byQueue 238 = .ok (.iload 12, 2) := dk_21 12 (dk_at dksX1_byQueue_10 5 rfl rfl)
theorem dX1_byQueue_240 : decode cX1_byQueue 240 = .ok (.iaload, 1) := dk_46 (dk_at dksX1_byQueue_10 7 rfl rfl)
theorem dX1_byQueue_241 : decode cX1_byQueue 241 = .ok (.aload 9, 2) := dk_25 9 (dk_at dksX1_byQueue_10 8 rfl rfl)
theorem dX1_byQueue_243 : decode cX1_byQueue 243 = .ok (.getfield 403, 3) := dk_180 1 147 (dk_at dksX1_byQueue_10 10 rfl rfl)
theorem dX1_byQueue_246 : decode cX1_byQueue 246 = .ok (.if_icmp .lt 33, 3) := dk_161 0 33 (dk_at dksX1_byQueue_10 13 rfl rfl)
theorem dX1_byQueue_249 : decode cX1_byQueue 249 = .ok (.aload 8, 2) := dk_25 8 (dk_at dksX1_byQueue_10 16 rfl rfl)
theorem dX1_byQueue_251 : decode cX1_byQueue 251 = .ok (.new 385, 3) := dk_187 1 129 (dk_at dksX1_byQueue_10 18 rfl rfl)
theorem dX1_byQueue_254 : decode cX1_byQueue 254 = .ok (.dup, 1) := dk_89 (dk_at dksX1_byQueue_10 21 rfl rfl)
theorem dX1_byQueue_255 : decode cX1_byQueue 255 = .ok (.aload 11, 2) := dk_25 11 (dk_at dksX1_byQueue_10 22 rfl rfl)
theorem dX1_byQueue_257 : decode cX1_byQueue 257 = .ok (.getfield 323, 3) := dk_180 1 67 (dk_at dksX1_byQueue_11 0 rfl rfl)
theorem dX1_byQueue_260 : decode cX1_byQueue 260 = .ok (.iload 12, 2) := dk_21 12 (dk_at dksX1_byQueue_11 3 rfl rfl)
theorem dX1_byQueue_262 : decode cX1_byQueue 262 = .ok (.iconst 1, 1) := dk_4 (dk_at dksX1_byQueue_11 5 rfl rfl)
theorem dX1_byQueue_263 : decode cX1_byQueue 263 = .ok (.iadd, 1) := dk_96 (dk_at dksX1_byQueue_11 6 rfl rfl)
theorem dX1_byQueue_264 : decode cX1_byQueue 264 = .ok (.iaload, 1) := dk_46 (dk_at dksX1_byQueue_11 7 rfl rfl)
theorem dX1_byQueue_265 : decode cX1_byQueue 265 = .ok (.iconst (-1), 1) := dk_2 (dk_at dksX1_byQueue_11 8 rfl rfl)
theorem dX1_byQueue_266 : decode cX1_byQueue 266 = .ok (.aload 11, 2) := dk_25 11 (dk_at dksX1_byQueue_11 9 rfl rfl)
theorem dX1_byQueue_268 : decode cX1_byQueue 268 = .ok (.iload 12, 2) := dk_21 12 (dk_at dksX1_byQueue_11 11 rfl rfl)
theorem dX1_byQueue_270 : decode cX1_byQueue 270 = .ok (.iconst 1, 1) := dk_4 (dk_at dksX1_byQueue_11 13 rfl rfl)
theorem dX1_byQueue_271 : decode cX1_byQueue 271 = .ok (.iadd, 1) := dk_96 (dk_at dksX1_byQueue_11 14 rfl rfl)
theorem dX1_byQueue_272 : decode cX1_byQueue 272 = .ok (.invokespecial 387, 3) := dk_183 1 131 (dk_at dksX1_byQueue_11 15 rfl rfl)
theorem dX1_byQueue_275 : decode cX1_byQueue 275 = .ok (.invokevirtual 390, 3) := dk_182 1 134 (dk_at dksX1_byQueue_11 18 rfl rfl)
theorem dX1_byQueue_278 : decode cX1_byQueue 278 = .ok (.pop, 1) := dk_87 (dk_at dksX1_byQueue_11 21 rfl rfl)
theorem dX1_byQueue_279 : decode cX1_byQueue 279 = .ok (.iinc 12 1, 3) := dk_132 12 1 (dk_at dksX1_byQueue_12 0 rfl rfl)
theorem dX1_byQueue_282 : decode cX1_byQueue 282 = .ok (.goto (-87), 3) := dk_167 255 169 (dk_at dksX1_byQueue_12 3 rfl rfl)
theorem dX1_byQueue_285 : decode cX1_byQueue 285 = .ok (.goto (-115), 3) := dk_167 255 141 (dk_at dksX1_byQueue_12 6 rfl rfl)
theorem dX1_byQueue_288 : decode cX1_byQueue 288 = .ok (.goto 185, 3) := dk_167 0 185 (dk_at dksX1_byQueue_12 9 rfl rfl)
theorem dX1_byQueue_291 : decode cX1_byQueue 291 = .ok (.aload 9, 2) := dk_25 9 (dk_at dksX1_byQueue_12 12 rfl rfl)
theorem dX1_byQueue_293 : decode cX1_byQueue 293 = .ok (.getfield 397, 3) := dk_180 1 141 (dk_at dksX1_byQueue_12 14 rfl rfl)
theorem dX1_byQueue_296 : decode cX1_byQueue 296 = .ok (.getfield 399, 3) := dk_180 1 143 (dk_at dksX1_byQueue_12 17 rfl rfl)
theorem dX1_byQueue_299 : decode cX1_byQueue 299 = .ok (.aload 9, 2) := dk_25 9 (dk_at dksX1_byQueue_12 20 rfl rfl)
theorem dX1_byQueue_301 : decode cX1_byQueue 301 = .ok (.getfield 406, 3) := dk_180 1 150 (dk_at dksX1_byQueue_13 0 rfl rfl)
theorem dX1_byQueue_304 : decode cX1_byQueue 304 = .ok (.iaload, 1) := dk_46 (dk_at dksX1_byQueue_13 3 rfl rfl)
theorem dX1_byQueue_305 : decode cX1_byQueue 305 = .ok (.istore 10, 2) := dk_54 10 (dk_at dksX1_byQueue_13 4 rfl rfl)
theorem dX1_byQueue_307 : decode cX1_byQueue 307 = .ok (.iconst 0, 1) := dk_3 (dk_at dksX1_byQueue_13 6 rfl rfl)
theorem dX1_byQueue_308 : decode cX1_byQueue 308 = .ok (.istore 11, 2) := dk_54 11 (dk_at dksX1_byQueue_13 7 rfl rfl)
theorem dX1_byQueue_310 : decode cX1_byQueue 310 = .ok (.iload 11, 2) := dk_21 11 (dk_at dksX1_byQueue_13 9 rfl rfl)
theorem dX1_byQueue_312 : decode cX1_byQueue 312 = .ok (.aload_n 0, 1) := dk_42 (dk_at dksX1_byQueue_13 11 rfl rfl)
theorem dX1_byQueue_313 : decode cX1_byQueue 313 = .ok (.getfield 68, 3) := dk_180 0 68 (dk_at dksX1_byQueue_13 12 rfl rfl)
theorem dX1_byQueue_316 : decode cX1_byQueue 316 = .ok (.if_icmp .ge 97, 3) := dk_162 0 97 (dk_at dksX1_byQueue_13 15 rfl rfl)
theorem dX1_byQueue_319 : decode cX1_byQueue 319 = .ok (.aload 5, 2) := dk_25 5 (dk_at dksX1_byQueue_13 18 rfl rfl)
theorem dX1_byQueue_321 : decode cX1_byQueue 321 = .ok (.iload 10, 2) := dk_21 10 (dk_at dksX1_byQueue_13 20 rfl rfl)
theorem dX1_byQueue_323 : decode cX1_byQueue 323 = .ok (.aaload, 1) := dk_50 (dk_at dksX1_byQueue_13 22 rfl rfl)
theorem dX1_byQueue_324 : decode cX1_byQueue 324 = .ok (.iload 11, 2) := dk_21 11 (dk_at dksX1_byQueue_14 0 rfl rfl)
theorem dX1_byQueue_326 : decode cX1_byQueue 326 = .ok (.iaload, 1) := dk_46 (dk_at dksX1_byQueue_14 2 rfl rfl)
theorem dX1_byQueue_327 : decode cX1_byQueue 327 = .ok (.ldc 106, 2) := dk_18 106 (dk_at dksX1_byQueue_14 3 rfl rfl)
theorem dX1_byQueue_329 : decode cX1_byQueue 329 = .ok (.if_icmp .ge 78, 3) := dk_162 0 78 (dk_at dksX1_byQueue_14 5 rfl rfl)
theorem dX1_byQueue_332 : decode cX1_byQueue 332 = .ok (.aload 6, 2) := dk_25 6 (dk_at dksX1_byQueue_14 8 rfl rfl)
theorem dX1_byQueue_334 : decode cX1_byQueue 334 = .ok (.iload 11, 2) := dk_21 11 (dk_at dksX1_byQueue_14 10 rfl rfl)
theorem dX1_byQueue_336 : decode cX1_byQueue 336 = .ok (.aload 6, 2) := dk_25 6 (dk_at dksX1_byQueue_14 12 rfl rfl)
theorem dX1_byQueue_338 : decode cX1_byQueue 338 = .ok (.iload 11, 2) := dk_21 11 (dk_at dksX1_byQueue_14 14 rfl rfl)
theorem dX1_byQueue_340 : decode cX1_byQueue 340 = .ok (.iaload, 1) := dk_46 (dk_at dksX1_byQueue_14 16 rfl rfl)
theorem dX1_byQueue_341 : decode cX1_byQueue 341 = .ok (.aload 9, 2) := dk_25 9 (dk_at dksX1_byQueue_14 17 rfl rfl)
theorem dX1_byQueue_343 : decode cX1_byQueue 343 = .ok (.getfield 403, 3) := dk_180 1 147 (dk_at dksX1_byQueue_14 19 rfl rfl)
theorem dX1_byQueue_346 : decode cX1_byQueue 346 = .ok (.aload 5, 2) := dk_25 5 (dk_at dksX1_byQueue_14 22 rfl rfl)
theorem dX1_byQueue_348 : decode cX1_byQueue 348 = .ok (.iload 10, 2) := dk_21 10 (dk_at dksX1_byQueue_15 0 rfl rfl)
theorem dX1_byQueue_350 : decode cX1_byQueue 350 = .ok (.aaload, 1) := dk_50 (dk_at dksX1_byQueue_15 2 rfl rfl)
theorem dX1_byQueue_351 : decode cX1_byQueue 351 = .ok (.iload 11, 2) := dk_21 11 (dk_at dksX1_byQueue_15 3 rfl rfl)
theorem dX1_byQueue_353 : decode cX1_byQueue 353 = .ok (.iaload, 1) := dk_46 (dk_at dksX1_byQueue_15 5 rfl rfl)
theorem dX1_byQueue_354 : decode cX1_byQueue 354 = .ok (.iadd, 1) := dk_96 (dk_at dksX1_byQueue_15 6 rfl rfl)
theorem dX1_byQueue_355 : decode cX1_byQueue 355 = .ok (.invokestatic 107, 3) := dk_184 0 107 (dk_at dksX1_byQueue_15 7 rfl rfl)
theorem dX1_byQueue_358 : decode cX1_byQueue 358 = .ok (.iastore, 1) := dk_79 (dk_at dksX1_byQueue_15 10 rfl rfl)
theorem dX1_byQueue_359 : decode cX1_byQueue 359 = .ok (.aload 8, 2) := dk_25 8 (dk_at dksX1_byQueue_15 11 rfl rfl)
theorem dX1_byQueue_361 : decode cX1_byQueue 361 = .ok (.new 385, 3) := dk_187 1 129 (dk_at dksX1_byQueue_15 13 rfl rfl)
theorem dX1_byQueue_364 : decode cX1_byQueue 364 = .ok (.dup, 1) := dk_89 (dk_at dksX1_byQueue_15 16 rfl rfl)
theorem dX1_byQueue_365 : decode cX1_byQueue 365 = .ok (.aload 9, 2) := dk_25 9 (dk_at dksX1_byQueue_15 17 rfl rfl)
theorem dX1_byQueue_367 : decode cX1_byQueue 367 = .ok (.getfield 403, 3) := dk_180 1 147 (dk_at dksX1_byQueue_15 19 rfl rfl)
theorem dX1_byQueue_370 : decode cX1_byQueue 370 = .ok (.iload 11, 2) := dk_21 11 (dk_at dksX1_byQueue_15 22 rfl rfl)
theorem dX1_byQueue_372 : decode cX1_byQueue 372 = .ok (.iload 10, 2) := dk_21 10 (dk_at dksX1_byQueue_16 0 rfl rfl)
theorem dX1_byQueue_374 : decode cX1_byQueue 374 = .ok (.if_icmp .ne 13, 3) := dk_160 0 13 (dk_at dksX1_byQueue_16 2 rfl rfl)
theorem dX1_byQueue_377 : decode cX1_byQueue 377 = .ok (.aload_n 0, 1) := dk_42 (dk_at dksX1_byQueue_16 5 rfl rfl)
theorem dX1_byQueue_378 : decode cX1_byQueue 378 = .ok (.getfield 9, 3) := dk_180 0 9 (dk_at dksX1_byQueue_16 6 rfl rfl)
theorem dX1_byQueue_381 : decode cX1_byQueue 381 = .ok (.iload 10, 2) := dk_21 10 (dk_at dksX1_byQueue_16 9 rfl rfl)
theorem dX1_byQueue_383 : decode cX1_byQueue 383 = .ok (.iaload, 1) := dk_46 (dk_at dksX1_byQueue_16 11 rfl rfl)
theorem dX1_byQueue_384 : decode cX1_byQueue 384 = .ok (.goto 11, 3) := dk_167 0 11 (dk_at dksX1_byQueue_16 12 rfl rfl)
theorem dX1_byQueue_387 : decode cX1_byQueue 387 = .ok (.aload 5, 2) := dk_25 5 (dk_at dksX1_byQueue_16 15 rfl rfl)
theorem dX1_byQueue_389 : decode cX1_byQueue 389 = .ok (.iload 10, 2) := dk_21 10 (dk_at dksX1_byQueue_16 17 rfl rfl)
theorem dX1_byQueue_391 : decode cX1_byQueue 391 = .ok (.aaload, 1) := dk_50 (dk_at dksX1_byQueue_16 19 rfl rfl)
theorem dX1_byQueue_392 : decode cX1_byQueue 392 = .ok (.iload 11, 2) := dk_21 11 (dk_at dksX1_byQueue_16 20 rfl rfl)
theorem dX1_byQueue_394 : decode cX1_byQueue 394 = .ok (.iaload, 1) := dk_46 (dk_at dksX1_byQueue_16 22 rfl rfl)
theorem dX1_byQueue_395 : decode cX1_byQueue 395 = .ok (.iadd, 1) := dk_96 (dk_at dksX1_byQueue_16 23 rfl rfl)
theorem dX1_byQueue_396 : decode cX1_byQueue 396 = .ok (.iload 11, 2) := dk_21 11 (dk_at dksX1_byQueue_17 0 rfl rfl)
theorem dX1_byQueue_398 : decode cX1_byQueue 398 = .ok (.aconst_null, 1) := dk_1 (dk_at dksX1_byQueue_17 2 rfl rfl)
theorem dX1_byQueue_399 : decode cX1_byQueue 399 = .ok (.iconst 0, 1) := dk_3 (dk_at dksX1_byQueue_17 3 rfl rfl)
theorem dX1_byQueue_400 : decode cX1_byQueue 400 = .ok (.invokespecial 387, 3) := dk_183 1 131 (dk_at dksX1_byQueue_17 4 rfl rfl)
theorem dX1_byQueue_403 : decode cX1_byQueue 403 = .ok (.invokevirtual 390, 3) := dk_182 1 134 (dk_at dksX1_byQueue_17 7 rfl rfl)
theorem dX1_byQueue_406 : decode cX1_byQueue 406 = .ok (.pop, 1) := dk_87 (dk_at dksX1_byQueue_17 10 rfl rfl)
theorem dX1_byQueue_407 : decode cX1_byQueue 407 = .ok (.iinc 11 1, 3) := dk_132 11 1 (dk_at dksX1_byQueue_17 11 rfl rfl)
theorem dX1_byQueue_410 : decode cX1_byQueue 410 = .ok (.goto (-100), 3) := dk_167 255 156 (dk_at dksX1_byQueue_17 14 rfl rfl)
theorem dX1_byQueue_413 : decode cX1_byQueue 413 = .ok (.aload 9, 2) := dk_25 9 (dk_at dksX1_byQueue_17 17 rfl rfl)
theorem dX1_byQueue_415 : decode cX1_byQueue 415 = .ok (.getfield 406, 3) := dk_180 1 150 (dk_at dksX1_byQueue_17 19 rfl rfl)
theorem dX1_byQueue_418 : decode cX1_byQueue 418 = .ok (.aload 9, 2) := dk_25 9 (dk_at dksX1_byQueue_17 22 rfl rfl)
theorem dX1_byQueue_420 : decode cX1_byQueue 420 = .ok (.getfield 397, 3) := dk_180 1 141 (dk_at dksX1_byQueue_18 0 rfl rfl)
theorem dX1_byQueue_423 : decode cX1_byQueue 423 = .ok (.invokevirtual 303, 3) := dk_182 1 47 (dk_at dksX1_byQueue_18 3 rfl rfl)
theorem dX1_byQueue_426 : decode cX1_byQueue 426 = .ok (.iconst 1, 1) := dk_4 (dk_at dksX1_byQueue_18 6 rfl rfl)
theorem dX1_byQueue_427 : decode cX1_byQueue 427 = .ok (.isub, 1) := dk_100 (dk_at dksX1_byQueue_18 7 rfl rfl)
theorem dX1_byQueue_428 : decode cX1_byQueue 428 = .ok (.if_icmp .ge 45, 3) := dk_162 0 45 (dk_at dksX1_byQueue_18 8 rfl rfl)
theorem dX1_byQueue_431 : decode cX1_byQueue 431 = .ok (.aload 8, 2) := dk_25 8 (dk_at dksX1_byQueue_18 11 rfl rfl)
theorem dX1_byQueue_433 : decode cX1_byQueue 433 = .ok (.new 385, 3) := dk_187 1 129 (dk_at dksX1_byQueue_18 13 rfl rfl)
theorem dX1_byQueue_436 : decode cX1_byQueue 436 = .ok (.dup, 1) := dk_89 (dk_at dksX1_byQueue_18 16 rfl rfl)
theorem dX1_byQueue_437 : decode cX1_byQueue 437 = .ok (.aload 9, 2) := dk_25 9 (dk_at dksX1_byQueue_18 17 rfl rfl)
theorem dX1_byQueue_439 : decode cX1_byQueue 439 = .ok (.getfield 397, 3) := dk_180 1 141 (dk_at dksX1_byQueue_18 19 rfl rfl)
theorem dX1_byQueue_442 : decode cX1_byQueue 442 = .ok (.getfield 323, 3) := dk_180 1 67 (dk_at dksX1_byQueue_19 0 rfl rfl)
theorem dX1_byQueue_445 : decode cX1_byQueue 445 = .ok (.aload 9, 2) := dk_25 9 (dk_at dksX1_byQueue_19 3 rfl rfl)
theorem dX1_byQueue_447 : decode cX1_byQueue 447 = .ok (.getfield 406, 3) := dk_180 1 150 (dk_at dksX1_byQueue_19 5 rfl rfl)
theorem dX1_byQueue_450 : decode cX1_byQueue 450 = .ok (.iconst 1, 1) := dk_4 (dk_at dksX1_byQueue_19 8 rfl rfl)
theorem dX1_byQueue_451 : decode cX1_byQueue 451 = .ok (.iadd, 1) := dk_96 (dk_at dksX1_byQueue_19 9 rfl rfl)
theorem dX1_byQueue_452 : decode cX1_byQueue 452 = .ok (.iaload, 1) := dk_46 (dk_at dksX1_byQueue_19 10 rfl rfl)
theorem dX1_byQueue_453 : decode cX1_byQueue 453 = .ok (.iconst (-1), 1) := dk_2 (dk_at dksX1_byQueue_19 11 rfl rfl)
theorem dX1_byQueue_454 : decode cX1_byQueue 454 = .ok (.aload 9, 2) := dk_25 9 (dk_at dksX1_byQueue_19 12 rfl rfl)
theorem dX1_byQueue_456 : decode cX1_byQueue 456 = .ok (.getfield 397, 3) := dk_180 1 141 (dk_at dksX1_byQueue_19 14 rfl rfl)
theorem dX1_byQueue_459 : decode cX1_byQueue 459 = .ok (.aload 9, 2) := dk_25 9 (dk_at dksX1_byQueue_19 17 rfl rfl)
theorem dX1_byQueue_461 : decode cX1_byQueue 461 = .ok (.getfield 406, 3) := dk_180 1 150 (dk_at dksX1_byQueue_19 19 rfl rfl)
theorem dX1_byQueue_464 : decode cX1_byQueue 464 = .ok (.iconst 1, 1) := dk_4 (dk_at dksX1_byQueue_19 22 rfl rfl)
theorem dX1_byQueue_465 : decode cX1_byQueue 465 = .ok (.iadd, 1) := dk_96 (dk_at dksX1_byQueue_19 23 rfl rfl)
theorem dX1_byQueue_466 : decode cX1_byQueue 466 = .ok (.invokespecial 387, 3) := dk_183 1 131 (dk_at dksX1_byQueue_20 0 rfl rfl)
theorem dX1_byQueue_469 : decode cX1_byQueue 469 = .ok (.invokevirtual 390, 3) := dk_182 1 134 (dk_at dksX1_byQueue_20 3 rfl rfl)
theorem dX1_byQueue_472 : decode cX1_byQueue 472 = .ok (.pop, 1) := dk_87 (dk_at dksX1_byQueue_20 6 rfl rfl)
theorem dX1_byQueue_473 : decode cX1_byQueue 473 = .ok (.goto (-362), 3) := dk_167 254 150 (dk_at dksX1_byQueue_20 7 rfl rfl)
theorem dX1_byQueue_476 : decode cX1_byQueue 476 = .ok (.aload 6, 2) := dk_25 6 (dk_at dksX1_byQueue_20 10 rfl rfl)
theorem dX1_byQueue_478 : decode cX1_byQueue 478 = .ok (.areturn, 1) := dk_176 (dk_at dksX1_byQueue_20 12 rfl rfl)
abbrev cX1_earliestByRounds : ByteArray := prog_1_method_56_code
def yX1_earliestByRounds : MethodName := ⟨RX1, "earliestByRounds", "(IIII)I"⟩
def dkwX1_earliestByRounds_1 : List UInt8 := [25, 5, 25, 5, 182, 0, 71, 4, 100, 182, 0, 79, 192, 1, 80, 180, 1, 116, 28, 46, 184, 1, 117, 172]
abbrev dktX1_earliestByRounds_1 : List UInt8 := dkwX1_earliestByRounds_1 ++ []
def dkwX1_earliestByRounds_0 : List UInt8 := [42, 27, 28, 29, 21, 4, 182, 1, 109, 42, 42, 29, 182, 1, 98, 27, 21, 4, 182, 1, 163, 58, 5]
abbrev dktX1_earliestByRounds_0 : List UInt8 := dkwX1_earliestByRounds_0 ++ dktX1_earliestByRounds_1
theorem dksX1_earliestByRounds_0 : cX1_earliestByRounds.data.toList.drop 0 = dktX1_earliestByRounds_0 := by decide +kernel
theorem dksX1_earliestByRounds_1 : cX1_earliestByRounds.data.toList.drop 23 = dktX1_earliestByRounds_1 := dk_seg dksX1_earliestByRounds_0 23 rfl rfl
theorem dX1_earliestByRounds_0 : decode cX1_earliestByRounds 0 = .ok (.aload_n 0, 1) := dk_42 (dk_at dksX1_earliestByRounds_0 0 rfl rfl)
theorem dX1_earliestByRounds_1 : decode cX1_earliestByRounds 1 = .ok (.iload_n 1, 1) := dk_27 (dk_at dksX1_earliestByRounds_0 1 rfl rfl)
theorem dX1_earliestByRounds_2 : decode cX1_earliestByRounds 2 = .ok (.iload_n 2, 1) := dk_28 (dk_at dksX1_earliestByRounds_0 2 rfl rfl)
theorem dX1_earliestByRounds_3 : decode cX1_earliestByRounds 3 = .ok (.iload_n 3, 1) := dk_29 (dk_at dksX1_earliestByRounds_0 3 rfl rfl)
theorem dX1_earliestByRounds_4 : decode cX1_earliestByRounds 4 = .ok (.iload 4, 2) := dk_21 4 (dk_at dksX1_earliestByRounds_0 4 rfl rfl)
theorem dX1_earliestByRounds_6 : decode cX1_earliestByRounds 6 = .ok (.invokevirtual 365, 3) := dk_182 1 109 (dk_at dksX1_earliestByRounds_0 6 rfl rfl)
theorem dX1_earliestByRounds_9 : decode cX1_earliestByRounds 9 = .ok (.aload_n 0, 1) := dk_42 (dk_at dksX1_earliestByRounds_0 9 rfl rfl)
theorem dX1_earliestByRounds_10 : decode cX1_earliestByRounds 10 = .ok (.aload_n 0, 1) := dk_42 (dk_at dksX1_earliestByRounds_0 10 rfl rfl)
theorem dX1_earliestByRounds_11 : decode cX1_earliestByRounds 11 = .ok (.iload_n 3, 1) := dk_29 (dk_at dksX1_earliestByRounds_0 11 rfl rfl)
theorem dX1_earliestByRounds_12 : decode cX1_earliestByRounds 12 = .ok (.invokevirtual 354, 3) := dk_182 1 98 (dk_at dksX1_earliestByRounds_0 12 rfl rfl)
theorem dX1_earliestByRounds_15 : decode cX1_earliestByRounds 15 = .ok (.iload_n 1, 1) := dk_27 (dk_at dksX1_earliestByRounds_0 15 rfl rfl)
theorem dX1_earliestByRounds_16 : decode cX1_earliestByRounds 16 = .ok (.iload 4, 2) := dk_21 4 (dk_at dksX1_earliestByRounds_0 16 rfl rfl)
theorem dX1_earliestByRounds_18 : decode cX1_earliestByRounds 18 = .ok (.invokevirtual 419, 3) := dk_182 1 163 (dk_at dksX1_earliestByRounds_0 18 rfl rfl)
theorem dX1_earliestByRounds_21 : decode cX1_earliestByRounds 21 = .ok (.astore 5, 2) := dk_58 5 (dk_at dksX1_earliestByRounds_0 21 rfl rfl)
theorem dX1_earliestByRounds_23 : decode cX1_earliestByRounds 23 = .ok (.aload 5, 2) := dk_25 5 (dk_at dksX1_earliestByRounds_1 0 rfl rfl)
theorem dX1_earliestByRounds_25 : decode cX1_earliestByRounds 25 = .ok (.aload 5, 2) := dk_25 5 (dk_at dksX1_earliestByRounds_1 2 rfl rfl)
theorem dX1_earliestByRounds_27 : decode cX1_earliestByRounds 27 = .ok (.invokevirtual 71, 3) := dk_182 0 71 (dk_at dksX1_earliestByRounds_1 4 rfl rfl)
theorem dX1_earliestByRounds_30 : decode cX1_earliestByRounds 30 = .ok (.iconst 1, 1) := dk_4 (dk_at dksX1_earliestByRounds_1 7 rfl rfl)
theorem dX1_earliestByRounds_31 : decode cX1_earliestByRounds 31 = .ok (.isub, 1) := dk_100 (dk_at dksX1_earliestByRounds_1 8 rfl rfl)
theorem dX1_earliestByRounds_32 : decode cX1_earliestByRounds 32 = .ok (.invokevirtual 79, 3) := dk_182 0 79 (dk_at dksX1_earliestByRounds_1 9 rfl rfl)
theorem dX1_earliestByRounds_35 : decode cX1_earliestByRounds 35 = .ok (.checkcast 336, 3) := dk_192 1 80 (dk_at dksX1_earliestByRounds_1 12 rfl rfl)
theorem dX1_earliestByRounds_38 : decode cX1_earliestByRounds 38 = .ok (.getfield 372, 3) := dk_180 1 116 (dk_at dksX1_earliestByRounds_1 15 rfl rfl)
theorem dX1_earliestByRounds_41 : decode cX1_earliestByRounds 41 = .ok (.iload_n 2, 1) := dk_28 (dk_at dksX1_earliestByRounds_1 18 rfl rfl)
theorem dX1_earliestByRounds_42 : decode cX1_earliestByRounds 42 = .ok (.iaload, 1) := dk_46 (dk_at dksX1_earliestByRounds_1 19 rfl rfl)
theorem dX1_earliestByRounds_43 : decode cX1_earliestByRounds 43 = .ok (.invokestatic 373, 3) := dk_184 1 117 (dk_at dksX1_earliestByRounds_1 20 rfl rfl)
theorem dX1_earliestByRounds_46 : decode cX1_earliestByRounds 46 = .ok (.ireturn, 1) := dk_172 (dk_at dksX1_earliestByRounds_1 23 rfl rfl)
abbrev cX1_rounds : ByteArray := prog_1_method_55_code
def yX1_rounds : MethodName := ⟨RX1, "rounds", "(Ljava/util/List;II)Ljava/util/ArrayList;"⟩
def dkwX1_rounds_7 : List UInt8 := [54, 6, 21, 6, 153, 0, 11, 25, 4, 25, 8, 182, 0, 121, 87, 167, 255, 124, 25, 4, 176]
abbrev dktX1_rounds_7 : List UInt8 := dkwX1_rounds_7 ++ []
def dkwX1_rounds_6 : List UInt8 := [25, 10, 21, 12, 182, 1, 79, 128, 54, 11, 132, 12, 1, 167, 255, 215, 167, 255, 184, 25, 8, 180, 1, 159]
abbrev dktX1_rounds_6 : List UInt8 := dkwX1_rounds_6 ++ dktX1_rounds_7
def dkwX1_rounds_5 : List UInt8 := [182, 1, 47, 162, 0, 37, 21, 11, 153, 0, 12, 25, 8, 25, 10, 21, 12, 182, 1, 84, 21, 11, 25, 7]
abbrev dktX1_rounds_5 : List UInt8 := dkwX1_rounds_5 ++ dktX1_rounds_6
def dkwX1_rounds_4 : List UInt8 := [25, 9, 185, 1, 44, 1, 0, 192, 1, 24, 58, 10, 3, 54, 11, 3, 54, 12, 21, 12, 25, 10]
abbrev dktX1_rounds_4 : List UInt8 := dkwX1_rounds_4 ++ dktX1_rounds_5
def dkwX1_rounds_3 : List UInt8 := [182, 1, 155, 58, 8, 43, 185, 1, 33, 1, 0, 58, 9, 25, 9, 185, 1, 39, 1, 0, 153, 0, 68]
abbrev dktX1_rounds_3 : List UInt8 := dkwX1_rounds_3 ++ dktX1_rounds_4
def dkwX1_rounds_2 : List UInt8 := [153, 0, 133, 25, 4, 25, 4, 182, 0, 71, 4, 100, 182, 0, 79, 192, 1, 80, 58, 7, 25, 7]
abbrev dktX1_rounds_2 : List UInt8 := dkwX1_rounds_2 ++ dktX1_rounds_3
def dkwX1_rounds_1 : List UInt8 := [58, 5, 25, 5, 28, 29, 182, 1, 91, 25, 4, 25, 5, 182, 0, 121, 87, 4, 54, 6, 21, 6]
abbrev dktX1_rounds_1 : List UInt8 := dkwX1_rounds_1 ++ dktX1_rounds_2
def dkwX1_rounds_0 : List UInt8 := [187, 0, 18, 89, 183, 0, 20, 58, 4, 187, 1, 80, 89, 42, 2, 42, 2, 182, 0, 113, 183, 1, 88]
abbrev dktX1_rounds_0 : List UInt8 := dkwX1_rounds_0 ++ dktX1_rounds_1
theorem dksX1_rounds_0 : cX1_rounds.data.toList.drop 0 = dktX1_rounds_0 := by decide +kernel
theorem dksX1_rounds_1 : cX1_rounds.data.toList.drop 23 = dktX1_rounds_1 := dk_seg dksX1_rounds_0 23 rfl rfl
theorem dksX1_rounds_2 : cX1_rounds.data.toList.drop 45 = dktX1_rounds_2 := dk_seg dksX1_rounds_1 22 rfl rfl
theorem dksX1_rounds_3 : cX1_rounds.data.toList.drop 67 = dktX1_rounds_3 := dk_seg dksX1_rounds_2 22 rfl rfl
theorem dksX1_rounds_4 : cX1_rounds.data.toList.drop 90 = dktX1_rounds_4 := dk_seg dksX1_rounds_3 23 rfl rfl
theorem dksX1_rounds_5 : cX1_rounds.data.toList.drop 112 = dktX1_rounds_5 := dk_seg dksX1_rounds_4 22 rfl rfl
theorem dksX1_rounds_6 : cX1_rounds.data.toList.drop 136 = dktX1_rounds_6 := dk_seg dksX1_rounds_5 24 rfl rfl
theorem dksX1_rounds_7 : cX1_rounds.data.toList.drop 160 = dktX1_rounds_7 := dk_seg dksX1_rounds_6 24 rfl rfl
theorem dX1_rounds_0 : decode cX1_rounds 0 = .ok (.new 18, 3) := dk_187 0 18 (dk_at dksX1_rounds_0 0 rfl rfl)
theorem dX1_rounds_3 : decode cX1_rounds 3 = .ok (.dup, 1) := dk_89 (dk_at dksX1_rounds_0 3 rfl rfl)
theorem dX1_rounds_4 : decode cX1_rounds 4 = .ok (.invokespecial 20, 3) := dk_183 0 20 (dk_at dksX1_rounds_0 4 rfl rfl)
theorem dX1_rounds_7 : decode cX1_rounds 7 = .ok (.astore 4, 2) := dk_58 4 (dk_at dksX1_rounds_0 7 rfl rfl)
theorem dX1_rounds_9 : decode cX1_rounds 9 = .ok (.new 336, 3) := dk_187 1 80 (dk_at dksX1_rounds_0 9 rfl rfl)
theorem dX1_rounds_12 : decode cX1_rounds 12 = .ok (.dup, 1) := dk_89 (dk_at dksX1_rounds_0 12 rfl rfl)
theorem dX1_rounds_13 : decode cX1_rounds 13 = .ok (.aload_n 0, 1) := dk_42 (dk_at dksX1_rounds_0 13 rfl rfl)
theorem dX1_rounds_14 : decode cX1_rounds 14 = .ok (.iconst (-1), 1) := dk_2 (dk_at dksX1_rounds_0 14 rfl rfl)
theorem dX1_rounds_15 : decode cX1_rounds 15 = .ok (.aload_n 0, 1) := dk_42 (dk_at dksX1_rounds_0 15 rfl rfl)
theorem dX1_rounds_16 : decode cX1_rounds 16 = .ok (.iconst (-1), 1) := dk_2 (dk_at dksX1_rounds_0 16 rfl rfl)
theorem dX1_rounds_17 : decode cX1_rounds 17 = .ok (.invokevirtual 113, 3) := dk_182 0 113 (dk_at dksX1_rounds_0 17 rfl rfl)
theorem dX1_rounds_20 : decode cX1_rounds 20 = .ok (.invokespecial 344, 3) := dk_183 1 88 (dk_at dksX1_rounds_0 20 rfl rfl)
theorem dX1_rounds_23 : decode cX1_rounds 23 = .ok (.astore 5, 2) := dk_58 5 (dk_at dksX1_rounds_1 0 rfl rfl)
theorem dX1_rounds_25 : decode cX1_rounds 25 = .ok (.aload 5, 2) := dk_25 5 (dk_at dksX1_rounds_1 2 rfl rfl)
theorem dX1_rounds_27 : decode cX1_rounds 27 = .ok (.iload_n 2, 1) := dk_28 (dk_at dksX1_rounds_1 4 rfl rfl)
theorem dX1_rounds_28 : decode cX1_rounds 28 = .ok (.iload_n 3, 1) := dk_29 (dk_at dksX1_rounds_1 5 rfl rfl)
theorem dX1_rounds_29 : decode cX1_rounds 29 = .ok (.invokevirtual 347, 3) := dk_182 1 91 (dk_at dksX1_rounds_1 6 rfl rfl)
theorem dX1_rounds_32 : decode cX1_rounds 32 = .ok (.aload 4, 2) := dk_25 4 (dk_at dksX1_rounds_1 9 rfl rfl)
theorem dX1_rounds_34 : decode cX1_rounds 34 = .ok (.aload 5, 2) := dk_25 5 (dk_at dksX1_rounds_1 11 rfl rfl)
theorem dX1_rounds_36 : decode cX1_rounds 36 = .ok (.invokevirtual 121, 3) := dk_182 0 121 (dk_at dksX1_rounds_1 13 rfl rfl)
theorem dX1_rounds_39 : decode cX1_rounds 39 = .ok (.pop, 1) := dk_87 (dk_at dksX1_rounds_1 16 rfl rfl)
theorem dX1_rounds_40 : decode cX1_rounds 40 = .ok (.iconst 1, 1) := dk_4 (dk_at dksX1_rounds_1 17 rfl rfl)
theorem dX1_rounds_41 : decode cX1_rounds 41 = .ok (.istore 6, 2) := dk_54 6 (dk_at dksX1_rounds_1 18 rfl rfl)
theorem dX1_rounds_43 : decode cX1_rounds 43 = .ok (.iload 6, 2) := dk_21 6 (dk_at dksX1_rounds_1 20 rfl rfl)
theorem dX1_rounds_45 : decode cX1_rounds 45 = .ok (.ifCond .eq 133, 3) := dk_153 0 133 (dk_at dksX1_rounds_2 0 rfl rfl)
theorem dX1_rounds_48 : decode cX1_rounds 48 = .ok (.aload 4, 2) := dk_25 4 (dk_at dksX1_rounds_2 3 rfl rfl)
theorem dX1_rounds_50 : decode cX1_rounds 50 = .ok (.aload 4, 2) := dk_25 4 (dk_at dksX1_rounds_2 5 rfl rfl)
theorem dX1_rounds_52 : decode cX1_rounds 52 = .ok (.invokevirtual 71, 3) := dk_182 0 71 (dk_at dksX1_rounds_2 7 rfl rfl)
theorem dX1_rounds_55 : decode cX1_rounds 55 = .ok (.iconst 1, 1) := dk_4 (dk_at dksX1_rounds_2 10 rfl rfl)
theorem dX1_rounds_56 : decode cX1_rounds 56 = .ok (.isub, 1) := dk_100 (dk_at dksX1_rounds_2 11 rfl rfl)
theorem dX1_rounds_57 : decode cX1_rounds 57 = .ok (.invokevirtual 79, 3) := dk_182 0 79 (dk_at dksX1_rounds_2 12 rfl rfl)
theorem dX1_rounds_60 : decode cX1_rounds 60 = .ok (.checkcast 336, 3) := dk_192 1 80 (dk_at dksX1_rounds_2 15 rfl rfl)
theorem dX1_rounds_63 : decode cX1_rounds 63 = .ok (.astore 7, 2) := dk_58 7 (dk_at dksX1_rounds_2 18 rfl rfl)
theorem dX1_rounds_65 : decode cX1_rounds 65 = .ok (.aload 7, 2) := dk_25 7 (dk_at dksX1_rounds_2 20 rfl rfl)
theorem dX1_rounds_67 : decode cX1_rounds 67 = .ok (.invokevirtual 411, 3) := dk_182 1 155 (dk_at dksX1_rounds_3 0 rfl rfl)
theorem dX1_rounds_70 : decode cX1_rounds 70 = .ok (.astore 8, 2) := dk_58 8 (dk_at dksX1_rounds_3 3 rfl rfl)
theorem dX1_rounds_72 : decode cX1_rounds 72 = .ok (.aload_n 1, 1) := dk_43 (dk_at dksX1_rounds_3 5 rfl rfl)
theorem dX1_rounds_73 : decode cX1_rounds 73 = .ok (.invokeinterface 289 1, 5) := by decide +kernel
theorem dX1_rounds_78 : decode cX1_rounds 78 = .ok (.astore 9, 2) := dk_58 9 (dk_at dksX1_rounds_3 11 rfl rfl)
theorem dX1_rounds_80 : decode cX1_rounds 80 = .ok (.aload 9, 2) := dk_25 9 (dk_at dksX1_rounds_3 13 rfl rfl)
theorem dX1_rounds_82 : decode cX1_rounds 82 = .ok (.invokeinterface 295 1, 5) := by decide +kernel
theorem dX1_rounds_87 : decode cX1_rounds 87 = .ok (.ifCond .eq 68, 3) := dk_153 0 68 (dk_at dksX1_rounds_3 20 rfl rfl)
theorem dX1_rounds_90 : decode cX1_rounds 90 = .ok (.aload 9, 2) := dk_25 9 (dk_at dksX1_rounds_4 0 rfl rfl)
theorem dX1_rounds_92 : decode cX1_rounds 92 = .ok (.invokeinterface 300 1, 5) := by decide +kernel
theorem dX1_rounds_97 : decode cX1_rounds 97 = .ok (.checkcast 280, 3) := dk_192 1 24 (dk_at dksX1_rounds_4 7 rfl rfl)
theorem dX1_rounds_100 : decode cX1_rounds 100 = .ok (.astore 10, 2) := dk_58 10 (dk_at dksX1_rounds_4 10 rfl rfl)
theorem dX1_rounds_102 : decode cX1_rounds 102 = .ok (.iconst 0, 1) := dk_3 (dk_at dksX1_rounds_4 12 rfl rfl)
theorem dX1_rounds_103 : decode cX1_rounds 103 = .ok (.istore 11, 2) := dk_54 11 (dk_at dksX1_rounds_4 13 rfl rfl)
theorem dX1_rounds_105 : decode cX1_rounds 105 = .ok (.iconst 0, 1) := dk_3 (dk_at dksX1_rounds_4 15 rfl rfl)
theorem dX1_rounds_106 : decode cX1_rounds 106 = .ok (.istore 12, 2) := dk_54 12 (dk_at dksX1_rounds_4 16 rfl rfl)
theorem dX1_rounds_108 : decode cX1_rounds 108 = .ok (.iload 12, 2) := dk_21 12 (dk_at dksX1_rounds_4 18 rfl rfl)
theorem dX1_rounds_110 : decode cX1_rounds 110 = .ok (.aload 10, 2) := dk_25 10 (dk_at dksX1_rounds_4 20 rfl rfl)
theorem dX1_rounds_112 : decode cX1_rounds 112 = .ok (.invokevirtual 303, 3) := dk_182 1 47 (dk_at dksX1_rounds_5 0 rfl rfl)
theorem dX1_rounds_115 : decode cX1_rounds 115 = .ok (.if_icmp .ge 37, 3) := dk_162 0 37 (dk_at dksX1_rounds_5 3 rfl rfl)
theorem dX1_rounds_118 : decode cX1_rounds 118 = .ok (.iload 11, 2) := dk_21 11 (dk_at dksX1_rounds_5 6 rfl rfl)
theorem dX1_rounds_120 : decode cX1_rounds 120 = .ok (.ifCond .eq 12, 3) := dk_153 0 12 (dk_at dksX1_rounds_5 8 rfl rfl)
theorem dX1_rounds_123 : decode cX1_rounds 123 = .ok (.aload 8, 2) := dk_25 8 (dk_at dksX1_rounds_5 11 rfl rfl)
theorem dX1_rounds_125 : decode cX1_rounds 125 = .ok (.aload 10, 2) := dk_25 10 (dk_at dksX1_rounds_5 13 rfl rfl)
theorem dX1_rounds_127 : decode cX1_rounds 127 = .ok (.iload 12, 2) := dk_21 12 (dk_at dksX1_rounds_5 15 rfl rfl)
theorem dX1_rounds_129 : decode cX1_rounds 129 = .ok (.invokevirtual 340, 3) := dk_182 1 84 (dk_at dksX1_rounds_5 17 rfl rfl)
theorem dX1_rounds_132 : decode cX1_rounds 132 = .ok (.iload 11, 2) := dk_21 11 (dk_at dksX1_rounds_5 20 rfl rfl)
theorem dX1_rounds_134 : decode cX1_rounds 134 = .ok (.aload 7, 2) := dk_25 7 (dk_at dksX1_rounds_5 22 rfl rfl)
theorem dX1_rounds_136 : decode cX1_rounds 136 = .ok (.aload 10, 2) := dk_25 10 (dk_at dksX1_rounds_6 0 rfl rfl)
theorem dX1_rounds_138 : decode cX1_rounds 138 = .ok (.iload 12, 2) := dk_21 12 (dk_at dksX1_rounds_6 2 rfl rfl)
theorem dX1_rounds_140 : decode cX1_rounds 140 = .ok (.invokevirtual 335, 3) := dk_182 1 79 (dk_at dksX1_rounds_6 4 rfl rfl)
theorem dX1_rounds_143 : decode cX1_rounds 143 = .ok (.ior, 1) := dk_128 (dk_at dksX1_rounds_6 7 rfl rfl)
theorem dX1_rounds_144 : decode cX1_rounds 144 = .ok (.istore 11, 2) := dk_54 11 (dk_at dksX1_rounds_6 8 rfl rfl)
theorem dX1_rounds_146 : decode cX1_rounds 146 = .ok (.iinc 12 1, 3) := dk_132 12 1 (dk_at dksX1_rounds_6 10 rfl rfl)
theorem dX1_rounds_149 : decode cX1_rounds 149 = .ok (.goto (-41), 3) := dk_167 255 215 (dk_at dksX1_rounds_6 13 rfl rfl)
theorem dX1_rounds_152 : decode cX1_rounds 152 = .ok (.goto (-72), 3) := dk_167 255 184 (dk_at dksX1_rounds_6 16 rfl rfl)
theorem dX1_rounds_155 : decode cX1_rounds 155 = .ok (.aload 8, 2) := dk_25 8 (dk_at dksX1_rounds_6 19 rfl rfl)
theorem dX1_rounds_157 : decode cX1_rounds 157 = .ok (.getfield 415, 3) := dk_180 1 159 (dk_at dksX1_rounds_6 21 rfl rfl)
theorem dX1_rounds_160 : decode cX1_rounds 160 = .ok (.istore 6, 2) := dk_54 6 (dk_at dksX1_rounds_7 0 rfl rfl)
theorem dX1_rounds_162 : decode cX1_rounds 162 = .ok (.iload 6, 2) := dk_21 6 (dk_at dksX1_rounds_7 2 rfl rfl)
theorem dX1_rounds_164 : decode cX1_rounds 164 = .ok (.ifCond .eq 11, 3) := dk_153 0 11 (dk_at dksX1_rounds_7 4 rfl rfl)
theorem dX1_rounds_167 : decode cX1_rounds 167 = .ok (.aload 4, 2) := dk_25 4 (dk_at dksX1_rounds_7 7 rfl rfl)
theorem dX1_rounds_169 : decode cX1_rounds 169 = .ok (.aload 8, 2) := dk_25 8 (dk_at dksX1_rounds_7 9 rfl rfl)
theorem dX1_rounds_171 : decode cX1_rounds 171 = .ok (.invokevirtual 121, 3) := dk_182 0 121 (dk_at dksX1_rounds_7 11 rfl rfl)
theorem dX1_rounds_174 : decode cX1_rounds 174 = .ok (.pop, 1) := dk_87 (dk_at dksX1_rounds_7 14 rfl rfl)
theorem dX1_rounds_175 : decode cX1_rounds 175 = .ok (.goto (-132), 3) := dk_167 255 124 (dk_at dksX1_rounds_7 15 rfl rfl)
theorem dX1_rounds_178 : decode cX1_rounds 178 = .ok (.aload 4, 2) := dk_25 4 (dk_at dksX1_rounds_7 18 rfl rfl)
theorem dX1_rounds_180 : decode cX1_rounds 180 = .ok (.areturn, 1) := dk_176 (dk_at dksX1_rounds_7 20 rfl rfl)
abbrev cX1_wall : ByteArray := prog_1_method_57_code
def yX1_wall : MethodName := ⟨RX1, "wall", "(IIII)I"⟩
def dkwX1_wall_4 : List UInt8 := [54, 6, 132, 7, 1, 167, 255, 218, 21, 6, 172]
abbrev dktX1_wall_4 : List UInt8 := dkwX1_wall_4 ++ []
def dkwX1_wall_3 : List UInt8 := [21, 6, 25, 5, 180, 1, 116, 21, 7, 46, 21, 4, 162, 0, 10, 4, 21, 7, 120, 167, 0, 4, 3, 128]
abbrev dktX1_wall_3 : List UInt8 := dkwX1_wall_3 ++ dktX1_wall_4
def dkwX1_wall_2 : List UInt8 := [27, 28, 29, 182, 1, 113, 58, 5, 3, 54, 6, 3, 54, 7, 21, 7, 42, 180, 0, 68, 162, 0, 35]
abbrev dktX1_wall_2 : List UInt8 := dkwX1_wall_2 ++ dktX1_wall_3
def dkwX1_wall_1 : List UInt8 := [153, 0, 19, 21, 4, 3, 17, 16, 223, 184, 0, 64, 153, 0, 7, 4, 167, 0, 4, 3, 184, 0, 96, 42]
abbrev dktX1_wall_1 : List UInt8 := dkwX1_wall_1 ++ dktX1_wall_2
def dkwX1_wall_0 : List UInt8 := [42, 27, 182, 0, 102, 184, 0, 75, 28, 184, 0, 129, 153, 0, 30, 29, 3, 17, 5, 159, 184, 0, 64]
abbrev dktX1_wall_0 : List UInt8 := dkwX1_wall_0 ++ dktX1_wall_1
theorem dksX1_wall_0 : cX1_wall.data.toList.drop 0 = dktX1_wall_0 := by decide +kernel
theorem dksX1_wall_1 : cX1_wall.data.toList.drop 23 = dktX1_wall_1 := dk_seg dksX1_wall_0 23 rfl rfl
theorem dksX1_wall_2 : cX1_wall.data.toList.drop 47 = dktX1_wall_2 := dk_seg dksX1_wall_1 24 rfl rfl
theorem dksX1_wall_3 : cX1_wall.data.toList.drop 70 = dktX1_wall_3 := dk_seg dksX1_wall_2 23 rfl rfl
theorem dksX1_wall_4 : cX1_wall.data.toList.drop 94 = dktX1_wall_4 := dk_seg dksX1_wall_3 24 rfl rfl
theorem dX1_wall_0 : decode cX1_wall 0 = .ok (.aload_n 0, 1) := dk_42 (dk_at dksX1_wall_0 0 rfl rfl)
theorem dX1_wall_1 : decode cX1_wall 1 = .ok (.iload_n 1, 1) := dk_27 (dk_at dksX1_wall_0 1 rfl rfl)
theorem dX1_wall_2 : decode cX1_wall 2 = .ok (.invokevirtual 102, 3) := dk_182 0 102 (dk_at dksX1_wall_0 2 rfl rfl)
theorem dX1_wall_5 : decode cX1_wall 5 = .ok (.invokestatic 75, 3) := dk_184 0 75 (dk_at dksX1_wall_0 5 rfl rfl)
theorem dX1_wall_8 : decode cX1_wall 8 = .ok (.iload_n 2, 1) := dk_28 (dk_at dksX1_wall_0 8 rfl rfl)
theorem dX1_wall_9 : decode cX1_wall 9 = .ok (.invokestatic 129, 3) := dk_184 0 129 (dk_at dksX1_wall_0 9 rfl rfl)
theorem dX1_wall_12 : decode cX1_wall 12 = .ok (.ifCond .eq 30, 3) := dk_153 0 30 (dk_at dksX1_wall_0 12 rfl rfl)
theorem dX1_wall_15 : decode cX1_wall 15 = .ok (.iload_n 3, 1) := dk_29 (dk_at dksX1_wall_0 15 rfl rfl)
theorem dX1_wall_16 : decode cX1_wall 16 = .ok (.iconst 0, 1) := dk_3 (dk_at dksX1_wall_0 16 rfl rfl)
theorem dX1_wall_17 : decode cX1_wall 17 = .ok (.sipush 1439, 3) := dk_17 5 159 (dk_at dksX1_wall_0 17 rfl rfl)
theorem dX1_wall_20 : decode cX1_wall 20 = .ok (.invokestatic 64, 3) := dk_184 0 64 (dk_at dksX1_wall_0 20 rfl rfl)
theorem dX1_wall_23 : decode cX1_wall 23 = .ok (.ifCond .eq 19, 3) := dk_153 0 19 (dk_at dksX1_wall_1 0 rfl rfl)
theorem dX1_wall_26 : decode cX1_wall 26 = .ok (.iload 4, 2) := dk_21 4 (dk_at dksX1_wall_1 3 rfl rfl)
theorem dX1_wall_28 : decode cX1_wall 28 = .ok (.iconst 0, 1) := dk_3 (dk_at dksX1_wall_1 5 rfl rfl)
theorem dX1_wall_29 : decode cX1_wall 29 = .ok (.sipush 4319, 3) := dk_17 16 223 (dk_at dksX1_wall_1 6 rfl rfl)
theorem dX1_wall_32 : decode cX1_wall 32 = .ok (.invokestatic 64, 3) := dk_184 0 64 (dk_at dksX1_wall_1 9 rfl rfl)
theorem dX1_wall_35 : decode cX1_wall 35 = .ok (.ifCond .eq 7, 3) := dk_153 0 7 (dk_at dksX1_wall_1 12 rfl rfl)
theorem dX1_wall_38 : decode cX1_wall 38 = .ok (.iconst 1, 1) := dk_4 (dk_at dksX1_wall_1 15 rfl rfl)
theorem dX1_wall_39 : decode cX1_wall 39 = .ok (.goto 4, 3) := dk_167 0 4 (dk_at dksX1_wall_1 16 rfl rfl)
theorem dX1_wall_42 : decode cX1_wall 42 = .ok (.iconst 0, 1) := dk_3 (dk_at dksX1_wall_1 19 rfl rfl)
theorem dX1_wall_43 : decode cX1_wall 43 = .ok (.invokestatic 96, 3) := dk_184 0 96 (dk_at dksX1_wall_1 20 rfl rfl)
theorem dX1_wall_46 : decode cX1_wall 46 = .ok (.aload_n 0, 1) := dk_42 (dk_at dksX1_wall_1 23 rfl rfl)
theorem dX1_wall_47 : decode cX1_wall 47 = .ok (.iload_n 1, 1) := dk_27 (dk_at dksX1_wall_2 0 rfl rfl)
theorem dX1_wall_48 : decode cX1_wall 48 = .ok (.iload_n 2, 1) := dk_28 (dk_at dksX1_wall_2 1 rfl rfl)
theorem dX1_wall_49 : decode cX1_wall 49 = .ok (.iload_n 3, 1) := dk_29 (dk_at dksX1_wall_2 2 rfl rfl)
theorem dX1_wall_50 : decode cX1_wall 50 = .ok (.invokevirtual 369, 3) := dk_182 1 113 (dk_at dksX1_wall_2 3 rfl rfl)
theorem dX1_wall_53 : decode cX1_wall 53 = .ok (.astore 5, 2) := dk_58 5 (dk_at dksX1_wall_2 6 rfl rfl)
theorem dX1_wall_55 : decode cX1_wall 55 = .ok (.iconst 0, 1) := dk_3 (dk_at dksX1_wall_2 8 rfl rfl)
theorem dX1_wall_56 : decode cX1_wall 56 = .ok (.istore 6, 2) := dk_54 6 (dk_at dksX1_wall_2 9 rfl rfl)
theorem dX1_wall_58 : decode cX1_wall 58 = .ok (.iconst 0, 1) := dk_3 (dk_at dksX1_wall_2 11 rfl rfl)
theorem dX1_wall_59 : decode cX1_wall 59 = .ok (.istore 7, 2) := dk_54 7 (dk_at dksX1_wall_2 12 rfl rfl)
theorem dX1_wall_61 : decode cX1_wall 61 = .ok (.iload 7, 2) := dk_21 7 (dk_at dksX1_wall_2 14 rfl rfl)
theorem dX1_wall_63 : decode cX1_wall 63 = .ok (.aload_n 0, 1) := dk_42 (dk_at dksX1_wall_2 16 rfl rfl)
theorem dX1_wall_64 : decode cX1_wall 64 = .ok (.getfield 68, 3) := dk_180 0 68 (dk_at dksX1_wall_2 17 rfl rfl)
theorem dX1_wall_67 : decode cX1_wall 67 = .ok (.if_icmp .ge 35, 3) := dk_162 0 35 (dk_at dksX1_wall_2 20 rfl rfl)
theorem dX1_wall_70 : decode cX1_wall 70 = .ok (.iload 6, 2) := dk_21 6 (dk_at dksX1_wall_3 0 rfl rfl)
theorem dX1_wall_72 : decode cX1_wall 72 = .ok (.aload 5, 2) := dk_25 5 (dk_at dksX1_wall_3 2 rfl rfl)
theorem dX1_wall_74 : decode cX1_wall 74 = .ok (.getfield 372, 3) := dk_180 1 116 (dk_at dksX1_wall_3 4 rfl rfl)
theorem dX1_wall_77 : decode cX1_wall 77 = .ok (.iload 7, 2) := dk_21 7 (dk_at dksX1_wall_3 7 rfl rfl)
theorem dX1_wall_79 : decode cX1_wall 79 = .ok (.iaload, 1) := dk_46 (dk_at dksX1_wall_3 9 rfl rfl)
theorem dX1_wall_80 : decode cX1_wall 80 = .ok (.iload 4, 2) := dk_21 4 (dk_at dksX1_wall_3 10 rfl rfl)
theorem dX1_wall_82 : decode cX1_wall 82 = .ok (.if_icmp .ge 10, 3) := dk_162 0 10 (dk_at dksX1_wall_3 12 rfl rfl)
theorem dX1_wall_85 : decode cX1_wall 85 = .ok (.iconst 1, 1) := dk_4 (dk_at dksX1_wall_3 15 rfl rfl)
theorem dX1_wall_86 : decode cX1_wall 86 = .ok (.iload 7, 2) := dk_21 7 (dk_at dksX1_wall_3 16 rfl rfl)
theorem dX1_wall_88 : decode cX1_wall 88 = .ok (.ishl, 1) := dk_120 (dk_at dksX1_wall_3 18 rfl rfl)
theorem dX1_wall_89 : decode cX1_wall 89 = .ok (.goto 4, 3) := dk_167 0 4 (dk_at dksX1_wall_3 19 rfl rfl)
theorem dX1_wall_92 : decode cX1_wall 92 = .ok (.iconst 0, 1) := dk_3 (dk_at dksX1_wall_3 22 rfl rfl)
theorem dX1_wall_93 : decode cX1_wall 93 = .ok (.ior, 1) := dk_128 (dk_at dksX1_wall_3 23 rfl rfl)
theorem dX1_wall_94 : decode cX1_wall 94 = .ok (.istore 6, 2) := dk_54 6 (dk_at dksX1_wall_4 0 rfl rfl)
theorem dX1_wall_96 : decode cX1_wall 96 = .ok (.iinc 7 1, 3) := dk_132 7 1 (dk_at dksX1_wall_4 2 rfl rfl)
theorem dX1_wall_99 : decode cX1_wall 99 = .ok (.goto (-38), 3) := dk_167 255 218 (dk_at dksX1_wall_4 5 rfl rfl)
theorem dX1_wall_102 : decode cX1_wall 102 = .ok (.iload 6, 2) := dk_21 6 (dk_at dksX1_wall_4 8 rfl rfl)
theorem dX1_wall_104 : decode cX1_wall 104 = .ok (.ireturn, 1) := dk_172 (dk_at dksX1_wall_4 10 rfl rfl)
abbrev cX1_last : ByteArray := prog_1_method_60_code
def yX1_last : MethodName := ⟨RX1, "last", "(IIII)I"⟩
def dkwX1_last_3 : List UInt8 := [54, 5, 21, 5, 155, 0, 7, 4, 167, 0, 4, 3, 184, 0, 117, 21, 5, 172]
abbrev dktX1_last_3 : List UInt8 := dkwX1_last_3 ++ []
def dkwX1_last_2 : List UInt8 := [184, 0, 96, 42, 42, 29, 182, 1, 98, 184, 1, 183, 42, 2, 182, 0, 113, 27, 28, 21, 4, 182, 1, 186]
abbrev dktX1_last_2 : List UInt8 := dkwX1_last_2 ++ dktX1_last_3
def dkwX1_last_1 : List UInt8 := [29, 184, 0, 129, 153, 0, 19, 21, 4, 3, 17, 11, 63, 184, 0, 64, 153, 0, 7, 4, 167, 0, 4, 3]
abbrev dktX1_last_1 : List UInt8 := dkwX1_last_1 ++ dktX1_last_2
def dkwX1_last_0 : List UInt8 := [42, 27, 182, 0, 102, 153, 0, 15, 42, 28, 182, 0, 102, 153, 0, 7, 4, 167, 0, 4, 3, 184, 0, 75]
abbrev dktX1_last_0 : List UInt8 := dkwX1_last_0 ++ dktX1_last_1
theorem dksX1_last_0 : cX1_last.data.toList.drop 0 = dktX1_last_0 := by decide +kernel
theorem dksX1_last_1 : cX1_last.data.toList.drop 24 = dktX1_last_1 := dk_seg dksX1_last_0 24 rfl rfl
theorem dksX1_last_2 : cX1_last.data.toList.drop 48 = dktX1_last_2 := dk_seg dksX1_last_1 24 rfl rfl
theorem dksX1_last_3 : cX1_last.data.toList.drop 72 = dktX1_last_3 := dk_seg dksX1_last_2 24 rfl rfl
theorem dX1_last_0 : decode cX1_last 0 = .ok (.aload_n 0, 1) := dk_42 (dk_at dksX1_last_0 0 rfl rfl)
theorem dX1_last_1 : decode cX1_last 1 = .ok (.iload_n 1, 1) := dk_27 (dk_at dksX1_last_0 1 rfl rfl)
theorem dX1_last_2 : decode cX1_last 2 = .ok (.invokevirtual 102, 3) := dk_182 0 102 (dk_at dksX1_last_0 2 rfl rfl)
theorem dX1_last_5 : decode cX1_last 5 = .ok (.ifCond .eq 15, 3) := dk_153 0 15 (dk_at dksX1_last_0 5 rfl rfl)
theorem dX1_last_8 : decode cX1_last 8 = .ok (.aload_n 0, 1) := dk_42 (dk_at dksX1_last_0 8 rfl rfl)
theorem dX1_last_9 : decode cX1_last 9 = .ok (.iload_n 2, 1) := dk_28 (dk_at dksX1_last_0 9 rfl rfl)
theorem dX1_last_10 : decode cX1_last 10 = .ok (.invokevirtual 102, 3) := dk_182 0 102 (dk_at dksX1_last_0 10 rfl rfl)
theorem dX1_last_13 : decode cX1_last 13 = .ok (.ifCond .eq 7, 3) := dk_153 0 7 (dk_at dksX1_last_0 13 rfl rfl)
theorem dX1_last_16 : decode cX1_last 16 = .ok (.iconst 1, 1) := dk_4 (dk_at dksX1_last_0 16 rfl rfl)
theorem dX1_last_17 : decode cX1_last 17 = .ok (.goto 4, 3) := dk_167 0 4 (dk_at dksX1_last_0 17 rfl rfl)
theorem dX1_last_20 : decode cX1_last 20 = .ok (.iconst 0, 1) := dk_3 (dk_at dksX1_last_0 20 rfl rfl)
theorem dX1_last_21 : decode cX1_last 21 = .ok (.invokestatic 75, 3) := dk_184 0 75 (dk_at dksX1_last_0 21 rfl rfl)
theorem dX1_last_24 : decode cX1_last 24 = .ok (.iload_n 3, 1) := dk_29 (dk_at dksX1_last_1 0 rfl rfl)
theorem dX1_last_25 : decode cX1_last 25 = .ok (.invokestatic 129, 3) := dk_184 0 129 (dk_at dksX1_last_1 1 rfl rfl)
theorem dX1_last_28 : decode cX1_last 28 = .ok (.ifCond .eq 19, 3) := dk_153 0 19 (dk_at dksX1_last_1 4 rfl rfl)
theorem dX1_last_31 : decode cX1_last 31 = .ok (.iload 4, 2) := dk_21 4 (dk_at dksX1_last_1 7 rfl rfl)
theorem dX1_last_33 : decode cX1_last 33 = .ok (.iconst 0, 1) := dk_3 (dk_at dksX1_last_1 9 rfl rfl)
theorem dX1_last_34 : decode cX1_last 34 = .ok (.sipush 2879, 3) := dk_17 11 63 (dk_at dksX1_last_1 10 rfl rfl)
theorem dX1_last_37 : decode cX1_last 37 = .ok (.invokestatic 64, 3) := dk_184 0 64 (dk_at dksX1_last_1 13 rfl rfl)
theorem dX1_last_40 : decode cX1_last 40 = .ok (.ifCond .eq 7, 3) := dk_153 0 7 (dk_at dksX1_last_1 16 rfl rfl)
theorem dX1_last_43 : decode cX1_last 43 = .ok (.iconst 1, 1) := dk_4 (dk_at dksX1_last_1 19 rfl rfl)
theorem dX1_last_44 : decode cX1_last 44 = .ok (.goto 4, 3) := dk_167 0 4 (dk_at dksX1_last_1 20 rfl rfl)
theorem dX1_last_47 : decode cX1_last 47 = .ok (.iconst 0, 1) := dk_3 (dk_at dksX1_last_1 23 rfl rfl)
theorem dX1_last_48 : decode cX1_last 48 = .ok (.invokestatic 96, 3) := dk_184 0 96 (dk_at dksX1_last_2 0 rfl rfl)
theorem dX1_last_51 : decode cX1_last 51 = .ok (.aload_n 0, 1) := dk_42 (dk_at dksX1_last_2 3 rfl rfl)
theorem dX1_last_52 : decode cX1_last 52 = .ok (.aload_n 0, 1) := dk_42 (dk_at dksX1_last_2 4 rfl rfl)
theorem dX1_last_53 : decode cX1_last 53 = .ok (.iload_n 3, 1) := dk_29 (dk_at dksX1_last_2 5 rfl rfl)
theorem dX1_last_54 : decode cX1_last 54 = .ok (.invokevirtual 354, 3) := dk_182 1 98 (dk_at dksX1_last_2 6 rfl rfl)
theorem dX1_last_57 : decode cX1_last 57 = .ok (.invokestatic 439, 3) := dk_184 1 183 (dk_at dksX1_last_2 9 rfl rfl)
theorem dX1_last_60 : decode cX1_last 60 = .ok (.aload_n 0, 1) := dk_42 (dk_at dksX1_last_2 12 rfl rfl)
theorem dX1_last_61 : decode cX1_last 61 = .ok (.iconst (-1), 1) := dk_2 (dk_at dksX1_last_2 13 rfl rfl)
theorem dX1_last_62 : decode cX1_last 62 = .ok (.invokevirtual 113, 3) := dk_182 0 113 (dk_at dksX1_last_2 14 rfl rfl)
theorem dX1_last_65 : decode cX1_last 65 = .ok (.iload_n 1, 1) := dk_27 (dk_at dksX1_last_2 17 rfl rfl)
theorem dX1_last_66 : decode cX1_last 66 = .ok (.iload_n 2, 1) := dk_28 (dk_at dksX1_last_2 18 rfl rfl)
theorem dX1_last_67 : decode cX1_last 67 = .ok (.iload 4, 2) := dk_21 4 (dk_at dksX1_last_2 19 rfl rfl)
theorem dX1_last_69 : decode cX1_last 69 = .ok (.invokevirtual 442, 3) := dk_182 1 186 (dk_at dksX1_last_2 21 rfl rfl)
theorem dX1_last_72 : decode cX1_last 72 = .ok (.istore 5, 2) := dk_54 5 (dk_at dksX1_last_3 0 rfl rfl)
theorem dX1_last_74 : decode cX1_last 74 = .ok (.iload 5, 2) := dk_21 5 (dk_at dksX1_last_3 2 rfl rfl)
theorem dX1_last_76 : decode cX1_last 76 = .ok (.ifCond .lt 7, 3) := dk_155 0 7 (dk_at dksX1_last_3 4 rfl rfl)
theorem dX1_last_79 : decode cX1_last 79 = .ok (.iconst 1, 1) := dk_4 (dk_at dksX1_last_3 7 rfl rfl)
theorem dX1_last_80 : decode cX1_last 80 = .ok (.goto 4, 3) := dk_167 0 4 (dk_at dksX1_last_3 8 rfl rfl)
theorem dX1_last_83 : decode cX1_last 83 = .ok (.iconst 0, 1) := dk_3 (dk_at dksX1_last_3 11 rfl rfl)
theorem dX1_last_84 : decode cX1_last 84 = .ok (.invokestatic 117, 3) := dk_184 0 117 (dk_at dksX1_last_3 12 rfl rfl)
theorem dX1_last_87 : decode cX1_last 87 = .ok (.iload 5, 2) := dk_21 5 (dk_at dksX1_last_3 15 rfl rfl)
theorem dX1_last_89 : decode cX1_last 89 = .ok (.ireturn, 1) := dk_172 (dk_at dksX1_last_3 17 rfl rfl)
abbrev cX1_byArrivalsBackward : ByteArray := prog_1_method_46_code
def yX1_byArrivalsBackward : MethodName := ⟨RX1, "byArrivalsBackward", "(Ljava/util/List;)Ljava/util/ArrayList;"⟩
def dkwX1_byArrivalsBackward_4 : List UInt8 := [176]
abbrev dktX1_byArrivalsBackward_4 : List UInt8 := dkwX1_byArrivalsBackward_4 ++ []
def dkwX1_byArrivalsBackward_3 : List UInt8 := [96, 46, 116, 183, 1, 58, 182, 0, 121, 87, 132, 4, 1, 167, 255, 208, 167, 255, 183, 43, 184, 1, 61, 43]
abbrev dktX1_byArrivalsBackward_3 : List UInt8 := dkwX1_byArrivalsBackward_3 ++ dktX1_byArrivalsBackward_4
def dkwX1_byArrivalsBackward_2 : List UInt8 := [45, 21, 4, 182, 1, 50, 153, 0, 28, 43, 187, 1, 53, 89, 45, 21, 4, 45, 180, 1, 67, 21, 4, 4]
abbrev dktX1_byArrivalsBackward_2 : List UInt8 := dkwX1_byArrivalsBackward_2 ++ dktX1_byArrivalsBackward_3
def dkwX1_byArrivalsBackward_1 : List UInt8 := [44, 185, 1, 44, 1, 0, 192, 1, 24, 78, 3, 54, 4, 21, 4, 45, 182, 1, 47, 4, 100, 162, 0, 43]
abbrev dktX1_byArrivalsBackward_1 : List UInt8 := dkwX1_byArrivalsBackward_1 ++ dktX1_byArrivalsBackward_2
def dkwX1_byArrivalsBackward_0 : List UInt8 := [187, 0, 18, 89, 183, 0, 20, 76, 42, 185, 1, 33, 1, 0, 77, 44, 185, 1, 39, 1, 0, 153, 0, 70]
abbrev dktX1_byArrivalsBackward_0 : List UInt8 := dkwX1_byArrivalsBackward_0 ++ dktX1_byArrivalsBackward_1
theorem dksX1_byArrivalsBackward_0 : cX1_byArrivalsBackward.data.toList.drop 0 = dktX1_byArrivalsBackward_0 := by decide +kernel
theorem dksX1_byArrivalsBackward_1 : cX1_byArrivalsBackward.data.toList.drop 24 = dktX1_byArrivalsBackward_1 := dk_seg dksX1_byArrivalsBackward_0 24 rfl rfl
theorem dksX1_byArrivalsBackward_2 : cX1_byArrivalsBackward.data.toList.drop 48 = dktX1_byArrivalsBackward_2 := dk_seg dksX1_byArrivalsBackward_1 24 rfl rfl
theorem dksX1_byArrivalsBackward_3 : cX1_byArrivalsBackward.data.toList.drop 72 = dktX1_byArrivalsBackward_3 := dk_seg dksX1_byArrivalsBackward_2 24 rfl rfl
theorem dksX1_byArrivalsBackward_4 : cX1_byArrivalsBackward.data.toList.drop 96 = dktX1_byArrivalsBackward_4 := dk_seg dksX1_byArrivalsBackward_3 24 rfl rfl
theorem dX1_byArrivalsBackward_0 : decode cX1_byArrivalsBackward 0 = .ok (.new 18, 3) := dk_187 0 18 (dk_at dksX1_byArrivalsBackward_0 0 rfl rfl)
theorem dX1_byArrivalsBackward_3 : decode cX1_byArrivalsBackward 3 = .ok (.dup, 1) := dk_89 (dk_at dksX1_byArrivalsBackward_0 3 rfl rfl)
theorem dX1_byArrivalsBackward_4 : decode cX1_byArrivalsBackward 4 = .ok (.invokespecial 20, 3) := dk_183 0 20 (dk_at dksX1_byArrivalsBackward_0 4 rfl rfl)
theorem dX1_byArrivalsBackward_7 : decode cX1_byArrivalsBackward 7 = .ok (.astore_n 1, 1) := dk_76 (dk_at dksX1_byArrivalsBackward_0 7 rfl rfl)
theorem dX1_byArrivalsBackward_8 : decode cX1_byArrivalsBackward 8 = .ok (.aload_n 0, 1) := dk_42 (dk_at dksX1_byArrivalsBackward_0 8 rfl rfl)
theorem dX1_byArrivalsBackward_9 : decode cX1_byArrivalsBackward 9 = .ok (.invokeinterface 289 1, 5) := by decide +kernel
theorem dX1_byArrivalsBackward_14 : decode cX1_byArrivalsBackward 14 = .ok (.astore_n 2, 1) := dk_77 (dk_at dksX1_byArrivalsBackward_0 14 rfl rfl)
theorem dX1_byArrivalsBackward_15 : decode cX1_byArrivalsBackward 15 = .ok (.aload_n 2, 1) := dk_44 (dk_at dksX1_byArrivalsBackward_0 15 rfl rfl)
theorem dX1_byArrivalsBackward_16 : decode cX1_byArrivalsBackward 16 = .ok (.invokeinterface 295 1, 5) := by decide +kernel
theorem dX1_byArrivalsBackward_21 : decode cX1_byArrivalsBackward 21 = .ok (.ifCond .eq 70, 3) := dk_153 0 70 (dk_at dksX1_byArrivalsBackward_0 21 rfl rfl)
theorem dX1_byArrivalsBackward_24 : decode cX1_byArrivalsBackward 24 = .ok (.aload_n 2, 1) := dk_44 (dk_at dksX1_byArrivalsBackward_1 0 rfl rfl)
theorem dX1_byArrivalsBackward_25 : decode cX1_byArrivalsBackward 25 = .ok (.invokeinterface 300 1, 5) := by decide +kernel
theorem dX1_byArrivalsBackward_30 : decode cX1_byArrivalsBackward 30 = .ok (.checkcast 280, 3) := dk_192 1 24 (dk_at dksX1_byArrivalsBackward_1 6 rfl rfl)
theorem dX1_byArrivalsBackward_33 : decode cX1_byArrivalsBackward 33 = .ok (.astore_n 3, 1) := dk_78 (dk_at dksX1_byArrivalsBackward_1 9 rfl rfl)
theorem dX1_byArrivalsBackward_34 : decode cX1_byArrivalsBackward 34 = .ok (.iconst 0, 1) := dk_3 (dk_at dksX1_byArrivalsBackward_1 10 rfl rfl)
theorem dX1_byArrivalsBackward_35 : decode cX1_byArrivalsBackward 35 = .ok (.istore 4, 2) := dk_54 4 (dk_at dksX1_byArrivalsBackward_1 11 rfl rfl)
theorem dX1_byArrivalsBackward_37 : decode cX1_byArrivalsBackward 37 = .ok (.iload 4, 2) := dk_21 4 (dk_at dksX1_byArrivalsBackward_1 13 rfl rfl)
theorem dX1_byArrivalsBackward_39 : decode cX1_byArrivalsBackward 39 = .ok (.aload_n 3, 1) := dk_45 (dk_at dksX1_byArrivalsBackward_1 15 rfl rfl)
theorem dX1_byArrivalsBackward_40 : decode cX1_byArrivalsBackward 40 = .ok (.invokevirtual 303, 3) := dk_182 1 47 (dk_at dksX1_byArrivalsBackward_1 16 rfl rfl)
theorem dX1_byArrivalsBackward_43 : decode cX1_byArrivalsBackward 43 = .ok (.iconst 1, 1) := dk_4 (dk_at dksX1_byArrivalsBackward_1 19 rfl rfl)
theorem dX1_byArrivalsBackward_44 : decode cX1_byArrivalsBackward 44 = .ok (.isub, 1) := dk_100 (dk_at dksX1_byArrivalsBackward_1 20 rfl rfl)
theorem dX1_byArrivalsBackward_45 : decode cX1_byArrivalsBackward 45 = .ok (.if_icmp .ge 43, 3) := dk_162 0 43 (dk_at dksX1_byArrivalsBackward_1 21 rfl rfl)
theorem dX1_byArrivalsBackward_48 : decode cX1_byArrivalsBackward 48 = .ok (.aload_n 3, 1) := dk_45 (dk_at dksX1_byArrivalsBackward_2 0 rfl rfl)
theorem dX1_byArrivalsBackward_49 : decode cX1_byArrivalsBackward 49 = .ok (.iload 4, 2) := dk_21 4 (dk_at dksX1_byArrivalsBackward_2 1 rfl rfl)
theorem dX1_byArrivalsBackward_51 : decode cX1_byArrivalsBackward 51 = .ok (.invokevirtual 306, 3) := dk_182 1 50 (dk_at dksX1_byArrivalsBackward_2 3 rfl rfl)
theorem dX1_byArrivalsBackward_54 : decode cX1_byArrivalsBackward 54 = .ok (.ifCond .eq 28, 3) := dk_153 0 28 (dk_at dksX1_byArrivalsBackward_2 6 rfl rfl)
theorem dX1_byArrivalsBackward_57 : decode cX1_byArrivalsBackward 57 = .ok (.aload_n 1, 1) := dk_43 (dk_at dksX1_byArrivalsBackward_2 9 rfl rfl)
theorem dX1_byArrivalsBackward_58 : decode cX1_byArrivalsBackward 58 = .ok (.new 309, 3) := dk_187 1 53 (dk_at dksX1_byArrivalsBackward_2 10 rfl rfl)
theorem dX1_byArrivalsBackward_61 : decode cX1_byArrivalsBackward 61 = .ok (.dup, 1) := dk_89 (dk_at dksX1_byArrivalsBackward_2 13 rfl rfl)
theorem dX1_byArrivalsBackward_62 : decode cX1_byArrivalsBackward 62 = .ok (.aload_n 3, 1) := dk_45 (dk_at dksX1_byArrivalsBackward_2 14 rfl rfl)
theorem dX1_byArrivalsBackward_63 : decode cX1_byArrivalsBackward 63 = .ok (.iload 4, 2) := dk_21 4 (dk_at dksX1_byArrivalsBackward_2 15 rfl rfl)
theorem dX1_byArrivalsBackward_65 : decode cX1_byArrivalsBackward 65 = .ok (.aload_n 3, 1) := dk_45 (dk_at dksX1_byArrivalsBackward_2 17 rfl rfl)
theorem dX1_byArrivalsBackward_66 : decode cX1_byArrivalsBackward 66 = .ok (.getfield 323, 3) := dk_180 1 67 (dk_at dksX1_byArrivalsBackward_2 18 rfl rfl)
theorem dX1_byArrivalsBackward_69 : decode cX1_byArrivalsBackward 69 = .ok (.iload 4, 2) := dk_21 4 (dk_at dksX1_byArrivalsBackward_2 21 rfl rfl)
theorem dX1_byArrivalsBackward_71 : decode cX1_byArrivalsBackward 71 = .ok (.iconst 1, 1) := dk_4 (dk_at dksX1_byArrivalsBackward_2 23 rfl rfl)
theorem dX1_byArrivalsBackward_72 : decode cX1_byArrivalsBackward 72 = .ok (.iadd, 1) := dk_96 (dk_at dksX1_byArrivalsBackward_3 0 rfl rfl)
theorem dX1_byArrivalsBackward_73 : decode cX1_byArrivalsBackward 73 = .ok (.iaload, 1) := dk_46 (dk_at dksX1_byArrivalsBackward_3 1 rfl rfl)
theorem dX1_byArrivalsBackward_74 : decode cX1_byArrivalsBackward 74 = .ok (.ineg, 1) := dk_116 (dk_at dksX1_byArrivalsBackward_3 2 rfl rfl)
theorem dX1_byArrivalsBackward_75 : decode cX1_byArrivalsBackward 75 = .ok (.invokespecial 314, 3) := dk_183 1 58 (dk_at dksX1_byArrivalsBackward_3 3 rfl rfl)
theorem dX1_byArrivalsBackward_78 : decode cX1_byArrivalsBackward 78 = .ok (.invokevirtual 121, 3) := dk_182 0 121 (dk_at dksX1_byArrivalsBackward_3 6 rfl rfl)
theorem dX1_byArrivalsBackward_81 : decode cX1_byArrivalsBackward 81 = .ok (.pop, 1) := dk_87 (dk_at dksX1_byArrivalsBackward_3 9 rfl rfl)
theorem dX1_byArrivalsBackward_82 : decode cX1_byArrivalsBackward 82 = .ok (.iinc 4 1, 3) := dk_132 4 1 (dk_at dksX1_byArrivalsBackward_3 10 rfl rfl)
theorem dX1_byArrivalsBackward_85 : decode cX1_byArrivalsBackward 85 = .ok (.goto (-48), 3) := dk_167 255 208 (dk_at dksX1_byArrivalsBackward_3 13 rfl rfl)
theorem dX1_byArrivalsBackward_88 : decode cX1_byArrivalsBackward 88 = .ok (.goto (-73), 3) := dk_167 255 183 (dk_at dksX1_byArrivalsBackward_3 16 rfl rfl)
theorem dX1_byArrivalsBackward_91 : decode cX1_byArrivalsBackward 91 = .ok (.aload_n 1, 1) := dk_43 (dk_at dksX1_byArrivalsBackward_3 19 rfl rfl)
theorem dX1_byArrivalsBackward_92 : decode cX1_byArrivalsBackward 92 = .ok (.invokestatic 317, 3) := dk_184 1 61 (dk_at dksX1_byArrivalsBackward_3 20 rfl rfl)
theorem dX1_byArrivalsBackward_95 : decode cX1_byArrivalsBackward 95 = .ok (.aload_n 1, 1) := dk_43 (dk_at dksX1_byArrivalsBackward_3 23 rfl rfl)
theorem dX1_byArrivalsBackward_96 : decode cX1_byArrivalsBackward 96 = .ok (.areturn, 1) := dk_176 (dk_at dksX1_byArrivalsBackward_4 0 rfl rfl)
abbrev cX1_lastBy : ByteArray := prog_1_method_59_code
def yX1_lastBy : MethodName := ⟨RX1, "lastBy", "(Ljava/util/List;[[IIII)I"⟩
def dkwX1_lastBy_4 : List UInt8 := [21, 7, 172]
abbrev dktX1_lastBy_4 : List UInt8 := dkwX1_lastBy_4 ++ []
def dkwX1_lastBy_3 : List UInt8 := [44, 29, 50, 21, 8, 46, 100, 184, 1, 176, 167, 0, 5, 21, 7, 54, 7, 132, 8, 1, 167, 255, 209]
abbrev dktX1_lastBy_3 : List UInt8 := dkwX1_lastBy_3 ++ dktX1_lastBy_4
def dkwX1_lastBy_2 : List UInt8 := [180, 0, 68, 162, 0, 44, 44, 29, 50, 21, 8, 46, 18, 106, 162, 0, 23, 21, 7, 25, 6, 21, 8, 46]
abbrev dktX1_lastBy_2 : List UInt8 := dkwX1_lastBy_2 ++ dktX1_lastBy_3
def dkwX1_lastBy_1 : List UInt8 := [21, 5, 44, 29, 50, 21, 4, 46, 100, 167, 0, 6, 19, 1, 167, 54, 7, 3, 54, 8, 21, 8, 42]
abbrev dktX1_lastBy_1 : List UInt8 := dkwX1_lastBy_1 ++ dktX1_lastBy_2
def dkwX1_lastBy_0 : List UInt8 := [42, 43, 44, 21, 4, 21, 5, 182, 1, 179, 58, 6, 44, 29, 50, 21, 4, 46, 18, 106, 162, 0, 15]
abbrev dktX1_lastBy_0 : List UInt8 := dkwX1_lastBy_0 ++ dktX1_lastBy_1
theorem dksX1_lastBy_0 : cX1_lastBy.data.toList.drop 0 = dktX1_lastBy_0 := by decide +kernel
theorem dksX1_lastBy_1 : cX1_lastBy.data.toList.drop 23 = dktX1_lastBy_1 := dk_seg dksX1_lastBy_0 23 rfl rfl
theorem dksX1_lastBy_2 : cX1_lastBy.data.toList.drop 46 = dktX1_lastBy_2 := dk_seg dksX1_lastBy_1 23 rfl rfl
theorem dksX1_lastBy_3 : cX1_lastBy.data.toList.drop 70 = dktX1_lastBy_3 := dk_seg dksX1_lastBy_2 24 rfl rfl
theorem dksX1_lastBy_4 : cX1_lastBy.data.toList.drop 93 = dktX1_lastBy_4 := dk_seg dksX1_lastBy_3 23 rfl rfl
theorem dX1_lastBy_0 : decode cX1_lastBy 0 = .ok (.aload_n 0, 1) := dk_42 (dk_at dksX1_lastBy_0 0 rfl rfl)
theorem dX1_lastBy_1 : decode cX1_lastBy 1 = .ok (.aload_n 1, 1) := dk_43 (dk_at dksX1_lastBy_0 1 rfl rfl)
theorem dX1_lastBy_2 : decode cX1_lastBy 2 = .ok (.aload_n 2, 1) := dk_44 (dk_at dksX1_lastBy_0 2 rfl rfl)
theorem dX1_lastBy_3 : decode cX1_lastBy 3 = .ok (.iload 4, 2) := dk_21 4 (dk_at dksX1_lastBy_0 3 rfl rfl)
theorem dX1_lastBy_5 : decode cX1_lastBy 5 = .ok (.iload 5, 2) := dk_21 5 (dk_at dksX1_lastBy_0 5 rfl rfl)
theorem dX1_lastBy_7 : decode cX1_lastBy 7 = .ok (.invokevirtual 435, 3) := dk_182 1 179 (dk_at dksX1_lastBy_0 7 rfl rfl)
theorem dX1_lastBy_10 : decode cX1_lastBy 10 = .ok (.astore 6, 2) := dk_58 6 (dk_at dksX1_lastBy_0 10 rfl rfl)
theorem dX1_lastBy_12 : decode cX1_lastBy 12 = .ok (.aload_n 2, 1) := dk_44 (dk_at dksX1_lastBy_0 12 rfl rfl)
theorem dX1_lastBy_13 : decode cX1_lastBy 13 = .ok (.iload_n 3, 1) := dk_29 (dk_at dksX1_lastBy_0 13 rfl rfl)
theorem dX1_lastBy_14 : decode cX1_lastBy 14 = .ok (.aaload, 1) := dk_50 (dk_at dksX1_lastBy_0 14 rfl rfl)
theorem dX1_lastBy_15 : decode cX1_lastBy 15 = .ok (.iload 4, 2) := dk_21 4 (dk_at dksX1_lastBy_0 15 rfl rfl)
theorem dX1_lastBy_17 : decode cX1_lastBy 17 = .ok (.iaload, 1) := dk_46 (dk_at dksX1_lastBy_0 17 rfl rfl)
theorem dX1_lastBy_18 : decode cX1_lastBy 18 = .ok (.ldc 106, 2) := dk_18 106 (dk_at dksX1_lastBy_0 18 rfl rfl)
theorem dX1_lastBy_20 : decode cX1_lastBy 20 = .ok (.if_icmp .ge 15, 3) := dk_162 0 15 (dk_at dksX1_lastBy_0 20 rfl rfl)
theorem dX1_lastBy_23 : decode cX1_lastBy 23 = .ok (.iload 5, 2) := dk_21 5 (dk_at dksX1_lastBy_1 0 rfl rfl)
theorem dX1_lastBy_25 : decode cX1_lastBy 25 = .ok (.aload_n 2, 1) := dk_44 (dk_at dksX1_lastBy_1 2 rfl rfl)
theorem dX1_lastBy_26 : decode cX1_lastBy 26 = .ok (.iload_n 3, 1) := dk_29 (dk_at dksX1_lastBy_1 3 rfl rfl)
theorem dX1_lastBy_27 : decode cX1_lastBy 27 = .ok (.aaload, 1) := dk_50 (dk_at dksX1_lastBy_1 4 rfl rfl)
theorem dX1_lastBy_28 : decode cX1_lastBy 28 = .ok (.iload 4, 2) := dk_21 4 (dk_at dksX1_lastBy_1 5 rfl rfl)
theorem dX1_lastBy_30 : decode cX1_lastBy 30 = .ok (.iaload, 1) := dk_46 (dk_at dksX1_lastBy_1 7 rfl rfl)
theorem dX1_lastBy_31 : decode cX1_lastBy 31 = .ok (.isub, 1) := dk_100 (dk_at dksX1_lastBy_1 8 rfl rfl)
theorem dX1_lastBy_32 : decode cX1_lastBy 32 = .ok (.goto 6, 3) := dk_167 0 6 (dk_at dksX1_lastBy_1 9 rfl rfl)
theorem dX1_lastBy_35 : decode cX1_lastBy 35 = .ok (.ldc_w 423, 3) := dk_19 1 167 (dk_at dksX1_lastBy_1 12 rfl rfl)
theorem dX1_lastBy_38 : decode cX1_lastBy 38 = .ok (.istore 7, 2) := dk_54 7 (dk_at dksX1_lastBy_1 15 rfl rfl)
theorem dX1_lastBy_40 : decode cX1_lastBy 40 = .ok (.iconst 0, 1) := dk_3 (dk_at dksX1_lastBy_1 17 rfl rfl)
theorem dX1_lastBy_41 : decode cX1_lastBy 41 = .ok (.istore 8, 2) := dk_54 8 (dk_at dksX1_lastBy_1 18 rfl rfl)
theorem dX1_lastBy_43 : decode cX1_lastBy 43 = .ok (.iload 8, 2) := dk_21 8 (dk_at dksX1_lastBy_1 20 rfl rfl)
theorem dX1_lastBy_45 : decode cX1_lastBy 45 = .ok (.aload_n 0, 1) := dk_42 (dk_at dksX1_lastBy_1 22 rfl rfl)
theorem dX1_lastBy_46 : decode cX1_lastBy 46 = .ok (.getfield 68, 3) := dk_180 0 68 (dk_at dksX1_lastBy_2 0 rfl rfl)
theorem dX1_lastBy_49 : decode cX1_lastBy 49 = .ok (.if_icmp .ge 44, 3) := dk_162 0 44 (dk_at dksX1_lastBy_2 3 rfl rfl)
theorem dX1_lastBy_52 : decode cX1_lastBy 52 = .ok (.aload_n 2, 1) := dk_44 (dk_at dksX1_lastBy_2 6 rfl rfl)
theorem dX1_lastBy_53 : decode cX1_lastBy 53 = .ok (.iload_n 3, 1) := dk_29 (dk_at dksX1_lastBy_2 7 rfl rfl)
theorem dX1_lastBy_54 : decode cX1_lastBy 54 = .ok (.aaload, 1) := dk_50 (dk_at dksX1_lastBy_2 8 rfl rfl)
theorem dX1_lastBy_55 : decode cX1_lastBy 55 = .ok (.iload 8, 2) := dk_21 8 (dk_at dksX1_lastBy_2 9 rfl rfl)
theorem dX1_lastBy_57 : decode cX1_lastBy 57 = .ok (.iaload, 1) := dk_46 (dk_at dksX1_lastBy_2 11 rfl rfl)
theorem dX1_lastBy_58 : decode cX1_lastBy 58 = .ok (.ldc 106, 2) := dk_18 106 (dk_at dksX1_lastBy_2 12 rfl rfl)
theorem dX1_lastBy_60 : decode cX1_lastBy 60 = .ok (.if_icmp .ge 23, 3) := dk_162 0 23 (dk_at dksX1_lastBy_2 14 rfl rfl)
theorem dX1_lastBy_63 : decode cX1_lastBy 63 = .ok (.iload 7, 2) := dk_21 7 (dk_at dksX1_lastBy_2 17 rfl rfl)
theorem dX1_lastBy_65 : decode cX1_lastBy 65 = .ok (.aload 6, 2) := dk_25 6 (dk_at dksX1_lastBy_2 19 rfl rfl)
theorem dX1_lastBy_67 : decode cX1_lastBy 67 = .ok (.iload 8, 2) := dk_21 8 (dk_at dksX1_lastBy_2 21 rfl rfl)
theorem dX1_lastBy_69 : decode cX1_lastBy 69 = .ok (.iaload, 1) := dk_46 (dk_at dksX1_lastBy_2 23 rfl rfl)
theorem dX1_lastBy_70 : decode cX1_lastBy 70 = .ok (.aload_n 2, 1) := dk_44 (dk_at dksX1_lastBy_3 0 rfl rfl)
theorem dX1_lastBy_71 : decode cX1_lastBy 71 = .ok (.iload_n 3, 1) := dk_29 (dk_at dksX1_lastBy_3 1 rfl rfl)
theorem dX1_lastBy_72 : decode cX1_lastBy 72 = .ok (.aaload, 1) := dk_50 (dk_at dksX1_lastBy_3 2 rfl rfl)
theorem dX1_lastBy_73 : decode cX1_lastBy 73 = .ok (.iload 8, 2) := dk_21 8 (dk_at dksX1_lastBy_3 3 rfl rfl)
theorem dX1_lastBy_75 : decode cX1_lastBy 75 = .ok (.iaload, 1) := dk_46 (dk_at dksX1_lastBy_3 5 rfl rfl)
theorem dX1_lastBy_76 : decode cX1_lastBy 76 = .ok (.isub, 1) := dk_100 (dk_at dksX1_lastBy_3 6 rfl rfl)
theorem dX1_lastBy_77 : decode cX1_lastBy 77 = .ok (.invokestatic 432, 3) := dk_184 1 176 (dk_at dksX1_lastBy_3 7 rfl rfl)
theorem dX1_lastBy_80 : decode cX1_lastBy 80 = .ok (.goto 5, 3) := dk_167 0 5 (dk_at dksX1_lastBy_3 10 rfl rfl)
theorem dX1_lastBy_83 : decode cX1_lastBy 83 = .ok (.iload 7, 2) := dk_21 7 (dk_at dksX1_lastBy_3 13 rfl rfl)
theorem dX1_lastBy_85 : decode cX1_lastBy 85 = .ok (.istore 7, 2) := dk_54 7 (dk_at dksX1_lastBy_3 15 rfl rfl)
theorem dX1_lastBy_87 : decode cX1_lastBy 87 = .ok (.iinc 8 1, 3) := dk_132 8 1 (dk_at dksX1_lastBy_3 17 rfl rfl)
theorem dX1_lastBy_90 : decode cX1_lastBy 90 = .ok (.goto (-47), 3) := dk_167 255 209 (dk_at dksX1_lastBy_3 20 rfl rfl)
theorem dX1_lastBy_93 : decode cX1_lastBy 93 = .ok (.iload 7, 2) := dk_21 7 (dk_at dksX1_lastBy_4 0 rfl rfl)
theorem dX1_lastBy_95 : decode cX1_lastBy 95 = .ok (.ireturn, 1) := dk_172 (dk_at dksX1_lastBy_4 2 rfl rfl)
abbrev cX1_lastReady : ByteArray := prog_1_method_58_code
def yX1_lastReady : MethodName := ⟨RX1, "lastReady", "(Ljava/util/List;[[III)[I"⟩
def dkwX1_lastReady_10 : List UInt8 := [167, 255, 55, 25, 5, 176]
abbrev dktX1_lastReady_10 : List UInt8 := dkwX1_lastReady_10 ++ []
def dkwX1_lastReady_9 : List UInt8 := [25, 8, 182, 1, 172, 25, 5, 25, 8, 182, 1, 172, 46, 25, 8, 182, 1, 175, 184, 1, 176, 79]
abbrev dktX1_lastReady_9 : List UInt8 := dkwX1_lastReady_9 ++ dktX1_lastReady_10
def dkwX1_lastReady_8 : List UInt8 := [167, 255, 147, 21, 10, 153, 0, 40, 25, 6, 25, 8, 180, 1, 70, 180, 1, 74, 182, 0, 132, 25, 5]
abbrev dktX1_lastReady_8 : List UInt8 := dkwX1_lastReady_8 ++ dktX1_lastReady_9
def dkwX1_lastReady_7 : List UInt8 := [167, 0, 5, 21, 12, 25, 5, 21, 11, 46, 163, 0, 7, 4, 167, 0, 4, 3, 54, 10, 132, 11, 1]
abbrev dktX1_lastReady_7 : List UInt8 := dkwX1_lastReady_7 ++ dktX1_lastReady_8
def dkwX1_lastReady_6 : List UInt8 := [154, 0, 36, 21, 11, 21, 9, 160, 0, 19, 25, 8, 182, 1, 171, 42, 180, 0, 9, 21, 9, 46, 96]
abbrev dktX1_lastReady_6 : List UInt8 := dkwX1_lastReady_6 ++ dktX1_lastReady_7
def dkwX1_lastReady_5 : List UInt8 := [54, 12, 21, 11, 29, 160, 0, 14, 21, 12, 21, 4, 163, 0, 7, 4, 167, 0, 4, 3, 54, 13, 21, 13]
abbrev dktX1_lastReady_5 : List UInt8 := dkwX1_lastReady_5 ++ dktX1_lastReady_6
def dkwX1_lastReady_4 : List UInt8 := [21, 9, 50, 21, 11, 46, 18, 106, 162, 0, 83, 25, 8, 182, 1, 171, 44, 21, 9, 50, 21, 11, 46, 96]
abbrev dktX1_lastReady_4 : List UInt8 := dkwX1_lastReady_4 ++ dktX1_lastReady_5
def dkwX1_lastReady_3 : List UInt8 := [182, 0, 139, 54, 10, 3, 54, 11, 21, 11, 42, 180, 0, 68, 162, 0, 106, 21, 10, 154, 0, 101, 44]
abbrev dktX1_lastReady_3 : List UInt8 := dkwX1_lastReady_3 ++ dktX1_lastReady_4
def dkwX1_lastReady_2 : List UInt8 := [192, 1, 53, 58, 8, 25, 8, 182, 1, 168, 54, 9, 25, 6, 25, 8, 180, 1, 70, 180, 1, 74]
abbrev dktX1_lastReady_2 : List UInt8 := dkwX1_lastReady_2 ++ dktX1_lastReady_3
def dkwX1_lastReady_1 : List UInt8 := [185, 1, 33, 1, 0, 58, 7, 25, 7, 185, 1, 39, 1, 0, 153, 0, 197, 25, 7, 185, 1, 44, 1, 0]
abbrev dktX1_lastReady_1 : List UInt8 := dkwX1_lastReady_1 ++ dktX1_lastReady_2
def dkwX1_lastReady_0 : List UInt8 := [16, 12, 188, 10, 58, 5, 25, 5, 19, 1, 167, 184, 1, 120, 187, 0, 94, 89, 183, 0, 120, 58, 6, 43]
abbrev dktX1_lastReady_0 : List UInt8 := dkwX1_lastReady_0 ++ dktX1_lastReady_1
theorem dksX1_lastReady_0 : cX1_lastReady.data.toList.drop 0 = dktX1_lastReady_0 := by decide +kernel
theorem dksX1_lastReady_1 : cX1_lastReady.data.toList.drop 24 = dktX1_lastReady_1 := dk_seg dksX1_lastReady_0 24 rfl rfl
theorem dksX1_lastReady_2 : cX1_lastReady.data.toList.drop 48 = dktX1_lastReady_2 := dk_seg dksX1_lastReady_1 24 rfl rfl
theorem dksX1_lastReady_3 : cX1_lastReady.data.toList.drop 70 = dktX1_lastReady_3 := dk_seg dksX1_lastReady_2 22 rfl rfl
theorem dksX1_lastReady_4 : cX1_lastReady.data.toList.drop 93 = dktX1_lastReady_4 := dk_seg dksX1_lastReady_3 23 rfl rfl
theorem dksX1_lastReady_5 : cX1_lastReady.data.toList.drop 117 = dktX1_lastReady_5 := dk_seg dksX1_lastReady_4 24 rfl rfl
theorem dksX1_lastReady_6 : cX1_lastReady.data.toList.drop 141 = dktX1_lastReady_6 := dk_seg dksX1_lastReady_5 24 rfl rfl
theorem dksX1_lastReady_7 : cX1_lastReady.data.toList.drop 164 = dktX1_lastReady_7 := dk_seg dksX1_lastReady_6 23 rfl rfl
theorem dksX1_lastReady_8 : cX1_lastReady.data.toList.drop 187 = dktX1_lastReady_8 := dk_seg dksX1_lastReady_7 23 rfl rfl
theorem dksX1_lastReady_9 : cX1_lastReady.data.toList.drop 210 = dktX1_lastReady_9 := dk_seg dksX1_lastReady_8 23 rfl rfl
theorem dksX1_lastReady_10 : cX1_lastReady.data.toList.drop 232 = dktX1_lastReady_10 := dk_seg dksX1_lastReady_9 22 rfl rfl
theorem dX1_lastReady_0 : decode cX1_lastReady 0 = .ok (.bipush 12, 2) := dk_16 12 (dk_at dksX1_lastReady_0 0 rfl rfl)
theorem dX1_lastReady_2 : decode cX1_lastReady 2 = .ok (.newarray .int, 2) := dk_188_10 (dk_at dksX1_lastReady_0 2 rfl rfl)
theorem dX1_lastReady_4 : decode cX1_lastReady 4 = .ok (.astore 5, 2) := dk_58 5 (dk_at dksX1_lastReady_0 4 rfl rfl)
theorem dX1_lastReady_6 : decode cX1_lastReady 6 = .ok (.aload 5, 2) := dk_25 5 (dk_at dksX1_lastReady_0 6 rfl rfl)
theorem dX1_lastReady_8 : decode cX1_lastReady 8 = .ok (.ldc_w 423, 3) := dk_19 1 167 (dk_at dksX1_lastReady_0 8 rfl rfl)
theorem dX1_lastReady_11 : decode cX1_lastReady 11 = .ok (.invokestatic 376, 3) := dk_184 1 120 (dk_at dksX1_lastReady_0 11 rfl rfl)
theorem dX1_lastReady_14 : decode cX1_lastReady 14 = .ok (.new 94, 3) := dk_187 0 94 (dk_at dksX1_lastReady_0 14 rfl rfl)
theorem dX1_lastReady_17 : decode cX1_lastReady 17 = .ok (.dup, 1) := dk_89 (dk_at dksX1_lastReady_0 17 rfl rfl)
theorem dX1_lastReady_18 : decode cX1_lastReady 18 = .ok (.invokespecial 120, 3) := dk_183 0 120 (dk_at dksX1_lastReady_0 18 rfl rfl)
theorem dX1_lastReady_21 : decode cX1_lastReady 21 = .ok (.astore 6, 2) := dk_58 6 (dk_at dksX1_lastReady_0 21 rfl rfl)
theorem dX1_lastReady_23 : decode cX1_lastReady 23 = .ok (.aload_n 1, 1) := dk_43 (dk_at dksX1_lastReady_0 23 rfl rfl)
theorem dX1_lastReady_24 : decode cX1_lastReady 24 = .ok (.invokeinterface 289 1, 5) := by decide +kernel
theorem dX1_lastReady_29 : decode cX1_lastReady 29 = .ok (.astore 7, 2) := dk_58 7 (dk_at dksX1_lastReady_1 5 rfl rfl)
theorem dX1_lastReady_31 : decode cX1_lastReady 31 = .ok (.aload 7, 2) := dk_25 7 (dk_at dksX1_lastReady_1 7 rfl rfl)
theorem dX1_lastReady_33 : decode cX1_lastReady 33 = .ok (.invokeinterface 295 1, 5) := by decide +kernel
theorem dX1_lastReady_38 : decode cX1_lastReady 38 = .ok (.ifCond .eq 197, 3) := dk_153 0 197 (dk_at dksX1_lastReady_1 14 rfl rfl)
theorem dX1_lastReady_41 : decode cX1_lastReady 41 = .ok (.aload 7, 2) := dk_25 7 (dk_at dksX1_lastReady_1 17 rfl rfl)
theorem dX1_lastReady_43 : decode cX1_lastReady 43 = .ok (.invokeinterface 300 1, 5) := by decide +kernel
theorem dX1_lastReady_48 : decode cX1_lastReady 48 = .ok (.checkcast 309, 3) := dk_192 1 53 (dk_at dksX1_lastReady_2 0 rfl rfl)
theorem dX1_lastReady_51 : decode cX1_lastReady 51 = .ok (.astore 8, 2) := dk_58 8 (dk_at dksX1_lastReady_2 3 rfl rfl)
theorem dX1_lastReady_53 : decode cX1_lastReady 53 = .ok (.aload 8, 2) := dk_25 8 (dk_at dksX1_lastReady_2 5 rfl rfl)
theorem dX1_lastReady_55 : decode cX1_lastReady 55 = .ok (.invokevirtual 424, 3) := dk_182 1 168 (dk_at dksX1_lastReady_2 7 rfl rfl)
theorem dX1_lastReady_58 : decode cX1_lastReady 58 = .ok (.istore 9, 2) := dk_54 9 (dk_at dksX1_lastReady_2 10 rfl rfl)
theorem dX1_lastReady_60 : decode cX1_lastReady 60 = .ok (.aload 6, 2) := dk_25 6 (dk_at dksX1_lastReady_2 12 rfl rfl)
theorem dX1_lastReady_62 : decode cX1_lastReady 62 = .ok (.aload 8, 2) := dk_25 8 (dk_at dksX1_lastReady_2 14 rfl rfl)
theorem dX1_lastReady_64 : decode cX1_lastReady 64 = .ok (.getfield 326, 3) := dk_180 1 70 (dk_at dksX1_lastReady_2 16 rfl rfl)
theorem dX1_lastReady_67 : decode cX1_lastReady 67 = .ok (.getfield 330, 3) := dk_180 1 74 (dk_at dksX1_lastReady_2 19 rfl rfl)
theorem dX1_lastReady_70 : decode cX1_lastReady 70 = .ok (.invokevirtual 139, 3) := dk_182 0 139 (dk_at dksX1_lastReady_3 0 rfl rfl)
theorem dX1_lastReady_73 : decode cX1_lastReady 73 = .ok (.istore 10, 2) := dk_54 10 (dk_at dksX1_lastReady_3 3 rfl rfl)
theorem dX1_lastReady_75 : decode cX1_lastReady 75 = .ok (.iconst 0, 1) := dk_3 (dk_at dksX1_lastReady_3 5 rfl rfl)
theorem dX1_lastReady_76 : decode cX1_lastReady 76 = .ok (.istore 11, 2) := dk_54 11 (dk_at dksX1_lastReady_3 6 rfl rfl)
theorem dX1_lastReady_78 : decode cX1_lastReady 78 = .ok (.iload 11, 2) := dk_21 11 (dk_at dksX1_lastReady_3 8 rfl rfl)
theorem dX1_lastReady_80 : decode cX1_lastReady 80 = .ok (.aload_n 0, 1) := dk_42 (dk_at dksX1_lastReady_3 10 rfl rfl)
theorem dX1_lastReady_81 : decode cX1_lastReady 81 = .ok (.getfield 68, 3) := dk_180 0 68 (dk_at dksX1_lastReady_3 11 rfl rfl)
theorem dX1_lastReady_84 : decode cX1_lastReady 84 = .ok (.if_icmp .ge 106, 3) := dk_162 0 106 (dk_at dksX1_lastReady_3 14 rfl rfl)
theorem dX1_lastReady_87 : decode cX1_lastReady 87 = .ok (.iload 10, 2) := dk_21 10 (dk_at dksX1_lastReady_3 17 rfl rfl)
theorem dX1_lastReady_89 : decode cX1_lastReady 89 = .ok (.ifCond .ne 101, 3) := dk_154 0 101 (dk_at dksX1_lastReady_3 19 rfl rfl)
theorem dX1_lastReady_92 : decode cX1_lastReady 92 = .ok (.aload_n 2, 1) := dk_44 (dk_at dksX1_lastReady_3 22 rfl rfl)
theorem dX1_lastReady_93 : decode cX1_lastReady 93 = .ok (.iload 9, 2) := dk_21 9 (dk_at dksX1_lastReady_4 0 rfl rfl)
theorem dX1_lastReady_95 : decode cX1_lastReady 95 = .ok (.aaload, 1) := dk_50 (dk_at dksX1_lastReady_4 2 rfl rfl)
theorem dX1_lastReady_96 : decode cX1_lastReady 96 = .ok (.iload 11, 2) := dk_21 11 (dk_at dksX1_lastReady_4 3 rfl rfl)
theorem dX1_lastReady_98 : decode cX1_lastReady 98 = .ok (.iaload, 1) := dk_46 (dk_at dksX1_lastReady_4 5 rfl rfl)
theorem dX1_lastReady_99 : decode cX1_lastReady 99 = .ok (.ldc 106, 2) := dk_18 106 (dk_at dksX1_lastReady_4 6 rfl rfl)
theorem dX1_lastReady_101 : decode cX1_lastReady 101 = .ok (.if_icmp .ge 83, 3) := dk_162 0 83 (dk_at dksX1_lastReady_4 8 rfl rfl)
theorem dX1_lastReady_104 : decode cX1_lastReady 104 = .ok (.aload 8, 2) := dk_25 8 (dk_at dksX1_lastReady_4 11 rfl rfl)
theorem dX1_lastReady_106 : decode cX1_lastReady 106 = .ok (.invokevirtual 427, 3) := dk_182 1 171 (dk_at dksX1_lastReady_4 13 rfl rfl)
theorem dX1_lastReady_109 : decode cX1_lastReady 109 = .ok (.aload_n 2, 1) := dk_44 (dk_at dksX1_lastReady_4 16 rfl rfl)
theorem dX1_lastReady_110 : decode cX1_lastReady 110 = .ok (.iload 9, 2) := dk_21 9 (dk_at dksX1_lastReady_4 17 rfl rfl)
theorem dX1_lastReady_112 : decode cX1_lastReady 112 = .ok (.aaload, 1) := dk_50 (dk_at dksX1_lastReady_4 19 rfl rfl)
theorem dX1_lastReady_113 : decode cX1_lastReady 113 = .ok (.iload 11, 2) := dk_21 11 (dk_at dksX1_lastReady_4 20 rfl rfl)
theorem dX1_lastReady_115 : decode cX1_lastReady 115 = .ok (.iaload, 1) := dk_46 (dk_at dksX1_lastReady_4 22 rfl rfl)
theorem dX1_lastReady_116 : decode cX1_lastReady 116 = .ok (.iadd, 1) := dk_96 (dk_at dksX1_lastReady_4 23 rfl rfl)
theorem dX1_lastReady_117 : decode cX1_lastReady 117 = .ok (.istore 12, 2) := dk_54 12 (dk_at dksX1_lastReady_5 0 rfl rfl)
theorem dX1_lastReady_119 : decode cX1_lastReady 119 = .ok (.iload 11, 2) := dk_21 11 (dk_at dksX1_lastReady_5 2 rfl rfl)
theorem dX1_lastReady_121 : decode cX1_lastReady 121 = .ok (.iload_n 3, 1) := dk_29 (dk_at dksX1_lastReady_5 4 rfl rfl)
theorem dX1_lastReady_122 : decode cX1_lastReady 122 = .ok (.if_icmp .ne 14, 3) := dk_160 0 14 (dk_at dksX1_lastReady_5 5 rfl rfl)
theorem dX1_lastReady_125 : decode cX1_lastReady 125 = .ok (.iload 12, 2) := dk_21 12 (dk_at dksX1_lastReady_5 8 rfl rfl)
theorem dX1_lastReady_127 : decode cX1_lastReady 127 = .ok (.iload 4, 2) := dk_21 4 (dk_at dksX1_lastReady_5 10 rfl rfl)
theorem dX1_lastReady_129 : decode cX1_lastReady 129 = .ok (.if_icmp .gt 7, 3) := dk_163 0 7 (dk_at dksX1_lastReady_5 12 rfl rfl)
theorem dX1_lastReady_132 : decode cX1_lastReady 132 = .ok (.iconst 1, 1) := dk_4 (dk_at dksX1_lastReady_5 15 rfl rfl)
theorem dX1_lastReady_133 : decode cX1_lastReady 133 = .ok (.goto 4, 3) := dk_167 0 4 (dk_at dksX1_lastReady_5 16 rfl rfl)
theorem dX1_lastReady_136 : decode cX1_lastReady 136 = .ok (.iconst 0, 1) := dk_3 (dk_at dksX1_lastReady_5 19 rfl rfl)
theorem dX1_lastReady_137 : decode cX1_lastReady 137 = .ok (.istore 13, 2) := dk_54 13 (dk_at dksX1_lastReady_5 20 rfl rfl)
theorem dX1_lastReady_139 : decode cX1_lastReady 139 = .ok (.iload 13, 2) := dk_21 13 (dk_at dksX1_lastReady_5 22 rfl rfl)
theorem dX1_lastReady_141 : decode cX1_lastReady 141 = .ok (.ifCond .ne 36, 3) := dk_154 0 36 (dk_at dksX1_lastReady_6 0 rfl rfl)
theorem dX1_lastReady_144 : decode cX1_lastReady 144 = .ok (.iload 11, 2) := dk_21 11 (dk_at dksX1_lastReady_6 3 rfl rfl)
theorem dX1_lastReady_146 : decode cX1_lastReady 146 = .ok (.iload 9, 2) := dk_21 9 (dk_at dksX1_lastReady_6 5 rfl rfl)
theorem dX1_lastReady_148 : decode cX1_lastReady 148 = .ok (.if_icmp .ne 19, 3) := dk_160 0 19 (dk_at dksX1_lastReady_6 7 rfl rfl)
theorem dX1_lastReady_151 : decode cX1_lastReady 151 = .ok (.aload 8, 2) := dk_25 8 (dk_at dksX1_lastReady_6 10 rfl rfl)
theorem dX1_lastReady_153 : decode cX1_lastReady 153 = .ok (.invokevirtual 427, 3) := dk_182 1 171 (dk_at dksX1_lastReady_6 12 rfl rfl)
theorem dX1_lastReady_156 : decode cX1_lastReady 156 = .ok (.aload_n 0, 1) := dk_42 (dk_at dksX1_lastReady_6 15 rfl rfl)
theorem dX1_lastReady_157 : decode cX1_lastReady 157 = .ok (.getfield 9, 3) := dk_180 0 9 (dk_at dksX1_lastReady_6 16 rfl rfl)
theorem dX1_lastReady_160 : decode cX1_lastReady 160 = .ok (.iload 9, 2) := dk_21 9 (dk_at dksX1_lastReady_6 19 rfl rfl)
theorem dX1_lastReady_162 : decode cX1_lastReady 162 = .ok (.iaload, 1) := dk_46 (dk_at dksX1_lastReady_6 21 rfl rfl)
theorem dX1_lastReady_163 : decode cX1_lastReady 163 = .ok (.iadd, 1) := dk_96 (dk_at dksX1_lastReady_6 22 rfl rfl)
theorem dX1_lastReady_164 : decode cX1_lastReady 164 = .ok (.goto 5, 3) := dk_167 0 5 (dk_at dksX1_lastReady_7 0 rfl rfl)
theorem dX1_lastReady_167 : decode cX1_lastReady 167 = .ok (.iload 12, 2) := dk_21 12 (dk_at dksX1_lastReady_7 3 rfl rfl)
theorem dX1_lastReady_169 : decode cX1_lastReady 169 = .ok (.aload 5, 2) := dk_25 5 (dk_at dksX1_lastReady_7 5 rfl rfl)
theorem dX1_lastReady_171 : decode cX1_lastReady 171 = .ok (.iload 11, 2) := dk_21 11 (dk_at dksX1_lastReady_7 7 rfl rfl)
theorem dX1_lastReady_173 : decode cX1_lastReady 173 = .ok (.iaload, 1) := dk_46 (dk_at dksX1_lastReady_7 9 rfl rfl)
theorem dX1_lastReady_174 : decode cX1_lastReady 174 = .ok (.if_icmp .gt 7, 3) := dk_163 0 7 (dk_at dksX1_lastReady_7 10 rfl rfl)
theorem dX1_lastReady_177 : decode cX1_lastReady 177 = .ok (.iconst 1, 1) := dk_4 (dk_at dksX1_lastReady_7 13 rfl rfl)
theorem dX1_lastReady_178 : decode cX1_lastReady 178 = .ok (.goto 4, 3) := dk_167 0 4 (dk_at dksX1_lastReady_7 14 rfl rfl)
theorem dX1_lastReady_181 : decode cX1_lastReady 181 = .ok (.iconst 0, 1) := dk_3 (dk_at dksX1_lastReady_7 17 rfl rfl)
theorem dX1_lastReady_182 : decode cX1_lastReady 182 = .ok (.istore 10, 2) := dk_54 10 (dk_at dksX1_lastReady_7 18 rfl rfl)
theorem dX1_lastReady_184 : decode cX1_lastReady 184 = .ok (.iinc 11 1, 3) := dk_132 11 1 (dk_at dksX1_lastReady_7 20 rfl rfl)
theorem dX1_lastReady_187 : decode cX1_lastReady 187 = .ok (.goto (-109), 3) := dk_167 255 147 (dk_at dksX1_lastReady_8 0 rfl rfl)
theorem dX1_lastReady_190 : decode cX1_lastReady 190 = .ok (.iload 10, 2) := dk_21 10 (dk_at dksX1_lastReady_8 3 rfl rfl)
theorem dX1_lastReady_192 : decode cX1_lastReady 192 = .ok (.ifCond .eq 40, 3) := dk_153 0 40 (dk_at dksX1_lastReady_8 5 rfl rfl)
theorem dX1_lastReady_195 : decode cX1_lastReady 195 = .ok (.aload 6, 2) := dk_25 6 (dk_at dksX1_lastReady_8 8 rfl rfl)
theorem dX1_lastReady_197 : decode cX1_lastReady 197 = .ok (.aload 8, 2) := dk_25 8 (dk_at dksX1_lastReady_8 10 rfl rfl)
theorem dX1_lastReady_199 : decode cX1_lastReady 199 = .ok (.getfield 326, 3) := dk_180 1 70 (dk_at dksX1_lastReady_8 12 rfl rfl)
theorem dX1_lastReady_202 : decode cX1_lastReady 202 = .ok (.getfield 330, 3) := dk_180 1 74 (dk_at dksX1_lastReady_8 15 rfl rfl)
theorem dX1_lastReady_205 : decode cX1_lastReady 205 = .ok (.invokevirtual 132, 3) := dk_182 0 132 (dk_at dksX1_lastReady_8 18 rfl rfl)
theorem dX1_lastReady_208 : decode cX1_lastReady 208 = .ok (.aload 5, 2) := dk_25 5 (dk_at dksX1_lastReady_8 21 rfl rfl)
theorem dX1_lastReady_210 : decode cX1_lastReady 210 = .ok (.aload 8, 2) := dk_25 8 (dk_at dksX1_lastReady_9 0 rfl rfl)
theorem dX1_lastReady_212 : decode cX1_lastReady 212 = .ok (.invokevirtual 428, 3) := dk_182 1 172 (dk_at dksX1_lastReady_9 2 rfl rfl)
theorem dX1_lastReady_215 : decode cX1_lastReady 215 = .ok (.aload 5, 2) := dk_25 5 (dk_at dksX1_lastReady_9 5 rfl rfl)
theorem dX1_lastReady_217 : decode cX1_lastReady 217 = .ok (.aload 8, 2) := dk_25 8 (dk_at dksX1_lastReady_9 7 rfl rfl)
theorem dX1_lastReady_219 : decode cX1_lastReady 219 = .ok (.invokevirtual 428, 3) := dk_182 1 172 (dk_at dksX1_lastReady_9 9 rfl rfl)
theorem dX1_lastReady_222 : decode cX1_lastReady 222 = .ok (.iaload, 1) := dk_46 (dk_at dksX1_lastReady_9 12 rfl rfl)
theorem dX1_lastReady_223 : decode cX1_lastReady 223 = .ok (.aload 8, 2) := dk_25 8 (dk_at dksX1_lastReady_9 13 rfl rfl)
theorem dX1_lastReady_225 : decode cX1_lastReady 225 = .ok (.invokevirtual 431, 3) := dk_182 1 175 (dk_at dksX1_lastReady_9 15 rfl rfl)
theorem dX1_lastReady_228 : decode cX1_lastReady 228 = .ok (.invokestatic 432, 3) := dk_184 1 176 (dk_at dksX1_lastReady_9 18 rfl rfl)
theorem dX1_lastReady_231 : decode cX1_lastReady 231 = .ok (.iastore, 1) := dk_79 (dk_at dksX1_lastReady_9 21 rfl rfl)
theorem dX1_lastReady_232 : decode cX1_lastReady 232 = .ok (.goto (-201), 3) := dk_167 255 55 (dk_at dksX1_lastReady_10 0 rfl rfl)
theorem dX1_lastReady_235 : decode cX1_lastReady 235 = .ok (.aload 5, 2) := dk_25 5 (dk_at dksX1_lastReady_10 3 rfl rfl)
theorem dX1_lastReady_237 : decode cX1_lastReady 237 = .ok (.areturn, 1) := dk_176 (dk_at dksX1_lastReady_10 5 rfl rfl)
abbrev cX1_chain : ByteArray := prog_1_method_64_code
def yX1_chain : MethodName := ⟨RX1, "chain", "(IIII)I"⟩
def dkwX1_chain_1 : List UInt8 := [181, 1, 215, 42, 180, 1, 215, 182, 0, 71, 172]
abbrev dktX1_chain_1 : List UInt8 := dkwX1_chain_1 ++ []
def dkwX1_chain_0 : List UInt8 := [42, 27, 28, 29, 21, 4, 182, 1, 109, 42, 42, 42, 29, 182, 1, 98, 27, 28, 21, 4, 182, 1, 211]
abbrev dktX1_chain_0 : List UInt8 := dkwX1_chain_0 ++ dktX1_chain_1
theorem dksX1_chain_0 : cX1_chain.data.toList.drop 0 = dktX1_chain_0 := by decide +kernel
theorem dksX1_chain_1 : cX1_chain.data.toList.drop 23 = dktX1_chain_1 := dk_seg dksX1_chain_0 23 rfl rfl
theorem dX1_chain_0 : decode cX1_chain 0 = .ok (.aload_n 0, 1) := dk_42 (dk_at dksX1_chain_0 0 rfl rfl)
theorem dX1_chain_1 : decode cX1_chain 1 = .ok (.iload_n 1, 1) := dk_27 (dk_at dksX1_chain_0 1 rfl rfl)
theorem dX1_chain_2 : decode cX1_chain 2 = .ok (.iload_n 2, 1) := dk_28 (dk_at dksX1_chain_0 2 rfl rfl)
theorem dX1_chain_3 : decode cX1_chain 3 = .ok (.iload_n 3, 1) := dk_29 (dk_at dksX1_chain_0 3 rfl rfl)
theorem dX1_chain_4 : decode cX1_chain 4 = .ok (.iload 4, 2) := dk_21 4 (dk_at dksX1_chain_0 4 rfl rfl)
theorem dX1_chain_6 : decode cX1_chain 6 = .ok (.invokevirtual 365, 3) := dk_182 1 109 (dk_at dksX1_chain_0 6 rfl rfl)
theorem dX1_chain_9 : decode cX1_chain 9 = .ok (.aload_n 0, 1) := dk_42 (dk_at dksX1_chain_0 9 rfl rfl)
theorem dX1_chain_10 : decode cX1_chain 10 = .ok (.aload_n 0, 1) := dk_42 (dk_at dksX1_chain_0 10 rfl rfl)
theorem dX1_chain_11 : decode cX1_chain 11 = .ok (.aload_n 0, 1) := dk_42 (dk_at dksX1_chain_0 11 rfl rfl)
theorem dX1_chain_12 : decode cX1_chain 12 = .ok (.iload_n 3, 1) := dk_29 (dk_at dksX1_chain_0 12 rfl rfl)
theorem dX1_chain_13 : decode cX1_chain 13 = .ok (.invokevirtual 354, 3) := dk_182 1 98 (dk_at dksX1_chain_0 13 rfl rfl)
theorem dX1_chain_16 : decode cX1_chain 16 = .ok (.iload_n 1, 1) := dk_27 (dk_at dksX1_chain_0 16 rfl rfl)
theorem dX1_chain_17 : decode cX1_chain 17 = .ok (.iload_n 2, 1) := dk_28 (dk_at dksX1_chain_0 17 rfl rfl)
theorem dX1_chain_18 : decode cX1_chain 18 = .ok (.iload 4, 2) := dk_21 4 (dk_at dksX1_chain_0 18 rfl rfl)
theorem dX1_chain_20 : decode cX1_chain 20 = .ok (.invokevirtual 467, 3) := dk_182 1 211 (dk_at dksX1_chain_0 20 rfl rfl)
theorem dX1_chain_23 : decode cX1_chain 23 = .ok (.putfield 471, 3) := dk_181 1 215 (dk_at dksX1_chain_1 0 rfl rfl)
theorem dX1_chain_26 : decode cX1_chain 26 = .ok (.aload_n 0, 1) := dk_42 (dk_at dksX1_chain_1 3 rfl rfl)
theorem dX1_chain_27 : decode cX1_chain 27 = .ok (.getfield 471, 3) := dk_180 1 215 (dk_at dksX1_chain_1 4 rfl rfl)
theorem dX1_chain_30 : decode cX1_chain 30 = .ok (.invokevirtual 71, 3) := dk_182 0 71 (dk_at dksX1_chain_1 7 rfl rfl)
theorem dX1_chain_33 : decode cX1_chain 33 = .ok (.ireturn, 1) := dk_172 (dk_at dksX1_chain_1 10 rfl rfl)
abbrev cX1_chained : ByteArray := prog_1_method_63_code
def yX1_chained : MethodName := ⟨RX1, "chained", "(Ljava/util/List;III)Ljava/util/ArrayList;"⟩
def dkwX1_chained_12 : List UInt8 := [132, 12, 255, 167, 255, 64, 25, 9, 176]
abbrev dktX1_chained_12 : List UInt8 := dkwX1_chained_12 ++ []
def dkwX1_chained_11 : List UInt8 := [167, 255, 127, 25, 9, 3, 25, 14, 182, 1, 208, 21, 15, 54, 10, 21, 16, 54, 6, 3, 54, 11]
abbrev dktX1_chained_11 : List UInt8 := dkwX1_chained_11 ++ dktX1_chained_12
def dkwX1_chained_10 : List UInt8 := [180, 1, 143, 21, 20, 46, 54, 15, 25, 18, 180, 1, 55, 21, 20, 46, 54, 16, 132, 19, 1, 167, 255, 155]
abbrev dktX1_chained_10 : List UInt8 := dkwX1_chained_10 ++ dktX1_chained_11
def dkwX1_chained_9 : List UInt8 := [89, 25, 18, 180, 1, 200, 25, 18, 180, 1, 203, 21, 20, 21, 19, 183, 1, 206, 58, 14, 25, 18]
abbrev dktX1_chained_9 : List UInt8 := dkwX1_chained_9 ++ dktX1_chained_10
def dkwX1_chained_8 : List UInt8 := [25, 18, 21, 19, 25, 13, 184, 1, 194, 167, 0, 4, 2, 54, 20, 21, 20, 2, 159, 0, 46, 187, 1, 198]
abbrev dktX1_chained_8 : List UInt8 := dkwX1_chained_8 ++ dktX1_chained_9
def dkwX1_chained_7 : List UInt8 := [25, 14, 199, 0, 92, 42, 25, 18, 21, 19, 21, 10, 21, 6, 21, 11, 25, 8, 182, 1, 190, 153, 0, 15]
abbrev dktX1_chained_7 : List UInt8 := dkwX1_chained_7 ++ dktX1_chained_8
def dkwX1_chained_6 : List UInt8 := [185, 1, 44, 1, 0, 192, 1, 24, 58, 18, 4, 54, 19, 21, 19, 25, 18, 182, 1, 47, 162, 0, 97]
abbrev dktX1_chained_6 : List UInt8 := dkwX1_chained_6 ++ dktX1_chained_7
def dkwX1_chained_5 : List UInt8 := [21, 6, 54, 16, 43, 185, 1, 33, 1, 0, 58, 17, 25, 17, 185, 1, 39, 1, 0, 153, 0, 125, 25, 17]
abbrev dktX1_chained_5 : List UInt8 := dkwX1_chained_5 ++ dktX1_chained_6
def dkwX1_chained_4 : List UInt8 := [158, 0, 193, 25, 5, 21, 12, 4, 100, 182, 0, 79, 192, 1, 80, 58, 13, 1, 58, 14, 21, 10, 54, 15]
abbrev dktX1_chained_4 : List UInt8 := dkwX1_chained_4 ++ dktX1_chained_5
def dkwX1_chained_3 : List UInt8 := [58, 8, 187, 0, 18, 89, 183, 0, 20, 58, 9, 29, 54, 10, 4, 54, 11, 21, 7, 54, 12, 21, 12]
abbrev dktX1_chained_3 : List UInt8 := dkwX1_chained_3 ++ dktX1_chained_4
def dkwX1_chained_2 : List UInt8 := [192, 1, 80, 180, 1, 116, 29, 46, 21, 6, 164, 0, 9, 132, 7, 1, 167, 255, 233, 42, 2, 182, 0, 113]
abbrev dktX1_chained_2 : List UInt8 := dkwX1_chained_2 ++ dktX1_chained_3
def dkwX1_chained_1 : List UInt8 := [192, 1, 80, 180, 1, 116, 29, 46, 184, 1, 117, 54, 6, 3, 54, 7, 25, 5, 21, 7, 182, 0, 79]
abbrev dktX1_chained_1 : List UInt8 := dkwX1_chained_1 ++ dktX1_chained_2
def dkwX1_chained_0 : List UInt8 := [42, 43, 28, 21, 4, 182, 1, 163, 58, 5, 25, 5, 25, 5, 182, 0, 71, 4, 100, 182, 0, 79]
abbrev dktX1_chained_0 : List UInt8 := dkwX1_chained_0 ++ dktX1_chained_1
theorem dksX1_chained_0 : cX1_chained.data.toList.drop 0 = dktX1_chained_0 := by decide +kernel
theorem dksX1_chained_1 : cX1_chained.data.toList.drop 22 = dktX1_chained_1 := dk_seg dksX1_chained_0 22 rfl rfl
theorem dksX1_chained_2 : cX1_chained.data.toList.drop 45 = dktX1_chained_2 := dk_seg dksX1_chained_1 23 rfl rfl
theorem dksX1_chained_3 : cX1_chained.data.toList.drop 69 = dktX1_chained_3 := dk_seg dksX1_chained_2 24 rfl rfl
theorem dksX1_chained_4 : cX1_chained.data.toList.drop 92 = dktX1_chained_4 := dk_seg dksX1_chained_3 23 rfl rfl
theorem dksX1_chained_5 : cX1_chained.data.toList.drop 116 = dktX1_chained_5 := dk_seg dksX1_chained_4 24 rfl rfl
theorem dksX1_chained_6 : cX1_chained.data.toList.drop 140 = dktX1_chained_6 := dk_seg dksX1_chained_5 24 rfl rfl
theorem dksX1_chained_7 : cX1_chained.data.toList.drop 163 = dktX1_chained_7 := dk_seg dksX1_chained_6 23 rfl rfl
theorem dksX1_chained_8 : cX1_chained.data.toList.drop 187 = dktX1_chained_8 := dk_seg dksX1_chained_7 24 rfl rfl
theorem dksX1_chained_9 : cX1_chained.data.toList.drop 211 = dktX1_chained_9 := dk_seg dksX1_chained_8 24 rfl rfl
theorem dksX1_chained_10 : cX1_chained.data.toList.drop 233 = dktX1_chained_10 := dk_seg dksX1_chained_9 22 rfl rfl
theorem dksX1_chained_11 : cX1_chained.data.toList.drop 257 = dktX1_chained_11 := dk_seg dksX1_chained_10 24 rfl rfl
theorem dksX1_chained_12 : cX1_chained.data.toList.drop 279 = dktX1_chained_12 := dk_seg dksX1_chained_11 22 rfl rfl
theorem dX1_chained_0 : decode cX1_chained 0 = .ok (.aload_n 0, 1) := dk_42 (dk_at dksX1_chained_0 0 rfl rfl)
theorem dX1_chained_1 : decode cX1_chained 1 = .ok (.aload_n 1, 1) := dk_43 (dk_at dksX1_chained_0 1 rfl rfl)
theorem dX1_chained_2 : decode cX1_chained 2 = .ok (.iload_n 2, 1) := dk_28 (dk_at dksX1_chained_0 2 rfl rfl)
theorem dX1_chained_3 : decode cX1_chained 3 = .ok (.iload 4, 2) := dk_21 4 (dk_at dksX1_chained_0 3 rfl rfl)
theorem dX1_chained_5 : decode cX1_chained 5 = .ok (.invokevirtual 419, 3) := dk_182 1 163 (dk_at dksX1_chained_0 5 rfl rfl)
theorem dX1_chained_8 : decode cX1_chained 8 = .ok (.astore 5, 2) := dk_58 5 (dk_at dksX1_chained_0 8 rfl rfl)
theorem dX1_chained_10 : decode cX1_chained 10 = .ok (.aload 5, 2) := dk_25 5 (dk_at dksX1_chained_0 10 rfl rfl)
theorem dX1_chained_12 : decode cX1_chained 12 = .ok (.aload 5, 2) := dk_25 5 (dk_at dksX1_chained_0 12 rfl rfl)
theorem dX1_chained_14 : decode cX1_chained 14 = .ok (.invokevirtual 71, 3) := dk_182 0 71 (dk_at dksX1_chained_0 14 rfl rfl)
theorem dX1_chained_17 : decode cX1_chained 17 = .ok (.iconst 1, 1) := dk_4 (dk_at dksX1_chained_0 17 rfl rfl)
theorem dX1_chained_18 : decode cX1_chained 18 = .ok (.isub, 1) := dk_100 (dk_at dksX1_chained_0 18 rfl rfl)
theorem dX1_chained_19 : decode cX1_chained 19 = .ok (.invokevirtual 79, 3) := dk_182 0 79 (dk_at dksX1_chained_0 19 rfl rfl)
theorem dX1_chained_22 : decode cX1_chained 22 = .ok (.checkcast 336, 3) := dk_192 1 80 (dk_at dksX1_chained_1 0 rfl rfl)
theorem dX1_chained_25 : decode cX1_chained 25 = .ok (.getfield 372, 3) := dk_180 1 116 (dk_at dksX1_chained_1 3 rfl rfl)
theorem dX1_chained_28 : decode cX1_chained 28 = .ok (.iload_n 3, 1) := dk_29 (dk_at dksX1_chained_1 6 rfl rfl)
theorem dX1_chained_29 : decode cX1_chained 29 = .ok (.iaload, 1) := dk_46 (dk_at dksX1_chained_1 7 rfl rfl)
theorem dX1_chained_30 : decode cX1_chained 30 = .ok (.invokestatic 373, 3) := dk_184 1 117 (dk_at dksX1_chained_1 8 rfl rfl)
theorem dX1_chained_33 : decode cX1_chained 33 = .ok (.istore 6, 2) := dk_54 6 (dk_at dksX1_chained_1 11 rfl rfl)
theorem dX1_chained_35 : decode cX1_chained 35 = .ok (.iconst 0, 1) := dk_3 (dk_at dksX1_chained_1 13 rfl rfl)
theorem dX1_chained_36 : decode cX1_chained 36 = .ok (.istore 7, 2) := dk_54 7 (dk_at dksX1_chained_1 14 rfl rfl)
theorem dX1_chained_38 : decode cX1_chained 38 = .ok (.aload 5, 2) := dk_25 5 (dk_at dksX1_chained_1 16 rfl rfl)
theorem dX1_chained_40 : decode cX1_chained 40 = .ok (.iload 7, 2) := dk_21 7 (dk_at dksX1_chained_1 18 rfl rfl)
theorem dX1_chained_42 : decode cX1_chained 42 = .ok (.invokevirtual 79, 3) := dk_182 0 79 (dk_at dksX1_chained_1 20 rfl rfl)
theorem dX1_chained_45 : decode cX1_chained 45 = .ok (.checkcast 336, 3) := dk_192 1 80 (dk_at dksX1_chained_2 0 rfl rfl)
theorem dX1_chained_48 : decode cX1_chained 48 = .ok (.getfield 372, 3) := dk_180 1 116 (dk_at dksX1_chained_2 3 rfl rfl)
theorem dX1_chained_51 : decode cX1_chained 51 = .ok (.iload_n 3, 1) := dk_29 (dk_at dksX1_chained_2 6 rfl rfl)
theorem dX1_chained_52 : decode cX1_chained 52 = .ok (.iaload, 1) := dk_46 (dk_at dksX1_chained_2 7 rfl rfl)
theorem dX1_chained_53 : decode cX1_chained 53 = .ok (.iload 6, 2) := dk_21 6 (dk_at dksX1_chained_2 8 rfl rfl)
theorem dX1_chained_55 : decode cX1_chained 55 = .ok (.if_icmp .le 9, 3) := dk_164 0 9 (dk_at dksX1_chained_2 10 rfl rfl)
theorem dX1_chained_58 : decode cX1_chained 58 = .ok (.iinc 7 1, 3) := dk_132 7 1 (dk_at dksX1_chained_2 13 rfl rfl)
theorem dX1_chained_61 : decode cX1_chained 61 = .ok (.goto (-23), 3) := dk_167 255 233 (dk_at dksX1_chained_2 16 rfl rfl)
theorem dX1_chained_64 : decode cX1_chained 64 = .ok (.aload_n 0, 1) := dk_42 (dk_at dksX1_chained_2 19 rfl rfl)
theorem dX1_chained_65 : decode cX1_chained 65 = .ok (.iconst (-1), 1) := dk_2 (dk_at dksX1_chained_2 20 rfl rfl)
theorem dX1_chained_66 : decode cX1_chained 66 = .ok (.invokevirtual 113, 3) := dk_182 0 113 (dk_at dksX1_chained_2 21 rfl rfl)
theorem dX1_chained_69 : decode cX1_chained 69 = .ok (.astore 8, 2) := dk_58 8 (dk_at dksX1_chained_3 0 rfl rfl)
theorem dX1_chained_71 : decode cX1_chained 71 = .ok (.new 18, 3) := dk_187 0 18 (dk_at dksX1_chained_3 2 rfl rfl)
theorem dX1_chained_74 : decode cX1_chained 74 = .ok (.dup, 1) := dk_89 (dk_at dksX1_chained_3 5 rfl rfl)
theorem dX1_chained_75 : decode cX1_chained 75 = .ok (.invokespecial 20, 3) := dk_183 0 20 (dk_at dksX1_chained_3 6 rfl rfl)
theorem dX1_chained_78 : decode cX1_chained 78 = .ok (.astore 9, 2) := dk_58 9 (dk_at dksX1_chained_3 9 rfl rfl)
theorem dX1_chained_80 : decode cX1_chained 80 = .ok (.iload_n 3, 1) := dk_29 (dk_at dksX1_chained_3 11 rfl rfl)
theorem dX1_chained_81 : decode cX1_chained 81 = .ok (.istore 10, 2) := dk_54 10 (dk_at dksX1_chained_3 12 rfl rfl)
theorem dX1_chained_83 : decode cX1_chained 83 = .ok (.iconst 1, 1) := dk_4 (dk_at dksX1_chained_3 14 rfl rfl)
theorem dX1_chained_84 : decode cX1_chained 84 = .ok (.istore 11, 2) := dk_54 11 (dk_at dksX1_chained_3 15 rfl rfl)
theorem dX1_chained_86 : decode cX1_chained 86 = .ok (.iload 7, 2) := dk_21 7 (dk_at dksX1_chained_3 17 rfl rfl)
theorem dX1_chained_88 : decode cX1_chained 88 = .ok (.istore 12, 2) := dk_54 12 (dk_at dksX1_chained_3 19 rfl rfl)
theorem dX1_chained_90 : decode cX1_chained 90 = .ok (.iload 12, 2) := dk_21 12 (dk_at dksX1_chained_3 21 rfl rfl)
theorem dX1_chained_92 : decode cX1_chained 92 = .ok (.ifCond .le 193, 3) := dk_158 0 193 (dk_at dksX1_chained_4 0 rfl rfl)
theorem dX1_chained_95 : decode cX1_chained 95 = .ok (.aload 5, 2) := dk_25 5 (dk_at dksX1_chained_4 3 rfl rfl)
theorem dX1_chained_97 : decode cX1_chained 97 = .ok (.iload 12, 2) := dk_21 12 (dk_at dksX1_chained_4 5 rfl rfl)
theorem dX1_chained_99 : decode cX1_chained 99 = .ok (.iconst 1, 1) := dk_4 (dk_at dksX1_chained_4 7 rfl rfl)
theorem dX1_chained_100 : decode cX1_chained 100 = .ok (.isub, 1) := dk_100 (dk_at dksX1_chained_4 8 rfl rfl)
theorem dX1_chained_101 : decode cX1_chained 101 = .ok (.invokevirtual 79, 3) := dk_182 0 79 (dk_at dksX1_chained_4 9 rfl rfl)
theorem dX1_chained_104 : decode cX1_chained 104 = .ok (.checkcast 336, 3) := dk_192 1 80 (dk_at dksX1_chained_4 12 rfl rfl)
theorem dX1_chained_107 : decode cX1_chained 107 = .ok (.astore 13, 2) := dk_58 13 (dk_at dksX1_chained_4 15 rfl rfl)
theorem dX1_chained_109 : decode cX1_chained 109 = .ok (.aconst_null, 1) := dk_1 (dk_at dksX1_chained_4 17 rfl rfl)
theorem dX1_chained_110 : decode cX1_chained 110 = .ok (.astore 14, 2) := dk_58 14 (dk_at dksX1_chained_4 18 rfl rfl)
theorem dX1_chained_112 : decode cX1_chained 112 = .ok (.iload 10, 2) := dk_21 10 (dk_at dksX1_chained_4 20 rfl rfl)
theorem dX1_chained_114 : decode cX1_chained 114 = .ok (.istore 15, 2) := dk_54 15 (dk_at dksX1_chained_4 22 rfl rfl)
theorem dX1_chained_116 : decode cX1_chained 116 = .ok (.iload 6, 2) := dk_21 6 (dk_at dksX1_chained_5 0 rfl rfl)
theorem dX1_chained_118 : decode cX1_chained 118 = .ok (.istore 16, 2) := dk_54 16 (dk_at dksX1_chained_5 2 rfl rfl)
theorem dX1_chained_120 : decode cX1_chained 120 = .ok (.aload_n 1, 1) := dk_43 (dk_at dksX1_chained_5 4 rfl rfl)
theorem dX1_chained_121 : decode cX1_chained 121 = .ok (.invokeinterface 289 1, 5) := by decide +kernel
theorem dX1_chained_126 : decode cX1_chained 126 = .ok (.astore 17, 2) := dk_58 17 (dk_at dksX1_chained_5 10 rfl rfl)
theorem dX1_chained_128 : decode cX1_chained 128 = .ok (.aload 17, 2) := dk_25 17 (dk_at dksX1_chained_5 12 rfl rfl)
theorem dX1_chained_130 : decode cX1_chained 130 = .ok (.invokeinterface 295 1, 5) := by decide +kernel
theorem dX1_chained_135 : decode cX1_chained 135 = .ok (.ifCond .eq 125, 3) := dk_153 0 125 (dk_at dksX1_chained_5 19 rfl rfl)
theorem dX1_chained_138 : decode cX1_chained 138 = .ok (.aload 17, 2) := dk_25 17 (dk_at dksX1_chained_5 22 rfl rfl)
theorem dX1_chained_140 : decode cX1_chained 140 = .ok (.invokeinterface 300 1, 5) := by decide +kernel
theorem dX1_chained_145 : decode cX1_chained 145 = .ok (.checkcast 280, 3) := dk_192 1 24 (dk_at dksX1_chained_6 5 rfl rfl)
theorem dX1_chained_148 : decode cX1_chained 148 = .ok (.astore 18, 2) := dk_58 18 (dk_at dksX1_chained_6 8 rfl rfl)
theorem dX1_chained_150 : decode cX1_chained 150 = .ok (.iconst 1, 1) := dk_4 (dk_at dksX1_chained_6 10 rfl rfl)
theorem dX1_chained_151 : decode cX1_chained 151 = .ok (.istore 19, 2) := dk_54 19 (dk_at dksX1_chained_6 11 rfl rfl)
theorem dX1_chained_153 : decode cX1_chained 153 = .ok (.iload 19, 2) := dk_21 19 (dk_at dksX1_chained_6 13 rfl rfl)
theorem dX1_chained_155 : decode cX1_chained 155 = .ok (.aload 18, 2) := dk_25 18 (dk_at dksX1_chained_6 15 rfl rfl)
theorem dX1_chained_157 : decode cX1_chained 157 = .ok (.invokevirtual 303, 3) := dk_182 1 47 (dk_at dksX1_chained_6 17 rfl rfl)
theorem dX1_chained_160 : decode cX1_chained 160 = .ok (.if_icmp .ge 97, 3) := dk_162 0 97 (dk_at dksX1_chained_6 20 rfl rfl)
theorem dX1_chained_163 : decode cX1_chained 163 = .ok (.aload 14, 2) := dk_25 14 (dk_at dksX1_chained_7 0 rfl rfl)
theorem dX1_chained_165 : decode cX1_chained 165 = .ok (.ifnonnull 92, 3) := dk_199 0 92 (dk_at dksX1_chained_7 2 rfl rfl)
theorem dX1_chained_168 : decode cX1_chained 168 = .ok (.aload_n 0, 1) := dk_42 (dk_at dksX1_chained_7 5 rfl rfl)
theorem dX1_chained_169 : decode cX1_chained 169 = .ok (.aload 18, 2) := dk_25 18 (dk_at dksX1_chained_7 6 rfl rfl)
theorem dX1_chained_171 : decode cX1_chained 171 = .ok (.iload 19, 2) := dk_21 19 (dk_at dksX1_chained_7 8 rfl rfl)
theorem dX1_chained_173 : decode cX1_chained 173 = .ok (.iload 10, 2) := dk_21 10 (dk_at dksX1_chained_7 10 rfl rfl)
theorem dX1_chained_175 : decode cX1_chained 175 = .ok (.iload 6, 2) := dk_21 6 (dk_at dksX1_chained_7 12 rfl rfl)
theorem dX1_chained_177 : decode cX1_chained 177 = .ok (.iload 11, 2) := dk_21 11 (dk_at dksX1_chained_7 14 rfl rfl)
theorem dX1_chained_179 : decode cX1_chained 179 = .ok (.aload 8, 2) := dk_25 8 (dk_at dksX1_chained_7 16 rfl rfl)
theorem dX1_chained_181 : decode cX1_chained 181 = .ok (.invokevirtual 446, 3) := dk_182 1 190 (dk_at dksX1_chained_7 18 rfl rfl)
theorem dX1_chained_184 : decode cX1_chained 184 = .ok (.ifCond .eq 15, 3) := dk_153 0 15 (dk_at dksX1_chained_7 21 rfl rfl)
theorem dX1_chained_187 : decode cX1_chained 187 = .ok (.aload 18, 2) := dk_25 18 (dk_at dksX1_chained_8 0 rfl rfl)
theorem dX1_chained_189 : decode cX1_chained 189 = .ok (.iload 19, 2) := dk_21 19 (dk_at dksX1_chained_8 2 rfl rfl)
theorem dX1_chained_191 : decode cX1_chained 191 = .ok (.aload 13, 2) := dk_25 13 (dk_at dksX1_chained_8 4 rfl rfl)
theorem dX1_chained_193 : decode cX1_chained 193 = .ok (.invokestatic 450, 3) := dk_184 1 194 (dk_at dksX1_chained_8 6 rfl rfl)
theorem dX1_chained_196 : decode cX1_chained 196 = .ok (.goto 4, 3) := dk_167 0 4 (dk_at dksX1_chained_8 9 rfl rfl)
theorem dX1_chained_199 : decode cX1_chained 199 = .ok (.iconst (-1), 1) := dk_2 (dk_at dksX1_chained_8 12 rfl rfl)
theorem dX1_chained_200 : decode cX1_chained 200 = .ok (.istore 20, 2) := dk_54 20 (dk_at dksX1_chained_8 13 rfl rfl)
theorem dX1_chained_202 : decode cX1_chained 202 = .ok (.iload 20, 2) := dk_21 20 (dk_at dksX1_chained_8 15 rfl rfl)
theorem dX1_chained_204 : decode cX1_chained 204 = .ok (.iconst (-1), 1) := dk_2 (dk_at dksX1_chained_8 17 rfl rfl)
theorem dX1_chained_205 : decode cX1_chained 205 = .ok (.if_icmp .eq 46, 3) := dk_159 0 46 (dk_at dksX1_chained_8 18 rfl rfl)
theorem dX1_chained_208 : decode cX1_chained 208 = .ok (.new 454, 3) := dk_187 1 198 (dk_at dksX1_chained_8 21 rfl rfl)
theorem dX1_chained_211 : decode cX1_chained 211 = .ok (.dup, 1) := dk_89 (dk_at dksX1_chained_9 0 rfl rfl)
theorem dX1_chained_212 : decode cX1_chained 212 = .ok (.aload 18, 2) := dk_25 18 (dk_at dksX1_chained_9 1 rfl rfl)
theorem dX1_chained_214 : decode cX1_chained 214 = .ok (.getfield 456, 3) := dk_180 1 200 (dk_at dksX1_chained_9 3 rfl rfl)
theorem dX1_chained_217 : decode cX1_chained 217 = .ok (.aload 18, 2) := dk_25 18 (dk_at dksX1_chained_9 6 rfl rfl)
theorem dX1_chained_219 : decode cX1_chained 219 = .ok (.getfield 459, 3) := dk_180 1 203 (dk_at dksX1_chained_9 8 rfl rfl)
theorem dX1_chained_222 : decode cX1_chained 222 = .ok (.iload 20, 2) := dk_21 20 (dk_at dksX1_chained_9 11 rfl rfl)
theorem dX1_chained_224 : decode cX1_chained 224 = .ok (.iload 19, 2) := dk_21 19 (dk_at dksX1_chained_9 13 rfl rfl)
theorem dX1_chained_226 : decode cX1_chained 226 = .ok (.invokespecial 462, 3) := dk_183 1 206 (dk_at dksX1_chained_9 15 rfl rfl)
theorem dX1_chained_229 : decode cX1_chained 229 = .ok (.astore 14, 2) := dk_58 14 (dk_at dksX1_chained_9 18 rfl rfl)
theorem dX1_chained_231 : decode cX1_chained 231 = .ok (.aload 18, 2) := dk_25 18 (dk_at dksX1_chained_9 20 rfl rfl)
theorem dX1_chained_233 : decode cX1_chained 233 = .ok (.getfield 399, 3) := dk_180 1 143 (dk_at dksX1_chained_10 0 rfl rfl)
theorem dX1_chained_236 : decode cX1_chained 236 = .ok (.iload 20, 2) := dk_21 20 (dk_at dksX1_chained_10 3 rfl rfl)
theorem dX1_chained_238 : decode cX1_chained 238 = .ok (.iaload, 1) := dk_46 (dk_at dksX1_chained_10 5 rfl rfl)
theorem dX1_chained_239 : decode cX1_chained 239 = .ok (.istore 15, 2) := dk_54 15 (dk_at dksX1_chained_10 6 rfl rfl)
theorem dX1_chained_241 : decode cX1_chained 241 = .ok (.aload 18, 2) := dk_25 18 (dk_at dksX1_chained_10 8 rfl rfl)
theorem dX1_chained_243 : decode cX1_chained 243 = .ok (.getfield 311, 3) := dk_180 1 55 (dk_at dksX1_chained_10 10 rfl rfl)
theorem dX1_chained_246 : decode cX1_chained 246 = .ok (.iload 20, 2) := dk_21 20 (dk_at dksX1_chained_10 13 rfl rfl)
theorem dX1_chained_248 : decode cX1_chained 248 = .ok (.iaload, 1) := dk_46 (dk_at dksX1_chained_10 15 rfl rfl)
theorem dX1_chained_249 : decode cX1_chained 249 = .ok (.istore 16, 2) := dk_54 16 (dk_at dksX1_chained_10 16 rfl rfl)
theorem dX1_chained_251 : decode cX1_chained 251 = .ok (.iinc 19 1, 3) := dk_132 19 1 (dk_at dksX1_chained_10 18 rfl rfl)
theorem dX1_chained_254 : decode cX1_chained 254 = .ok (.goto (-101), 3) := dk_167 255 155 (dk_at dksX1_chained_10 21 rfl rfl)
theorem dX1_chained_257 : decode cX1_chained 257 = .ok (.goto (-129), 3) := dk_167 255 127 (dk_at dksX1_chained_11 0 rfl rfl)
theorem dX1_chained_260 : decode cX1_chained 260 = .ok (.aload 9, 2) := dk_25 9 (dk_at dksX1_chained_11 3 rfl rfl)
theorem dX1_chained_262 : decode cX1_chained 262 = .ok (.iconst 0, 1) := dk_3 (dk_at dksX1_chained_11 5 rfl rfl)
theorem dX1_chained_263 : decode cX1_chained 263 = .ok (.aload 14, 2) := dk_25 14 (dk_at dksX1_chained_11 6 rfl rfl)
theorem dX1_chained_265 : decode cX1_chained 265 = .ok (.invokevirtual 464, 3) := dk_182 1 208 (dk_at dksX1_chained_11 8 rfl rfl)
theorem dX1_chained_268 : decode cX1_chained 268 = .ok (.iload 15, 2) := dk_21 15 (dk_at dksX1_chained_11 11 rfl rfl)
theorem dX1_chained_270 : decode cX1_chained 270 = .ok (.istore 10, 2) := dk_54 10 (dk_at dksX1_chained_11 13 rfl rfl)
theorem dX1_chained_272 : decode cX1_chained 272 = .ok (.iload 16, 2) := dk_21 16 (dk_at dksX1_chained_11 15 rfl rfl)
theorem dX1_chained_274 : decode cX1_chained 274 = .ok (.istore 6, 2) := dk_54 6 (dk_at dksX1_chained_11 17 rfl rfl)
theorem dX1_chained_276 : decode cX1_chained 276 = .ok (.iconst 0, 1) := dk_3 (dk_at dksX1_chained_11 19 rfl rfl)
theorem dX1_chained_277 : decode cX1_chained 277 = .ok (.istore 11, 2) := dk_54 11 (dk_at dksX1_chained_11 20 rfl rfl)
theorem dX1_chained_279 : decode cX1_chained 279 = .ok (.iinc 12 (-1), 3) := dk_132 12 255 (dk_at dksX1_chained_12 0 rfl rfl)
theorem dX1_chained_282 : decode cX1_chained 282 = .ok (.goto (-192), 3) := dk_167 255 64 (dk_at dksX1_chained_12 3 rfl rfl)
theorem dX1_chained_285 : decode cX1_chained 285 = .ok (.aload 9, 2) := dk_25 9 (dk_at dksX1_chained_12 6 rfl rfl)
theorem dX1_chained_287 : decode cX1_chained 287 = .ok (.areturn, 1) := dk_176 (dk_at dksX1_chained_12 8 rfl rfl)
abbrev cX1_isInTime : ByteArray := prog_1_method_61_code
def yX1_isInTime : MethodName := ⟨RX1, "isInTime", "(LLastbus$Run;IIIZ[[I)Z"⟩
def dkwX1_isInTime_2 : List UInt8 := [167, 0, 10, 25, 6, 21, 7, 50, 29, 46, 96, 21, 4, 163, 0, 7, 4, 167, 0, 4, 3, 172]
abbrev dktX1_isInTime_2 : List UInt8 := dkwX1_isInTime_2 ++ []
def dkwX1_isInTime_1 : List UInt8 := [180, 1, 67, 28, 46, 21, 7, 29, 160, 0, 18, 21, 5, 154, 0, 13, 42, 180, 0, 9, 21, 7, 46]
abbrev dktX1_isInTime_1 : List UInt8 := dkwX1_isInTime_1 ++ dktX1_isInTime_2
def dkwX1_isInTime_0 : List UInt8 := [43, 180, 1, 143, 28, 46, 54, 7, 25, 6, 21, 7, 50, 29, 46, 18, 106, 161, 0, 5, 3, 172, 43]
abbrev dktX1_isInTime_0 : List UInt8 := dkwX1_isInTime_0 ++ dktX1_isInTime_1
theorem dksX1_isInTime_0 : cX1_isInTime.data.toList.drop 0 = dktX1_isInTime_0 := by decide +kernel
theorem dksX1_isInTime_1 : cX1_isInTime.data.toList.drop 23 = dktX1_isInTime_1 := dk_seg dksX1_isInTime_0 23 rfl rfl
theorem dksX1_isInTime_2 : cX1_isInTime.data.toList.drop 46 = dktX1_isInTime_2 := dk_seg dksX1_isInTime_1 23 rfl rfl
theorem dX1_isInTime_0 : decode cX1_isInTime 0 = .ok (.aload_n 1, 1) := dk_43 (dk_at dksX1_isInTime_0 0 rfl rfl)
theorem dX1_isInTime_1 : decode cX1_isInTime 1 = .ok (.getfield 399, 3) := dk_180 1 143 (dk_at dksX1_isInTime_0 1 rfl rfl)
theorem dX1_isInTime_4 : decode cX1_isInTime 4 = .ok (.iload_n 2, 1) := dk_28 (dk_at dksX1_isInTime_0 4 rfl rfl)
theorem dX1_isInTime_5 : decode cX1_isInTime 5 = .ok (.iaload, 1) := dk_46 (dk_at dksX1_isInTime_0 5 rfl rfl)
theorem dX1_isInTime_6 : decode cX1_isInTime 6 = .ok (.istore 7, 2) := dk_54 7 (dk_at dksX1_isInTime_0 6 rfl rfl)
theorem dX1_isInTime_8 : decode cX1_isInTime 8 = .ok (.aload 6, 2) := dk_25 6 (dk_at dksX1_isInTime_0 8 rfl rfl)
theorem dX1_isInTime_10 : decode cX1_isInTime 10 = .ok (.iload 7, 2) := dk_21 7 (dk_at dksX1_isInTime_0 10 rfl rfl)
theorem dX1_isInTime_12 : decode cX1_isInTime 12 = .ok (.aaload, 1) := dk_50 (dk_at dksX1_isInTime_0 12 rfl rfl)
theorem dX1_isInTime_13 : decode cX1_isInTime 13 = .ok (.iload_n 3, 1) := dk_29 (dk_at dksX1_isInTime_0 13 rfl rfl)
theorem dX1_isInTime_14 : decode cX1_isInTime 14 = .ok (.iaload, 1) := dk_46 (dk_at dksX1_isInTime_0 14 rfl rfl)
theorem dX1_isInTime_15 : decode cX1_isInTime 15 = .ok (.ldc 106, 2) := dk_18 106 (dk_at dksX1_isInTime_0 15 rfl rfl)
theorem dX1_isInTime_17 : decode cX1_isInTime 17 = .ok (.if_icmp .lt 5, 3) := dk_161 0 5 (dk_at dksX1_isInTime_0 17 rfl rfl)
theorem dX1_isInTime_20 : decode cX1_isInTime 20 = .ok (.iconst 0, 1) := dk_3 (dk_at dksX1_isInTime_0 20 rfl rfl)
theorem dX1_isInTime_21 : decode cX1_isInTime 21 = .ok (.ireturn, 1) := dk_172 (dk_at dksX1_isInTime_0 21 rfl rfl)
theorem dX1_isInTime_22 : decode cX1_isInTime 22 = .ok (.aload_n 1, 1) := dk_43 (dk_at dksX1_isInTime_0 22 rfl rfl)
theorem dX1_isInTime_23 : decode cX1_isInTime 23 = .ok (.getfield 323, 3) := dk_180 1 67 (dk_at dksX1_isInTime_1 0 rfl rfl)
theorem dX1_isInTime_26 : decode cX1_isInTime 26 = .ok (.iload_n 2, 1) := dk_28 (dk_at dksX1_isInTime_1 3 rfl rfl)
theorem dX1_isInTime_27 : decode cX1_isInTime 27 = .ok (.iaload, 1) := dk_46 (dk_at dksX1_isInTime_1 4 rfl rfl)
theorem dX1_isInTime_28 : decode cX1_isInTime 28 = .ok (.iload 7, 2) := dk_21 7 (dk_at dksX1_isInTime_1 5 rfl rfl)
theorem dX1_isInTime_30 : decode cX1_isInTime 30 = .ok (.iload_n 3, 1) := dk_29 (dk_at dksX1_isInTime_1 7 rfl rfl)
theorem dX1_isInTime_31 : decode cX1_isInTime 31 = .ok (.if_icmp .ne 18, 3) := dk_160 0 18 (dk_at dksX1_isInTime_1 8 rfl rfl)
theorem dX1_isInTime_34 : decode cX1_isInTime 34 = .ok (.iload 5, 2) := dk_21 5 (dk_at dksX1_isInTime_1 11 rfl rfl)
theorem dX1_isInTime_36 : decode cX1_isInTime 36 = .ok (.ifCond .ne 13, 3) := dk_154 0 13 (dk_at dksX1_isInTime_1 13 rfl rfl)
theorem dX1_isInTime_39 : decode cX1_isInTime 39 = .ok (.aload_n 0, 1) := dk_42 (dk_at dksX1_isInTime_1 16 rfl rfl)
theorem dX1_isInTime_40 : decode cX1_isInTime 40 = .ok (.getfield 9, 3) := dk_180 0 9 (dk_at dksX1_isInTime_1 17 rfl rfl)
theorem dX1_isInTime_43 : decode cX1_isInTime 43 = .ok (.iload 7, 2) := dk_21 7 (dk_at dksX1_isInTime_1 20 rfl rfl)
theorem dX1_isInTime_45 : decode cX1_isInTime 45 = .ok (.iaload, 1) := dk_46 (dk_at dksX1_isInTime_1 22 rfl rfl)
theorem dX1_isInTime_46 : decode cX1_isInTime 46 = .ok (.goto 10, 3) := dk_167 0 10 (dk_at dksX1_isInTime_2 0 rfl rfl)
theorem dX1_isInTime_49 : decode cX1_isInTime 49 = .ok (.aload 6, 2) := dk_25 6 (dk_at dksX1_isInTime_2 3 rfl rfl)
theorem dX1_isInTime_51 : decode cX1_isInTime 51 = .ok (.iload 7, 2) := dk_21 7 (dk_at dksX1_isInTime_2 5 rfl rfl)
theorem dX1_isInTime_53 : decode cX1_isInTime 53 = .ok (.aaload, 1) := dk_50 (dk_at dksX1_isInTime_2 7 rfl rfl)
theorem dX1_isInTime_54 : decode cX1_isInTime 54 = .ok (.iload_n 3, 1) := dk_29 (dk_at dksX1_isInTime_2 8 rfl rfl)
theorem dX1_isInTime_55 : decode cX1_isInTime 55 = .ok (.iaload, 1) := dk_46 (dk_at dksX1_isInTime_2 9 rfl rfl)
theorem dX1_isInTime_56 : decode cX1_isInTime 56 = .ok (.iadd, 1) := dk_96 (dk_at dksX1_isInTime_2 10 rfl rfl)
theorem dX1_isInTime_57 : decode cX1_isInTime 57 = .ok (.iload 4, 2) := dk_21 4 (dk_at dksX1_isInTime_2 11 rfl rfl)
theorem dX1_isInTime_59 : decode cX1_isInTime 59 = .ok (.if_icmp .gt 7, 3) := dk_163 0 7 (dk_at dksX1_isInTime_2 13 rfl rfl)
theorem dX1_isInTime_62 : decode cX1_isInTime 62 = .ok (.iconst 1, 1) := dk_4 (dk_at dksX1_isInTime_2 16 rfl rfl)
theorem dX1_isInTime_63 : decode cX1_isInTime 63 = .ok (.goto 4, 3) := dk_167 0 4 (dk_at dksX1_isInTime_2 17 rfl rfl)
theorem dX1_isInTime_66 : decode cX1_isInTime 66 = .ok (.iconst 0, 1) := dk_3 (dk_at dksX1_isInTime_2 20 rfl rfl)
theorem dX1_isInTime_67 : decode cX1_isInTime 67 = .ok (.ireturn, 1) := dk_172 (dk_at dksX1_isInTime_2 21 rfl rfl)
abbrev cX1_lastOn : ByteArray := prog_1_method_62_code
def yX1_lastOn : MethodName := ⟨RX1, "lastOn", "(LLastbus$Run;ILLastbus$Labels;)I"⟩
def dkwX1_lastOn_1 : List UInt8 := [167, 255, 238, 2, 172]
abbrev dktX1_lastOn_1 : List UInt8 := dkwX1_lastOn_1 ++ []
def dkwX1_lastOn_0 : List UInt8 := [27, 4, 100, 62, 29, 155, 0, 20, 44, 42, 29, 182, 1, 79, 153, 0, 5, 29, 172, 132, 3, 255]
abbrev dktX1_lastOn_0 : List UInt8 := dkwX1_lastOn_0 ++ dktX1_lastOn_1
theorem dksX1_lastOn_0 : cX1_lastOn.data.toList.drop 0 = dktX1_lastOn_0 := by decide +kernel
theorem dksX1_lastOn_1 : cX1_lastOn.data.toList.drop 22 = dktX1_lastOn_1 := dk_seg dksX1_lastOn_0 22 rfl rfl
theorem dX1_lastOn_0 : decode cX1_lastOn 0 = .ok (.iload_n 1, 1) := dk_27 (dk_at dksX1_lastOn_0 0 rfl rfl)
theorem dX1_lastOn_1 : decode cX1_lastOn 1 = .ok (.iconst 1, 1) := dk_4 (dk_at dksX1_lastOn_0 1 rfl rfl)
theorem dX1_lastOn_2 : decode cX1_lastOn 2 = .ok (.isub, 1) := dk_100 (dk_at dksX1_lastOn_0 2 rfl rfl)
theorem dX1_lastOn_3 : decode cX1_lastOn 3 = .ok (.istore_n 3, 1) := dk_62 (dk_at dksX1_lastOn_0 3 rfl rfl)
theorem dX1_lastOn_4 : decode cX1_lastOn 4 = .ok (.iload_n 3, 1) := dk_29 (dk_at dksX1_lastOn_0 4 rfl rfl)
theorem dX1_lastOn_5 : decode cX1_lastOn 5 = .ok (.ifCond .lt 20, 3) := dk_155 0 20 (dk_at dksX1_lastOn_0 5 rfl rfl)
theorem dX1_lastOn_8 : decode cX1_lastOn 8 = .ok (.aload_n 2, 1) := dk_44 (dk_at dksX1_lastOn_0 8 rfl rfl)
theorem dX1_lastOn_9 : decode cX1_lastOn 9 = .ok (.aload_n 0, 1) := dk_42 (dk_at dksX1_lastOn_0 9 rfl rfl)
theorem dX1_lastOn_10 : decode cX1_lastOn 10 = .ok (.iload_n 3, 1) := dk_29 (dk_at dksX1_lastOn_0 10 rfl rfl)
theorem dX1_lastOn_11 : decode cX1_lastOn 11 = .ok (.invokevirtual 335, 3) := dk_182 1 79 (dk_at dksX1_lastOn_0 11 rfl rfl)
theorem dX1_lastOn_14 : decode cX1_lastOn 14 = .ok (.ifCond .eq 5, 3) := dk_153 0 5 (dk_at dksX1_lastOn_0 14 rfl rfl)
theorem dX1_lastOn_17 : decode cX1_lastOn 17 = .ok (.iload_n 3, 1) := dk_29 (dk_at dksX1_lastOn_0 17 rfl rfl)
theorem dX1_lastOn_18 : decode cX1_lastOn 18 = .ok (.ireturn, 1) := dk_172 (dk_at dksX1_lastOn_0 18 rfl rfl)
theorem dX1_lastOn_19 : decode cX1_lastOn 19 = .ok (.iinc 3 (-1), 3) := dk_132 3 255 (dk_at dksX1_lastOn_0 19 rfl rfl)
theorem dX1_lastOn_22 : decode cX1_lastOn 22 = .ok (.goto (-18), 3) := dk_167 255 238 (dk_at dksX1_lastOn_1 0 rfl rfl)
theorem dX1_lastOn_25 : decode cX1_lastOn 25 = .ok (.iconst (-1), 1) := dk_2 (dk_at dksX1_lastOn_1 3 rfl rfl)
theorem dX1_lastOn_26 : decode cX1_lastOn 26 = .ok (.ireturn, 1) := dk_172 (dk_at dksX1_lastOn_1 4 rfl rfl)
abbrev cX1_ride : ByteArray := prog_1_method_65_code
def yX1_ride : MethodName := ⟨RX1, "ride", "(IC)I"⟩
def dkwX1_ride_4 : List UInt8 := [45, 182, 1, 225, 172, 45, 182, 1, 227, 172, 45, 182, 1, 229, 172, 45, 182, 1, 232, 172]
abbrev dktX1_ride_4 : List UInt8 := dkwX1_ride_4 ++ []
def dkwX1_ride_3 : List UInt8 := [171, 0, 0, 0, 48, 0, 0, 0, 3, 0, 0, 0, 100, 0, 0, 0, 38, 0, 0, 0, 111, 0, 0, 0, 43, 0, 0, 0, 116, 0, 0, 0, 33]
abbrev dktX1_ride_3 : List UInt8 := dkwX1_ride_3 ++ dktX1_ride_4
def dkwX1_ride_2 : List UInt8 := [3, 184, 0, 117, 42, 180, 1, 215, 27, 182, 0, 79, 192, 1, 198, 78, 28]
abbrev dktX1_ride_2 : List UInt8 := dkwX1_ride_2 ++ dktX1_ride_3
def dkwX1_ride_1 : List UInt8 := [198, 0, 24, 27, 3, 42, 180, 1, 215, 182, 0, 71, 4, 100, 184, 0, 64, 153, 0, 7, 4, 167, 0, 4]
abbrev dktX1_ride_1 : List UInt8 := dkwX1_ride_1 ++ dktX1_ride_2
def dkwX1_ride_0 : List UInt8 := [19, 1, 218, 28, 182, 1, 220, 155, 0, 7, 4, 167, 0, 4, 3, 184, 0, 96, 42, 180, 1, 215]
abbrev dktX1_ride_0 : List UInt8 := dkwX1_ride_0 ++ dktX1_ride_1
theorem dksX1_ride_0 : cX1_ride.data.toList.drop 0 = dktX1_ride_0 := by decide +kernel
theorem dksX1_ride_1 : cX1_ride.data.toList.drop 22 = dktX1_ride_1 := dk_seg dksX1_ride_0 22 rfl rfl
theorem dksX1_ride_2 : cX1_ride.data.toList.drop 46 = dktX1_ride_2 := dk_seg dksX1_ride_1 24 rfl rfl
theorem dksX1_ride_3 : cX1_ride.data.toList.drop 63 = dktX1_ride_3 := dk_seg dksX1_ride_2 17 rfl rfl
theorem dksX1_ride_4 : cX1_ride.data.toList.drop 96 = dktX1_ride_4 := dk_seg dksX1_ride_3 33 rfl rfl
theorem dX1_ride_0 : decode cX1_ride 0 = .ok (.ldc_w 474, 3) := dk_19 1 218 (dk_at dksX1_ride_0 0 rfl rfl)
theorem dX1_ride_3 : decode cX1_ride 3 = .ok (.iload_n 2, 1) := dk_28 (dk_at dksX1_ride_0 3 rfl rfl)
theorem dX1_ride_4 : decode cX1_ride 4 = .ok (.invokevirtual 476, 3) := dk_182 1 220 (dk_at dksX1_ride_0 4 rfl rfl)
theorem dX1_ride_7 : decode cX1_ride 7 = .ok (.ifCond .lt 7, 3) := dk_155 0 7 (dk_at dksX1_ride_0 7 rfl rfl)
theorem dX1_ride_10 : decode cX1_ride 10 = .ok (.iconst 1, 1) := dk_4 (dk_at dksX1_ride_0 10 rfl rfl)
theorem dX1_ride_11 : decode cX1_ride 11 = .ok (.goto 4, 3) := dk_167 0 4 (dk_at dksX1_ride_0 11 rfl rfl)
theorem dX1_ride_14 : decode cX1_ride 14 = .ok (.iconst 0, 1) := dk_3 (dk_at dksX1_ride_0 14 rfl rfl)
theorem dX1_ride_15 : decode cX1_ride 15 = .ok (.invokestatic 96, 3) := dk_184 0 96 (dk_at dksX1_ride_0 15 rfl rfl)
theorem dX1_ride_18 : decode cX1_ride 18 = .ok (.aload_n 0, 1) := dk_42 (dk_at dksX1_ride_0 18 rfl rfl)
theorem dX1_ride_19 : decode cX1_ride 19 = .ok (.getfield 471, 3) := dk_180 1 215 (dk_at dksX1_ride_0 19 rfl rfl)
theorem dX1_ride_22 : decode cX1_ride 22 = .ok (.ifnull 24, 3) := dk_198 0 24 (dk_at dksX1_ride_1 0 rfl rfl)
theorem dX1_ride_25 : decode cX1_ride 25 = .ok (.iload_n 1, 1) := dk_27 (dk_at dksX1_ride_1 3 rfl rfl)
theorem dX1_ride_26 : decode cX1_ride 26 = .ok (.iconst 0, 1) := dk_3 (dk_at dksX1_ride_1 4 rfl rfl)
theorem dX1_ride_27 : decode cX1_ride 27 = .ok (.aload_n 0, 1) := dk_42 (dk_at dksX1_ride_1 5 rfl rfl)
theorem dX1_ride_28 : decode cX1_ride 28 = .ok (.getfield 471, 3) := dk_180 1 215 (dk_at dksX1_ride_1 6 rfl rfl)
theorem dX1_ride_31 : decode cX1_ride 31 = .ok (.invokevirtual 71, 3) := dk_182 0 71 (dk_at dksX1_ride_1 9 rfl rfl)
theorem dX1_ride_34 : decode cX1_ride 34 = .ok (.iconst 1, 1) := dk_4 (dk_at dksX1_ride_1 12 rfl rfl)
theorem dX1_ride_35 : decode cX1_ride 35 = .ok (.isub, 1) := dk_100 (dk_at dksX1_ride_1 13 rfl rfl)
theorem dX1_ride_36 : decode cX1_ride 36 = .ok (.invokestatic 64, 3) := dk_184 0 64 (dk_at dksX1_ride_1 14 rfl rfl)
theorem dX1_ride_39 : decode cX1_ride 39 = .ok (.ifCond .eq 7, 3) := dk_153 0 7 (dk_at dksX1_ride_1 17 rfl rfl)
theorem dX1_ride_42 : decode cX1_ride 42 = .ok (.iconst 1, 1) := dk_4 (dk_at dksX1_ride_1 20 rfl rfl)
theorem dX1_ride_43 : decode cX1_ride 43 = .ok (.goto 4, 3) := dk_167 0 4 (dk_at dksX1_ride_1 21 rfl rfl)
theorem dX1_ride_46 : decode cX1_ride 46 = .ok (.iconst 0, 1) := dk_3 (dk_at dksX1_ride_2 0 rfl rfl)
theorem dX1_ride_47 : decode cX1_ride 47 = .ok (.invokestatic 117, 3) := dk_184 0 117 (dk_at dksX1_ride_2 1 rfl rfl)
theorem dX1_ride_50 : decode cX1_ride 50 = .ok (.aload_n 0, 1) := dk_42 (dk_at dksX1_ride_2 4 rfl rfl)
theorem dX1_ride_51 : decode cX1_ride 51 = .ok (.getfield 471, 3) := dk_180 1 215 (dk_at dksX1_ride_2 5 rfl rfl)
theorem dX1_ride_54 : decode cX1_ride 54 = .ok (.iload_n 1, 1) := dk_27 (dk_at dksX1_ride_2 8 rfl rfl)
theorem dX1_ride_55 : decode cX1_ride 55 = .ok (.invokevirtual 79, 3) := dk_182 0 79 (dk_at dksX1_ride_2 9 rfl rfl)
theorem dX1_ride_58 : decode cX1_ride 58 = .ok (.checkcast 454, 3) := dk_192 1 198 (dk_at dksX1_ride_2 12 rfl rfl)
theorem dX1_ride_61 : decode cX1_ride 61 = .ok (.astore_n 3, 1) := dk_78 (dk_at dksX1_ride_2 15 rfl rfl)
theorem dX1_ride_62 : decode cX1_ride 62 = .ok (.iload_n 2, 1) := dk_28 (dk_at dksX1_ride_2 16 rfl rfl)
theorem dX1_ride_63 : decode cX1_ride 63 = .ok (.lookupswitch 48 #[(100, 38), (111, 43), (116, 33)], 33) := by decide +kernel
theorem dX1_ride_96 : decode cX1_ride 96 = .ok (.aload_n 3, 1) := dk_45 (dk_at dksX1_ride_4 0 rfl rfl)
theorem dX1_ride_97 : decode cX1_ride 97 = .ok (.invokevirtual 481, 3) := dk_182 1 225 (dk_at dksX1_ride_4 1 rfl rfl)
theorem dX1_ride_100 : decode cX1_ride 100 = .ok (.ireturn, 1) := dk_172 (dk_at dksX1_ride_4 4 rfl rfl)
theorem dX1_ride_101 : decode cX1_ride 101 = .ok (.aload_n 3, 1) := dk_45 (dk_at dksX1_ride_4 5 rfl rfl)
theorem dX1_ride_102 : decode cX1_ride 102 = .ok (.invokevirtual 483, 3) := dk_182 1 227 (dk_at dksX1_ride_4 6 rfl rfl)
theorem dX1_ride_105 : decode cX1_ride 105 = .ok (.ireturn, 1) := dk_172 (dk_at dksX1_ride_4 9 rfl rfl)
theorem dX1_ride_106 : decode cX1_ride 106 = .ok (.aload_n 3, 1) := dk_45 (dk_at dksX1_ride_4 10 rfl rfl)
theorem dX1_ride_107 : decode cX1_ride 107 = .ok (.invokevirtual 485, 3) := dk_182 1 229 (dk_at dksX1_ride_4 11 rfl rfl)
theorem dX1_ride_110 : decode cX1_ride 110 = .ok (.ireturn, 1) := dk_172 (dk_at dksX1_ride_4 14 rfl rfl)
theorem dX1_ride_111 : decode cX1_ride 111 = .ok (.aload_n 3, 1) := dk_45 (dk_at dksX1_ride_4 15 rfl rfl)
theorem dX1_ride_112 : decode cX1_ride 112 = .ok (.invokevirtual 488, 3) := dk_182 1 232 (dk_at dksX1_ride_4 16 rfl rfl)
theorem dX1_ride_115 : decode cX1_ride 115 = .ok (.ireturn, 1) := dk_172 (dk_at dksX1_ride_4 19 rfl rfl)
abbrev cX1_onBoard : ByteArray := prog_1_method_67_code
def yX1_onBoard : MethodName := ⟨RX1, "onBoard", "(IIII)I"⟩
def dkwX1_onBoard_4 : List UInt8 := [25, 6, 28, 184, 1, 235, 29, 182, 1, 94, 25, 7, 180, 1, 116, 21, 4, 46, 184, 1, 117, 172]
abbrev dktX1_onBoard_4 : List UInt8 := dkwX1_onBoard_4 ++ []
def dkwX1_onBoard_3 : List UInt8 := [187, 1, 80, 89, 42, 2, 42, 2, 182, 0, 113, 183, 1, 88, 58, 7, 42, 25, 7, 25, 6, 184, 1, 101]
abbrev dktX1_onBoard_3 : List UInt8 := dkwX1_onBoard_3 ++ dktX1_onBoard_4
def dkwX1_onBoard_2 : List UInt8 := [182, 0, 71, 4, 100, 162, 0, 7, 4, 167, 0, 4, 3, 184, 0, 228, 42, 27, 182, 1, 98, 58, 6]
abbrev dktX1_onBoard_2 : List UInt8 := dkwX1_onBoard_2 ++ dktX1_onBoard_3
def dkwX1_onBoard_1 : List UInt8 := [42, 28, 27, 182, 1, 20, 153, 0, 30, 29, 42, 180, 0, 25, 28, 182, 0, 79, 192, 0, 83, 180, 0, 89]
abbrev dktX1_onBoard_1 : List UInt8 := dkwX1_onBoard_1 ++ dktX1_onBoard_2
def dkwX1_onBoard_0 : List UInt8 := [42, 28, 29, 182, 0, 170, 58, 5, 42, 21, 4, 182, 0, 102, 184, 0, 75, 27, 184, 0, 129, 184, 0, 96]
abbrev dktX1_onBoard_0 : List UInt8 := dkwX1_onBoard_0 ++ dktX1_onBoard_1
theorem dksX1_onBoard_0 : cX1_onBoard.data.toList.drop 0 = dktX1_onBoard_0 := by decide +kernel
theorem dksX1_onBoard_1 : cX1_onBoard.data.toList.drop 24 = dktX1_onBoard_1 := dk_seg dksX1_onBoard_0 24 rfl rfl
theorem dksX1_onBoard_2 : cX1_onBoard.data.toList.drop 48 = dktX1_onBoard_2 := dk_seg dksX1_onBoard_1 24 rfl rfl
theorem dksX1_onBoard_3 : cX1_onBoard.data.toList.drop 71 = dktX1_onBoard_3 := dk_seg dksX1_onBoard_2 23 rfl rfl
theorem dksX1_onBoard_4 : cX1_onBoard.data.toList.drop 95 = dktX1_onBoard_4 := dk_seg dksX1_onBoard_3 24 rfl rfl
theorem dX1_onBoard_0 : decode cX1_onBoard 0 = .ok (.aload_n 0, 1) := dk_42 (dk_at dksX1_onBoard_0 0 rfl rfl)
theorem dX1_onBoard_1 : decode cX1_onBoard 1 = .ok (.iload_n 2, 1) := dk_28 (dk_at dksX1_onBoard_0 1 rfl rfl)
theorem dX1_onBoard_2 : decode cX1_onBoard 2 = .ok (.iload_n 3, 1) := dk_29 (dk_at dksX1_onBoard_0 2 rfl rfl)
theorem dX1_onBoard_3 : decode cX1_onBoard 3 = .ok (.invokevirtual 170, 3) := dk_182 0 170 (dk_at dksX1_onBoard_0 3 rfl rfl)
theorem dX1_onBoard_6 : decode cX1_onBoard 6 = .ok (.astore 5, 2) := dk_58 5 (dk_at dksX1_onBoard_0 6 rfl rfl)
theorem dX1_onBoard_8 : decode cX1_onBoard 8 = .ok (.aload_n 0, 1) := dk_42 (dk_at dksX1_onBoard_0 8 rfl rfl)
theorem dX1_onBoard_9 : decode cX1_onBoard 9 = .ok (.iload 4, 2) := dk_21 4 (dk_at dksX1_onBoard_0 9 rfl rfl)
theorem dX1_onBoard_11 : decode cX1_onBoard 11 = .ok (.invokevirtual 102, 3) := dk_182 0 102 (dk_at dksX1_onBoard_0 11 rfl rfl)
theorem dX1_onBoard_14 : decode cX1_onBoard 14 = .ok (.invokestatic 75, 3) := dk_184 0 75 (dk_at dksX1_onBoard_0 14 rfl rfl)
theorem dX1_onBoard_17 : decode cX1_onBoard 17 = .ok (.iload_n 1, 1) := dk_27 (dk_at dksX1_onBoard_0 17 rfl rfl)
theorem dX1_onBoard_18 : decode cX1_onBoard 18 = .ok (.invokestatic 129, 3) := dk_184 0 129 (dk_at dksX1_onBoard_0 18 rfl rfl)
theorem dX1_onBoard_21 : decode cX1_onBoard 21 = .ok (.invokestatic 96, 3) := dk_184 0 96 (dk_at dksX1_onBoard_0 21 rfl rfl)
theorem dX1_onBoard_24 : decode cX1_onBoard 24 = .ok (.aload_n 0, 1) := dk_42 (dk_at dksX1_onBoard_1 0 rfl rfl)
theorem dX1_onBoard_25 : decode cX1_onBoard 25 = .ok (.iload_n 2, 1) := dk_28 (dk_at dksX1_onBoard_1 1 rfl rfl)
theorem dX1_onBoard_26 : decode cX1_onBoard 26 = .ok (.iload_n 1, 1) := dk_27 (dk_at dksX1_onBoard_1 2 rfl rfl)
theorem dX1_onBoard_27 : decode cX1_onBoard 27 = .ok (.invokevirtual 276, 3) := dk_182 1 20 (dk_at dksX1_onBoard_1 3 rfl rfl)
theorem dX1_onBoard_30 : decode cX1_onBoard 30 = .ok (.ifCond .eq 30, 3) := dk_153 0 30 (dk_at dksX1_onBoard_1 6 rfl rfl)
theorem dX1_onBoard_33 : decode cX1_onBoard 33 = .ok (.iload_n 3, 1) := dk_29 (dk_at dksX1_onBoard_1 9 rfl rfl)
theorem dX1_onBoard_34 : decode cX1_onBoard 34 = .ok (.aload_n 0, 1) := dk_42 (dk_at dksX1_onBoard_1 10 rfl rfl)
theorem dX1_onBoard_35 : decode cX1_onBoard 35 = .ok (.getfield 25, 3) := dk_180 0 25 (dk_at dksX1_onBoard_1 11 rfl rfl)
theorem dX1_onBoard_38 : decode cX1_onBoard 38 = .ok (.iload_n 2, 1) := dk_28 (dk_at dksX1_onBoard_1 14 rfl rfl)
theorem dX1_onBoard_39 : decode cX1_onBoard 39 = .ok (.invokevirtual 79, 3) := dk_182 0 79 (dk_at dksX1_onBoard_1 15 rfl rfl)
theorem dX1_onBoard_42 : decode cX1_onBoard 42 = .ok (.checkcast 83, 3) := dk_192 0 83 (dk_at dksX1_onBoard_1 18 rfl rfl)
theorem dX1_onBoard_45 : decode cX1_onBoard 45 = .ok (.getfield 89, 3) := dk_180 0 89 (dk_at dksX1_onBoard_1 21 rfl rfl)
theorem dX1_onBoard_48 : decode cX1_onBoard 48 = .ok (.invokevirtual 71, 3) := dk_182 0 71 (dk_at dksX1_onBoard_2 0 rfl rfl)
theorem dX1_onBoard_51 : decode cX1_onBoard 51 = .ok (.iconst 1, 1) := dk_4 (dk_at dksX1_onBoard_2 3 rfl rfl)
theorem dX1_onBoard_52 : decode cX1_onBoard 52 = .ok (.isub, 1) := dk_100 (dk_at dksX1_onBoard_2 4 rfl rfl)
theorem dX1_onBoard_53 : decode cX1_onBoard 53 = .ok (.if_icmp .ge 7, 3) := dk_162 0 7 (dk_at dksX1_onBoard_2 5 rfl rfl)
theorem dX1_onBoard_56 : decode cX1_onBoard 56 = .ok (.iconst 1, 1) := dk_4 (dk_at dksX1_onBoard_2 8 rfl rfl)
theorem dX1_onBoard_57 : decode cX1_onBoard 57 = .ok (.goto 4, 3) := dk_167 0 4 (dk_at dksX1_onBoard_2 9 rfl rfl)
theorem dX1_onBoard_60 : decode cX1_onBoard 60 = .ok (.iconst 0, 1) := dk_3 (dk_at dksX1_onBoard_2 12 rfl rfl)
theorem dX1_onBoard_61 : decode cX1_onBoard 61 = .ok (.invokestatic 228, 3) := dk_184 0 228 (dk_at dksX1_onBoard_2 13 rfl rfl)
theorem dX1_onBoard_64 : decode cX1_onBoard 64 = .ok (.aload_n 0, 1) := dk_42 (dk_at dksX1_onBoard_2 16 rfl rfl)
theorem dX1_onBoard_65 : decode cX1_onBoard 65 = .ok (.iload_n 1, 1) := dk_27 (dk_at dksX1_onBoard_2 17 rfl rfl)
theorem dX1_onBoard_66 : decode cX1_onBoard 66 = .ok (.invokevirtual 354, 3) := dk_182 1 98 (dk_at dksX1_onBoard_2 18 rfl rfl)
theorem dX1_onBoard_69 : decode cX1_onBoard 69 = .ok (.astore 6, 2) := dk_58 6 (dk_at dksX1_onBoard_2 21 rfl rfl)
theorem dX1_onBoard_71 : decode cX1_onBoard 71 = .ok (.new 336, 3) := dk_187 1 80 (dk_at dksX1_onBoard_3 0 rfl rfl)
theorem dX1_onBoard_74 : decode cX1_onBoard 74 = .ok (.dup, 1) := dk_89 (dk_at dksX1_onBoard_3 3 rfl rfl)
theorem dX1_onBoard_75 : decode cX1_onBoard 75 = .ok (.aload_n 0, 1) := dk_42 (dk_at dksX1_onBoard_3 4 rfl rfl)
theorem dX1_onBoard_76 : decode cX1_onBoard 76 = .ok (.iconst (-1), 1) := dk_2 (dk_at dksX1_onBoard_3 5 rfl rfl)
theorem dX1_onBoard_77 : decode cX1_onBoard 77 = .ok (.aload_n 0, 1) := dk_42 (dk_at dksX1_onBoard_3 6 rfl rfl)
theorem dX1_onBoard_78 : decode cX1_onBoard 78 = .ok (.iconst (-1), 1) := dk_2 (dk_at dksX1_onBoard_3 7 rfl rfl)
theorem dX1_onBoard_79 : decode cX1_onBoard 79 = .ok (.invokevirtual 113, 3) := dk_182 0 113 (dk_at dksX1_onBoard_3 8 rfl rfl)
theorem dX1_onBoard_82 : decode cX1_onBoard 82 = .ok (.invokespecial 344, 3) := dk_183 1 88 (dk_at dksX1_onBoard_3 11 rfl rfl)
theorem dX1_onBoard_85 : decode cX1_onBoard 85 = .ok (.astore 7, 2) := dk_58 7 (dk_at dksX1_onBoard_3 14 rfl rfl)
theorem dX1_onBoard_87 : decode cX1_onBoard 87 = .ok (.aload_n 0, 1) := dk_42 (dk_at dksX1_onBoard_3 16 rfl rfl)
theorem dX1_onBoard_88 : decode cX1_onBoard 88 = .ok (.aload 7, 2) := dk_25 7 (dk_at dksX1_onBoard_3 17 rfl rfl)
theorem dX1_onBoard_90 : decode cX1_onBoard 90 = .ok (.aload 6, 2) := dk_25 6 (dk_at dksX1_onBoard_3 19 rfl rfl)
theorem dX1_onBoard_92 : decode cX1_onBoard 92 = .ok (.invokestatic 357, 3) := dk_184 1 101 (dk_at dksX1_onBoard_3 21 rfl rfl)
theorem dX1_onBoard_95 : decode cX1_onBoard 95 = .ok (.aload 6, 2) := dk_25 6 (dk_at dksX1_onBoard_4 0 rfl rfl)
theorem dX1_onBoard_97 : decode cX1_onBoard 97 = .ok (.iload_n 2, 1) := dk_28 (dk_at dksX1_onBoard_4 2 rfl rfl)
theorem dX1_onBoard_98 : decode cX1_onBoard 98 = .ok (.invokestatic 491, 3) := dk_184 1 235 (dk_at dksX1_onBoard_4 3 rfl rfl)
theorem dX1_onBoard_101 : decode cX1_onBoard 101 = .ok (.iload_n 3, 1) := dk_29 (dk_at dksX1_onBoard_4 6 rfl rfl)
theorem dX1_onBoard_102 : decode cX1_onBoard 102 = .ok (.invokevirtual 350, 3) := dk_182 1 94 (dk_at dksX1_onBoard_4 7 rfl rfl)
theorem dX1_onBoard_105 : decode cX1_onBoard 105 = .ok (.aload 7, 2) := dk_25 7 (dk_at dksX1_onBoard_4 10 rfl rfl)
theorem dX1_onBoard_107 : decode cX1_onBoard 107 = .ok (.getfield 372, 3) := dk_180 1 116 (dk_at dksX1_onBoard_4 12 rfl rfl)
theorem dX1_onBoard_110 : decode cX1_onBoard 110 = .ok (.iload 4, 2) := dk_21 4 (dk_at dksX1_onBoard_4 15 rfl rfl)
theorem dX1_onBoard_112 : decode cX1_onBoard 112 = .ok (.iaload, 1) := dk_46 (dk_at dksX1_onBoard_4 17 rfl rfl)
theorem dX1_onBoard_113 : decode cX1_onBoard 113 = .ok (.invokestatic 373, 3) := dk_184 1 117 (dk_at dksX1_onBoard_4 18 rfl rfl)
theorem dX1_onBoard_116 : decode cX1_onBoard 116 = .ok (.ireturn, 1) := dk_172 (dk_at dksX1_onBoard_4 21 rfl rfl)
abbrev cX1_runOf : ByteArray := prog_1_method_66_code
def yX1_runOf : MethodName := ⟨RX1, "runOf", "(Ljava/util/List;I)LLastbus$Run;"⟩
def dkwX1_runOf_2 : List UInt8 := [187, 0, 61, 89, 183, 0, 63, 191]
abbrev dktX1_runOf_2 : List UInt8 := dkwX1_runOf_2 ++ []
def dkwX1_runOf_1 : List UInt8 := [192, 1, 24, 78, 45, 180, 1, 200, 27, 160, 0, 12, 45, 180, 1, 203, 154, 0, 5, 45, 176, 167, 255, 220]
abbrev dktX1_runOf_1 : List UInt8 := dkwX1_runOf_1 ++ dktX1_runOf_2
def dkwX1_runOf_0 : List UInt8 := [42, 185, 1, 33, 1, 0, 77, 44, 185, 1, 39, 1, 0, 153, 0, 33, 44, 185, 1, 44, 1, 0]
abbrev dktX1_runOf_0 : List UInt8 := dkwX1_runOf_0 ++ dktX1_runOf_1
theorem dksX1_runOf_0 : cX1_runOf.data.toList.drop 0 = dktX1_runOf_0 := by decide +kernel
theorem dksX1_runOf_1 : cX1_runOf.data.toList.drop 22 = dktX1_runOf_1 := dk_seg dksX1_runOf_0 22 rfl rfl
theorem dksX1_runOf_2 : cX1_runOf.data.toList.drop 46 = dktX1_runOf_2 := dk_seg dksX1_runOf_1 24 rfl rfl
theorem dX1_runOf_0 : decode cX1_runOf 0 = .ok (.aload_n 0, 1) := dk_42 (dk_at dksX1_runOf_0 0 rfl rfl)
theorem dX1_runOf_1 : decode cX1_runOf 1 = .ok (.invokeinterface 289 1, 5) := by decide +kernel
theorem dX1_runOf_6 : decode cX1_runOf 6 = .ok (.astore_n 2, 1) := dk_77 (dk_at dksX1_runOf_0 6 rfl rfl)
theorem dX1_runOf_7 : decode cX1_runOf 7 = .ok (.aload_n 2, 1) := dk_44 (dk_at dksX1_runOf_0 7 rfl rfl)
theorem dX1_runOf_8 : decode cX1_runOf 8 = .ok (.invokeinterface 295 1, 5) := by decide +kernel
theorem dX1_runOf_13 : decode cX1_runOf 13 = .ok (.ifCond .eq 33, 3) := dk_153 0 33 (dk_at dksX1_runOf_0 13 rfl rfl)
theorem dX1_runOf_16 : decode cX1_runOf 16 = .ok (.aload_n 2, 1) := dk_44 (dk_at dksX1_runOf_0 16 rfl rfl)
theorem dX1_runOf_17 : decode cX1_runOf 17 = .ok (.invokeinterface 300 1, 5) := by decide +kernel
theorem dX1_runOf_22 : decode cX1_runOf 22 = .ok (.checkcast 280, 3) := dk_192 1 24 (dk_at dksX1_runOf_1 0 rfl rfl)
theorem dX1_runOf_25 : decode cX1_runOf 25 = .ok (.astore_n 3, 1) := dk_78 (dk_at dksX1_runOf_1 3 rfl rfl)
theorem dX1_runOf_26 : decode cX1_runOf 26 = .ok (.aload_n 3, 1) := dk_45 (dk_at dksX1_runOf_1 4 rfl rfl)
theorem dX1_runOf_27 : decode cX1_runOf 27 = .ok (.getfield 456, 3) := dk_180 1 200 (dk_at dksX1_runOf_1 5 rfl rfl)
theorem dX1_runOf_30 : decode cX1_runOf 30 = .ok (.iload_n 1, 1) := dk_27 (dk_at dksX1_runOf_1 8 rfl rfl)
theorem dX1_runOf_31 : decode cX1_runOf 31 = .ok (.if_icmp .ne 12, 3) := dk_160 0 12 (dk_at dksX1_runOf_1 9 rfl rfl)
theorem dX1_runOf_34 : decode cX1_runOf 34 = .ok (.aload_n 3, 1) := dk_45 (dk_at dksX1_runOf_1 12 rfl rfl)
theorem dX1_runOf_35 : decode cX1_runOf 35 = .ok (.getfield 459, 3) := dk_180 1 203 (dk_at dksX1_runOf_1 13 rfl rfl)
theorem dX1_runOf_38 : decode cX1_runOf 38 = .ok (.ifCond .ne 5, 3) := dk_154 0 5 (dk_at dksX1_runOf_1 16 rfl rfl)
theorem dX1_runOf_41 : decode cX1_runOf 41 = .ok (.aload_n 3, 1) := dk_45 (dk_at dksX1_runOf_1 19 rfl rfl)
theorem dX1_runOf_42 : decode cX1_runOf 42 = .ok (.areturn, 1) := dk_176 (dk_at dksX1_runOf_1 20 rfl rfl)
theorem dX1_runOf_43 : decode cX1_runOf 43 = .ok (.goto (-36), 3) := dk_167 255 220 (dk_at dksX1_runOf_1 21 rfl rfl)
theorem dX1_runOf_46 : decode cX1_runOf 46 = .ok (.new 61, 3) := dk_187 0 61 (dk_at dksX1_runOf_2 0 rfl rfl)
theorem dX1_runOf_49 : decode cX1_runOf 49 = .ok (.dup, 1) := dk_89 (dk_at dksX1_runOf_2 3 rfl rfl)
theorem dX1_runOf_50 : decode cX1_runOf 50 = .ok (.invokespecial 63, 3) := dk_183 0 63 (dk_at dksX1_runOf_2 4 rfl rfl)
theorem dX1_runOf_53 : decode cX1_runOf 53 = .ok (.athrow, 1) := dk_191 (dk_at dksX1_runOf_2 7 rfl rfl)
abbrev cX1_pairs : ByteArray := prog_1_method_70_code
def yX1_pairs : MethodName := ⟨RX1, "pairs", "(III)I"⟩
def dkwX1_pairs_0 : List UInt8 := [42, 27, 28, 29, 182, 2, 0, 42, 27, 28, 29, 182, 2, 3, 182, 0, 71, 172]
abbrev dktX1_pairs_0 : List UInt8 := dkwX1_pairs_0 ++ []
theorem dksX1_pairs_0 : cX1_pairs.data.toList.drop 0 = dktX1_pairs_0 := by decide +kernel
theorem dX1_pairs_0 : decode cX1_pairs 0 = .ok (.aload_n 0, 1) := dk_42 (dk_at dksX1_pairs_0 0 rfl rfl)
theorem dX1_pairs_1 : decode cX1_pairs 1 = .ok (.iload_n 1, 1) := dk_27 (dk_at dksX1_pairs_0 1 rfl rfl)
theorem dX1_pairs_2 : decode cX1_pairs 2 = .ok (.iload_n 2, 1) := dk_28 (dk_at dksX1_pairs_0 2 rfl rfl)
theorem dX1_pairs_3 : decode cX1_pairs 3 = .ok (.iload_n 3, 1) := dk_29 (dk_at dksX1_pairs_0 3 rfl rfl)
theorem dX1_pairs_4 : decode cX1_pairs 4 = .ok (.invokevirtual 512, 3) := dk_182 2 0 (dk_at dksX1_pairs_0 4 rfl rfl)
theorem dX1_pairs_7 : decode cX1_pairs 7 = .ok (.aload_n 0, 1) := dk_42 (dk_at dksX1_pairs_0 7 rfl rfl)
theorem dX1_pairs_8 : decode cX1_pairs 8 = .ok (.iload_n 1, 1) := dk_27 (dk_at dksX1_pairs_0 8 rfl rfl)
theorem dX1_pairs_9 : decode cX1_pairs 9 = .ok (.iload_n 2, 1) := dk_28 (dk_at dksX1_pairs_0 9 rfl rfl)
theorem dX1_pairs_10 : decode cX1_pairs 10 = .ok (.iload_n 3, 1) := dk_29 (dk_at dksX1_pairs_0 10 rfl rfl)
theorem dX1_pairs_11 : decode cX1_pairs 11 = .ok (.invokevirtual 515, 3) := dk_182 2 3 (dk_at dksX1_pairs_0 11 rfl rfl)
theorem dX1_pairs_14 : decode cX1_pairs 14 = .ok (.invokevirtual 71, 3) := dk_182 0 71 (dk_at dksX1_pairs_0 14 rfl rfl)
theorem dX1_pairs_17 : decode cX1_pairs 17 = .ok (.ireturn, 1) := dk_172 (dk_at dksX1_pairs_0 17 rfl rfl)
abbrev cX1_requireTwo : ByteArray := prog_1_method_69_code
def yX1_requireTwo : MethodName := ⟨RX1, "requireTwo", "(III)V"⟩
def dkwX1_requireTwo_1 : List UInt8 := [27, 28, 159, 0, 14, 29, 184, 0, 129, 153, 0, 7, 4, 167, 0, 4, 3, 184, 0, 96, 177]
abbrev dktX1_requireTwo_1 : List UInt8 := dkwX1_requireTwo_1 ++ []
def dkwX1_requireTwo_0 : List UInt8 := [42, 27, 182, 0, 102, 153, 0, 15, 42, 28, 182, 0, 102, 153, 0, 7, 4, 167, 0, 4, 3, 184, 0, 75]
abbrev dktX1_requireTwo_0 : List UInt8 := dkwX1_requireTwo_0 ++ dktX1_requireTwo_1
theorem dksX1_requireTwo_0 : cX1_requireTwo.data.toList.drop 0 = dktX1_requireTwo_0 := by decide +kernel
theorem dksX1_requireTwo_1 : cX1_requireTwo.data.toList.drop 24 = dktX1_requireTwo_1 := dk_seg dksX1_requireTwo_0 24 rfl rfl
theorem dX1_requireTwo_0 : decode cX1_requireTwo 0 = .ok (.aload_n 0, 1) := dk_42 (dk_at dksX1_requireTwo_0 0 rfl rfl)
theorem dX1_requireTwo_1 : decode cX1_requireTwo 1 = .ok (.iload_n 1, 1) := dk_27 (dk_at dksX1_requireTwo_0 1 rfl rfl)
theorem dX1_requireTwo_2 : decode cX1_requireTwo 2 = .ok (.invokevirtual 102, 3) := dk_182 0 102 (dk_at dksX1_requireTwo_0 2 rfl rfl)
theorem dX1_requireTwo_5 : decode cX1_requireTwo 5 = .ok (.ifCond .eq 15, 3) := dk_153 0 15 (dk_at dksX1_requireTwo_0 5 rfl rfl)
theorem dX1_requireTwo_8 : decode cX1_requireTwo 8 = .ok (.aload_n 0, 1) := dk_42 (dk_at dksX1_requireTwo_0 8 rfl rfl)
theorem dX1_requireTwo_9 : decode cX1_requireTwo 9 = .ok (.iload_n 2, 1) := dk_28 (dk_at dksX1_requireTwo_0 9 rfl rfl)
theorem dX1_requireTwo_10 : decode cX1_requireTwo 10 = .ok (.invokevirtual 102, 3) := dk_182 0 102 (dk_at dksX1_requireTwo_0 10 rfl rfl)
theorem dX1_requireTwo_13 : decode cX1_requireTwo 13 = .ok (.ifCond .eq 7, 3) := dk_153 0 7 (dk_at dksX1_requireTwo_0 13 rfl rfl)
theorem dX1_requireTwo_16 : decode cX1_requireTwo 16 = .ok (.iconst 1, 1) := dk_4 (dk_at dksX1_requireTwo_0 16 rfl rfl)
theorem dX1_requireTwo_17 : decode cX1_requireTwo 17 = .ok (.goto 4, 3) := dk_167 0 4 (dk_at dksX1_requireTwo_0 17 rfl rfl)
theorem dX1_requireTwo_20 : decode cX1_requireTwo 20 = .ok (.iconst 0, 1) := dk_3 (dk_at dksX1_requireTwo_0 20 rfl rfl)
theorem dX1_requireTwo_21 : decode cX1_requireTwo 21 = .ok (.invokestatic 75, 3) := dk_184 0 75 (dk_at dksX1_requireTwo_0 21 rfl rfl)
theorem dX1_requireTwo_24 : decode cX1_requireTwo 24 = .ok (.iload_n 1, 1) := dk_27 (dk_at dksX1_requireTwo_1 0 rfl rfl)
theorem dX1_requireTwo_25 : decode cX1_requireTwo 25 = .ok (.iload_n 2, 1) := dk_28 (dk_at dksX1_requireTwo_1 1 rfl rfl)
theorem dX1_requireTwo_26 : decode cX1_requireTwo 26 = .ok (.if_icmp .eq 14, 3) := dk_159 0 14 (dk_at dksX1_requireTwo_1 2 rfl rfl)
theorem dX1_requireTwo_29 : decode cX1_requireTwo 29 = .ok (.iload_n 3, 1) := dk_29 (dk_at dksX1_requireTwo_1 5 rfl rfl)
theorem dX1_requireTwo_30 : decode cX1_requireTwo 30 = .ok (.invokestatic 129, 3) := dk_184 0 129 (dk_at dksX1_requireTwo_1 6 rfl rfl)
theorem dX1_requireTwo_33 : decode cX1_requireTwo 33 = .ok (.ifCond .eq 7, 3) := dk_153 0 7 (dk_at dksX1_requireTwo_1 9 rfl rfl)
theorem dX1_requireTwo_36 : decode cX1_requireTwo 36 = .ok (.iconst 1, 1) := dk_4 (dk_at dksX1_requireTwo_1 12 rfl rfl)
theorem dX1_requireTwo_37 : decode cX1_requireTwo 37 = .ok (.goto 4, 3) := dk_167 0 4 (dk_at dksX1_requireTwo_1 13 rfl rfl)
theorem dX1_requireTwo_40 : decode cX1_requireTwo 40 = .ok (.iconst 0, 1) := dk_3 (dk_at dksX1_requireTwo_1 16 rfl rfl)
theorem dX1_requireTwo_41 : decode cX1_requireTwo 41 = .ok (.invokestatic 96, 3) := dk_184 0 96 (dk_at dksX1_requireTwo_1 17 rfl rfl)
theorem dX1_requireTwo_44 : decode cX1_requireTwo 44 = .ok (.return_, 1) := dk_177 (dk_at dksX1_requireTwo_1 20 rfl rfl)
abbrev cX1_pairsOf : ByteArray := prog_1_method_68_code
def yX1_pairsOf : MethodName := ⟨RX1, "pairsOf", "(III)Ljava/util/ArrayList;"⟩
def dkwX1_pairsOf_9 : List UInt8 := [25, 7, 176]
abbrev dktX1_pairsOf_9 : List UInt8 := dkwX1_pairsOf_9 ++ []
def dkwX1_pairsOf_8 : List UInt8 := [21, 9, 21, 10, 183, 1, 252, 182, 0, 121, 87, 21, 10, 54, 8, 167, 255, 188, 25, 7, 184, 1, 253]
abbrev dktX1_pairsOf_8 : List UInt8 := dkwX1_pairsOf_8 ++ dktX1_pairsOf_9
def dkwX1_pairsOf_7 : List UInt8 := [182, 1, 105, 180, 1, 247, 28, 46, 54, 10, 21, 10, 21, 8, 162, 0, 24, 25, 7, 187, 1, 250, 89]
abbrev dktX1_pairsOf_7 : List UInt8 := dkwX1_pairsOf_7 ++ dktX1_pairsOf_8
def dkwX1_pairsOf_6 : List UInt8 := [25, 6, 182, 1, 244, 192, 0, 223, 182, 0, 225, 54, 9, 42, 25, 4, 27, 21, 9, 2, 25, 5]
abbrev dktX1_pairsOf_6 : List UInt8 := dkwX1_pairsOf_6 ++ dktX1_pairsOf_7
def dkwX1_pairsOf_5 : List UInt8 := [167, 255, 176, 187, 0, 18, 89, 183, 0, 20, 58, 7, 18, 106, 54, 8, 25, 6, 182, 1, 243, 154, 0, 66]
abbrev dktX1_pairsOf_5 : List UInt8 := dkwX1_pairsOf_5 ++ dktX1_pairsOf_6
def dkwX1_pairsOf_4 : List UInt8 := [25, 8, 182, 1, 175, 25, 5, 27, 50, 25, 8, 182, 1, 172, 46, 100, 184, 0, 236, 182, 1, 242, 87]
abbrev dktX1_pairsOf_4 : List UInt8 := dkwX1_pairsOf_4 ++ dktX1_pairsOf_5
def dkwX1_pairsOf_3 : List UInt8 := [162, 0, 46, 25, 8, 182, 1, 175, 25, 5, 27, 50, 25, 8, 182, 1, 172, 46, 161, 0, 28, 25, 6]
abbrev dktX1_pairsOf_3 : List UInt8 := dkwX1_pairsOf_3 ++ dktX1_pairsOf_4
def dkwX1_pairsOf_2 : List UInt8 := [185, 1, 44, 1, 0, 192, 1, 53, 58, 8, 25, 5, 27, 50, 25, 8, 182, 1, 172, 46, 18, 106]
abbrev dktX1_pairsOf_2 : List UInt8 := dkwX1_pairsOf_2 ++ dktX1_pairsOf_3
def dkwX1_pairsOf_1 : List UInt8 := [58, 6, 25, 4, 182, 1, 142, 58, 7, 25, 7, 185, 1, 39, 1, 0, 153, 0, 76, 25, 7]
abbrev dktX1_pairsOf_1 : List UInt8 := dkwX1_pairsOf_1 ++ dktX1_pairsOf_2
def dkwX1_pairsOf_0 : List UInt8 := [42, 29, 182, 1, 98, 184, 1, 101, 58, 4, 42, 2, 182, 0, 113, 58, 5, 187, 1, 239, 89, 183, 1, 241]
abbrev dktX1_pairsOf_0 : List UInt8 := dkwX1_pairsOf_0 ++ dktX1_pairsOf_1
theorem dksX1_pairsOf_0 : cX1_pairsOf.data.toList.drop 0 = dktX1_pairsOf_0 := by decide +kernel
theorem dksX1_pairsOf_1 : cX1_pairsOf.data.toList.drop 24 = dktX1_pairsOf_1 := dk_seg dksX1_pairsOf_0 24 rfl rfl
theorem dksX1_pairsOf_2 : cX1_pairsOf.data.toList.drop 45 = dktX1_pairsOf_2 := dk_seg dksX1_pairsOf_1 21 rfl rfl
theorem dksX1_pairsOf_3 : cX1_pairsOf.data.toList.drop 67 = dktX1_pairsOf_3 := dk_seg dksX1_pairsOf_2 22 rfl rfl
theorem dksX1_pairsOf_4 : cX1_pairsOf.data.toList.drop 90 = dktX1_pairsOf_4 := dk_seg dksX1_pairsOf_3 23 rfl rfl
theorem dksX1_pairsOf_5 : cX1_pairsOf.data.toList.drop 113 = dktX1_pairsOf_5 := dk_seg dksX1_pairsOf_4 23 rfl rfl
theorem dksX1_pairsOf_6 : cX1_pairsOf.data.toList.drop 137 = dktX1_pairsOf_6 := dk_seg dksX1_pairsOf_5 24 rfl rfl
theorem dksX1_pairsOf_7 : cX1_pairsOf.data.toList.drop 159 = dktX1_pairsOf_7 := dk_seg dksX1_pairsOf_6 22 rfl rfl
theorem dksX1_pairsOf_8 : cX1_pairsOf.data.toList.drop 182 = dktX1_pairsOf_8 := dk_seg dksX1_pairsOf_7 23 rfl rfl
theorem dksX1_pairsOf_9 : cX1_pairsOf.data.toList.drop 205 = dktX1_pairsOf_9 := dk_seg dksX1_pairsOf_8 23 rfl rfl
theorem dX1_pairsOf_0 : decode cX1_pairsOf 0 = .ok (.aload_n 0, 1) := dk_42 (dk_at dksX1_pairsOf_0 0 rfl rfl)
theorem dX1_pairsOf_1 : decode cX1_pairsOf 1 = .ok (.iload_n 3, 1) := dk_29 (dk_at dksX1_pairsOf_0 1 rfl rfl)
theorem dX1_pairsOf_2 : decode cX1_pairsOf 2 = .ok (.invokevirtual 354, 3) := dk_182 1 98 (dk_at dksX1_pairsOf_0 2 rfl rfl)
theorem dX1_pairsOf_5 : decode cX1_pairsOf 5 = .ok (.invokestatic 357, 3) := dk_184 1 101 (dk_at dksX1_pairsOf_0 5 rfl rfl)
theorem dX1_pairsOf_8 : decode cX1_pairsOf 8 = .ok (.astore 4, 2) := dk_58 4 (dk_at dksX1_pairsOf_0 8 rfl rfl)
theorem dX1_pairsOf_10 : decode cX1_pairsOf 10 = .ok (.aload_n 0, 1) := dk_42 (dk_at dksX1_pairsOf_0 10 rfl rfl)
theorem dX1_pairsOf_11 : decode cX1_pairsOf 11 = .ok (.iconst (-1), 1) := dk_2 (dk_at dksX1_pairsOf_0 11 rfl rfl)
theorem dX1_pairsOf_12 : decode cX1_pairsOf 12 = .ok (.invokevirtual 113, 3) := dk_182 0 113 (dk_at dksX1_pairsOf_0 12 rfl rfl)
theorem dX1_pairsOf_15 : decode cX1_pairsOf 15 = .ok (.astore 5, 2) := dk_58 5 (dk_at dksX1_pairsOf_0 15 rfl rfl)
theorem dX1_pairsOf_17 : decode cX1_pairsOf 17 = .ok (.new 495, 3) := dk_187 1 239 (dk_at dksX1_pairsOf_0 17 rfl rfl)
theorem dX1_pairsOf_20 : decode cX1_pairsOf 20 = .ok (.dup, 1) := dk_89 (dk_at dksX1_pairsOf_0 20 rfl rfl)
theorem dX1_pairsOf_21 : decode cX1_pairsOf 21 = .ok (.invokespecial 497, 3) := dk_183 1 241 (dk_at dksX1_pairsOf_0 21 rfl rfl)
theorem dX1_pairsOf_24 : decode cX1_pairsOf 24 = .ok (.astore 6, 2) := dk_58 6 (dk_at dksX1_pairsOf_1 0 rfl rfl)
theorem dX1_pairsOf_26 : decode cX1_pairsOf 26 = .ok (.aload 4, 2) := dk_25 4 (dk_at dksX1_pairsOf_1 2 rfl rfl)
theorem dX1_pairsOf_28 : decode cX1_pairsOf 28 = .ok (.invokevirtual 398, 3) := dk_182 1 142 (dk_at dksX1_pairsOf_1 4 rfl rfl)
theorem dX1_pairsOf_31 : decode cX1_pairsOf 31 = .ok (.astore 7, 2) := dk_58 7 (dk_at dksX1_pairsOf_1 7 rfl rfl)
theorem dX1_pairsOf_33 : decode cX1_pairsOf 33 = .ok (.aload 7, 2) := dk_25 7 (dk_at dksX1_pairsOf_1 9 rfl rfl)
theorem dX1_pairsOf_35 : decode cX1_pairsOf 35 = .ok (.invokeinterface 295 1, 5) := by decide +kernel
theorem dX1_pairsOf_40 : decode cX1_pairsOf 40 = .ok (.ifCond .eq 76, 3) := dk_153 0 76 (dk_at dksX1_pairsOf_1 16 rfl rfl)
theorem dX1_pairsOf_43 : decode cX1_pairsOf 43 = .ok (.aload 7, 2) := dk_25 7 (dk_at dksX1_pairsOf_1 19 rfl rfl)
theorem dX1_pairsOf_45 : decode cX1_pairsOf 45 = .ok (.invokeinterface 300 1, 5) := by decide +kernel
theorem dX1_pairsOf_50 : decode cX1_pairsOf 50 = .ok (.checkcast 309, 3) := dk_192 1 53 (dk_at dksX1_pairsOf_2 5 rfl rfl)
theorem dX1_pairsOf_53 : decode cX1_pairsOf 53 = .ok (.astore 8, 2) := dk_58 8 (dk_at dksX1_pairsOf_2 8 rfl rfl)
theorem dX1_pairsOf_55 : decode cX1_pairsOf 55 = .ok (.aload 5, 2) := dk_25 5 (dk_at dksX1_pairsOf_2 10 rfl rfl)
theorem dX1_pairsOf_57 : decode cX1_pairsOf 57 = .ok (.iload_n 1, 1) := dk_27 (dk_at dksX1_pairsOf_2 12 rfl rfl)
theorem dX1_pairsOf_58 : decode cX1_pairsOf 58 = .ok (.aaload, 1) := dk_50 (dk_at dksX1_pairsOf_2 13 rfl rfl)
theorem dX1_pairsOf_59 : decode cX1_pairsOf 59 = .ok (.aload 8, 2) := dk_25 8 (dk_at dksX1_pairsOf_2 14 rfl rfl)
theorem dX1_pairsOf_61 : decode cX1_pairsOf 61 = .ok (.invokevirtual 428, 3) := dk_182 1 172 (dk_at dksX1_pairsOf_2 16 rfl rfl)
theorem dX1_pairsOf_64 : decode cX1_pairsOf 64 = .ok (.iaload, 1) := dk_46 (dk_at dksX1_pairsOf_2 19 rfl rfl)
theorem dX1_pairsOf_65 : decode cX1_pairsOf 65 = .ok (.ldc 106, 2) := dk_18 106 (dk_at dksX1_pairsOf_2 20 rfl rfl)
theorem dX1_pairsOf_67 : decode cX1_pairsOf 67 = .ok (.if_icmp .ge 46, 3) := dk_162 0 46 (dk_at dksX1_pairsOf_3 0 rfl rfl)
theorem dX1_pairsOf_70 : decode cX1_pairsOf 70 = .ok (.aload 8, 2) := dk_25 8 (dk_at dksX1_pairsOf_3 3 rfl rfl)
theorem dX1_pairsOf_72 : decode cX1_pairsOf 72 = .ok (.invokevirtual 431, 3) := dk_182 1 175 (dk_at dksX1_pairsOf_3 5 rfl rfl)
theorem dX1_pairsOf_75 : decode cX1_pairsOf 75 = .ok (.aload 5, 2) := dk_25 5 (dk_at dksX1_pairsOf_3 8 rfl rfl)
theorem dX1_pairsOf_77 : decode cX1_pairsOf 77 = .ok (.iload_n 1, 1) := dk_27 (dk_at dksX1_pairsOf_3 10 rfl rfl)
theorem dX1_pairsOf_78 : decode cX1_pairsOf 78 = .ok (.aaload, 1) := dk_50 (dk_at dksX1_pairsOf_3 11 rfl rfl)
theorem dX1_pairsOf_79 : decode cX1_pairsOf 79 = .ok (.aload 8, 2) := dk_25 8 (dk_at dksX1_pairsOf_3 12 rfl rfl)
theorem dX1_pairsOf_81 : decode cX1_pairsOf 81 = .ok (.invokevirtual 428, 3) := dk_182 1 172 (dk_at dksX1_pairsOf_3 14 rfl rfl)
theorem dX1_pairsOf_84 : decode cX1_pairsOf 84 = .ok (.iaload, 1) := dk_46 (dk_at dksX1_pairsOf_3 17 rfl rfl)
theorem dX1_pairsOf_85 : decode cX1_pairsOf 85 = .ok (.if_icmp .lt 28, 3) := dk_161 0 28 (dk_at dksX1_pairsOf_3 18 rfl rfl)
theorem dX1_pairsOf_88 : decode cX1_pairsOf 88 = .ok (.aload 6, 2) := dk_25 6 (dk_at dksX1_pairsOf_3 21 rfl rfl)
theorem dX1_pairsOf_90 : decode cX1_pairsOf 90 = .ok (.aload 8, 2) := dk_25 8 (dk_at dksX1_pairsOf_4 0 rfl rfl)
theorem dX1_pairsOf_92 : decode cX1_pairsOf 92 = .ok (.invokevirtual 431, 3) := dk_182 1 175 (dk_at dksX1_pairsOf_4 2 rfl rfl)
theorem dX1_pairsOf_95 : decode cX1_pairsOf 95 = .ok (.aload 5, 2) := dk_25 5 (dk_at dksX1_pairsOf_4 5 rfl rfl)
theorem dX1_pairsOf_97 : decode cX1_pairsOf 97 = .ok (.iload_n 1, 1) := dk_27 (dk_at dksX1_pairsOf_4 7 rfl rfl)
theorem dX1_pairsOf_98 : decode cX1_pairsOf 98 = .ok (.aaload, 1) := dk_50 (dk_at dksX1_pairsOf_4 8 rfl rfl)
theorem dX1_pairsOf_99 : decode cX1_pairsOf 99 = .ok (.aload 8, 2) := dk_25 8 (dk_at dksX1_pairsOf_4 9 rfl rfl)
theorem dX1_pairsOf_101 : decode cX1_pairsOf 101 = .ok (.invokevirtual 428, 3) := dk_182 1 172 (dk_at dksX1_pairsOf_4 11 rfl rfl)
theorem dX1_pairsOf_104 : decode cX1_pairsOf 104 = .ok (.iaload, 1) := dk_46 (dk_at dksX1_pairsOf_4 14 rfl rfl)
theorem dX1_pairsOf_105 : decode cX1_pairsOf 105 = .ok (.isub, 1) := dk_100 (dk_at dksX1_pairsOf_4 15 rfl rfl)
theorem dX1_pairsOf_106 : decode cX1_pairsOf 106 = .ok (.invokestatic 236, 3) := dk_184 0 236 (dk_at dksX1_pairsOf_4 16 rfl rfl)
theorem dX1_pairsOf_109 : decode cX1_pairsOf 109 = .ok (.invokevirtual 498, 3) := dk_182 1 242 (dk_at dksX1_pairsOf_4 19 rfl rfl)
theorem dX1_pairsOf_112 : decode cX1_pairsOf 112 = .ok (.pop, 1) := dk_87 (dk_at dksX1_pairsOf_4 22 rfl rfl)
theorem dX1_pairsOf_113 : decode cX1_pairsOf 113 = .ok (.goto (-80), 3) := dk_167 255 176 (dk_at dksX1_pairsOf_5 0 rfl rfl)
theorem dX1_pairsOf_116 : decode cX1_pairsOf 116 = .ok (.new 18, 3) := dk_187 0 18 (dk_at dksX1_pairsOf_5 3 rfl rfl)
theorem dX1_pairsOf_119 : decode cX1_pairsOf 119 = .ok (.dup, 1) := dk_89 (dk_at dksX1_pairsOf_5 6 rfl rfl)
theorem dX1_pairsOf_120 : decode cX1_pairsOf 120 = .ok (.invokespecial 20, 3) := dk_183 0 20 (dk_at dksX1_pairsOf_5 7 rfl rfl)
theorem dX1_pairsOf_123 : decode cX1_pairsOf 123 = .ok (.astore 7, 2) := dk_58 7 (dk_at dksX1_pairsOf_5 10 rfl rfl)
theorem dX1_pairsOf_125 : decode cX1_pairsOf 125 = .ok (.ldc 106, 2) := dk_18 106 (dk_at dksX1_pairsOf_5 12 rfl rfl)
theorem dX1_pairsOf_127 : decode cX1_pairsOf 127 = .ok (.istore 8, 2) := dk_54 8 (dk_at dksX1_pairsOf_5 14 rfl rfl)
theorem dX1_pairsOf_129 : decode cX1_pairsOf 129 = .ok (.aload 6, 2) := dk_25 6 (dk_at dksX1_pairsOf_5 16 rfl rfl)
theorem dX1_pairsOf_131 : decode cX1_pairsOf 131 = .ok (.invokevirtual 499, 3) := dk_182 1 243 (dk_at dksX1_pairsOf_5 18 rfl rfl)
theorem dX1_pairsOf_134 : decode cX1_pairsOf 134 = .ok (.ifCond .ne 66, 3) := dk_154 0 66 (dk_at dksX1_pairsOf_5 21 rfl rfl)
theorem dX1_pairsOf_137 : decode cX1_pairsOf 137 = .ok (.aload 6, 2) := dk_25 6 (dk_at dksX1_pairsOf_6 0 rfl rfl)
theorem dX1_pairsOf_139 : decode cX1_pairsOf 139 = .ok (.invokevirtual 500, 3) := dk_182 1 244 (dk_at dksX1_pairsOf_6 2 rfl rfl)
theorem dX1_pairsOf_142 : decode cX1_pairsOf 142 = .ok (.checkcast 223, 3) := dk_192 0 223 (dk_at dksX1_pairsOf_6 5 rfl rfl)
theorem dX1_pairsOf_145 : decode cX1_pairsOf 145 = .ok (.invokevirtual 225, 3) := dk_182 0 225 (dk_at dksX1_pairsOf_6 8 rfl rfl)
theorem dX1_pairsOf_148 : decode cX1_pairsOf 148 = .ok (.istore 9, 2) := dk_54 9 (dk_at dksX1_pairsOf_6 11 rfl rfl)
theorem dX1_pairsOf_150 : decode cX1_pairsOf 150 = .ok (.aload_n 0, 1) := dk_42 (dk_at dksX1_pairsOf_6 13 rfl rfl)
theorem dX1_pairsOf_151 : decode cX1_pairsOf 151 = .ok (.aload 4, 2) := dk_25 4 (dk_at dksX1_pairsOf_6 14 rfl rfl)
theorem dX1_pairsOf_153 : decode cX1_pairsOf 153 = .ok (.iload_n 1, 1) := dk_27 (dk_at dksX1_pairsOf_6 16 rfl rfl)
theorem dX1_pairsOf_154 : decode cX1_pairsOf 154 = .ok (.iload 9, 2) := dk_21 9 (dk_at dksX1_pairsOf_6 17 rfl rfl)
theorem dX1_pairsOf_156 : decode cX1_pairsOf 156 = .ok (.iconst (-1), 1) := dk_2 (dk_at dksX1_pairsOf_6 19 rfl rfl)
theorem dX1_pairsOf_157 : decode cX1_pairsOf 157 = .ok (.aload 5, 2) := dk_25 5 (dk_at dksX1_pairsOf_6 20 rfl rfl)
theorem dX1_pairsOf_159 : decode cX1_pairsOf 159 = .ok (.invokevirtual 361, 3) := dk_182 1 105 (dk_at dksX1_pairsOf_7 0 rfl rfl)
theorem dX1_pairsOf_162 : decode cX1_pairsOf 162 = .ok (.getfield 503, 3) := dk_180 1 247 (dk_at dksX1_pairsOf_7 3 rfl rfl)
theorem dX1_pairsOf_165 : decode cX1_pairsOf 165 = .ok (.iload_n 2, 1) := dk_28 (dk_at dksX1_pairsOf_7 6 rfl rfl)
theorem dX1_pairsOf_166 : decode cX1_pairsOf 166 = .ok (.iaload, 1) := dk_46 (dk_at dksX1_pairsOf_7 7 rfl rfl)
theorem dX1_pairsOf_167 : decode cX1_pairsOf 167 = .ok (.istore 10, 2) := dk_54 10 (dk_at dksX1_pairsOf_7 8 rfl rfl)
theorem dX1_pairsOf_169 : decode cX1_pairsOf 169 = .ok (.iload 10, 2) := dk_21 10 (dk_at dksX1_pairsOf_7 10 rfl rfl)
theorem dX1_pairsOf_171 : decode cX1_pairsOf 171 = .ok (.iload 8, 2) := dk_21 8 (dk_at dksX1_pairsOf_7 12 rfl rfl)
theorem dX1_pairsOf_173 : decode cX1_pairsOf 173 = .ok (.if_icmp .ge 24, 3) := dk_162 0 24 (dk_at dksX1_pairsOf_7 14 rfl rfl)
theorem dX1_pairsOf_176 : decode cX1_pairsOf 176 = .ok (.aload 7, 2) := dk_25 7 (dk_at dksX1_pairsOf_7 17 rfl rfl)
theorem dX1_pairsOf_178 : decode cX1_pairsOf 178 = .ok (.new 506, 3) := dk_187 1 250 (dk_at dksX1_pairsOf_7 19 rfl rfl)
theorem dX1_pairsOf_181 : decode cX1_pairsOf 181 = .ok (.dup, 1) := dk_89 (dk_at dksX1_pairsOf_7 22 rfl rfl)
theorem dX1_pairsOf_182 : decode cX1_pairsOf 182 = .ok (.iload 9, 2) := dk_21 9 (dk_at dksX1_pairsOf_8 0 rfl rfl)
theorem dX1_pairsOf_184 : decode cX1_pairsOf 184 = .ok (.iload 10, 2) := dk_21 10 (dk_at dksX1_pairsOf_8 2 rfl rfl)
theorem dX1_pairsOf_186 : decode cX1_pairsOf 186 = .ok (.invokespecial 508, 3) := dk_183 1 252 (dk_at dksX1_pairsOf_8 4 rfl rfl)
theorem dX1_pairsOf_189 : decode cX1_pairsOf 189 = .ok (.invokevirtual 121, 3) := dk_182 0 121 (dk_at dksX1_pairsOf_8 7 rfl rfl)
theorem dX1_pairsOf_192 : decode cX1_pairsOf 192 = .ok (.pop, 1) := dk_87 (dk_at dksX1_pairsOf_8 10 rfl rfl)
theorem dX1_pairsOf_193 : decode cX1_pairsOf 193 = .ok (.iload 10, 2) := dk_21 10 (dk_at dksX1_pairsOf_8 11 rfl rfl)
theorem dX1_pairsOf_195 : decode cX1_pairsOf 195 = .ok (.istore 8, 2) := dk_54 8 (dk_at dksX1_pairsOf_8 13 rfl rfl)
theorem dX1_pairsOf_197 : decode cX1_pairsOf 197 = .ok (.goto (-68), 3) := dk_167 255 188 (dk_at dksX1_pairsOf_8 15 rfl rfl)
theorem dX1_pairsOf_200 : decode cX1_pairsOf 200 = .ok (.aload 7, 2) := dk_25 7 (dk_at dksX1_pairsOf_8 18 rfl rfl)
theorem dX1_pairsOf_202 : decode cX1_pairsOf 202 = .ok (.invokestatic 509, 3) := dk_184 1 253 (dk_at dksX1_pairsOf_8 20 rfl rfl)
theorem dX1_pairsOf_205 : decode cX1_pairsOf 205 = .ok (.aload 7, 2) := dk_25 7 (dk_at dksX1_pairsOf_9 0 rfl rfl)
theorem dX1_pairsOf_207 : decode cX1_pairsOf 207 = .ok (.areturn, 1) := dk_176 (dk_at dksX1_pairsOf_9 2 rfl rfl)
abbrev cX1_pair : ByteArray := prog_1_method_71_code
def yX1_pair : MethodName := ⟨RX1, "pair", "(IIIIZ)I"⟩
def dkwX1_pair_2 : List UInt8 := [182, 2, 7, 167, 0, 16, 25, 6, 21, 4, 182, 0, 79, 192, 1, 250, 182, 2, 9, 172]
abbrev dktX1_pair_2 : List UInt8 := dkwX1_pair_2 ++ []
def dkwX1_pair_1 : List UInt8 := [4, 100, 184, 0, 64, 184, 0, 117, 21, 5, 153, 0, 19, 25, 6, 21, 4, 182, 0, 79, 192, 1, 250]
abbrev dktX1_pair_1 : List UInt8 := dkwX1_pair_1 ++ dktX1_pair_2
def dkwX1_pair_0 : List UInt8 := [42, 27, 28, 29, 182, 2, 0, 42, 27, 28, 29, 182, 2, 3, 58, 6, 21, 4, 3, 25, 6, 182, 0, 71]
abbrev dktX1_pair_0 : List UInt8 := dkwX1_pair_0 ++ dktX1_pair_1
theorem dksX1_pair_0 : cX1_pair.data.toList.drop 0 = dktX1_pair_0 := by decide +kernel
theorem dksX1_pair_1 : cX1_pair.data.toList.drop 24 = dktX1_pair_1 := dk_seg dksX1_pair_0 24 rfl rfl
theorem dksX1_pair_2 : cX1_pair.data.toList.drop 47 = dktX1_pair_2 := dk_seg dksX1_pair_1 23 rfl rfl
theorem dX1_pair_0 : decode cX1_pair 0 = .ok (.aload_n 0, 1) := dk_42 (dk_at dksX1_pair_0 0 rfl rfl)
theorem dX1_pair_1 : decode cX1_pair 1 = .ok (.iload_n 1, 1) := dk_27 (dk_at dksX1_pair_0 1 rfl rfl)
theorem dX1_pair_2 : decode cX1_pair 2 = .ok (.iload_n 2, 1) := dk_28 (dk_at dksX1_pair_0 2 rfl rfl)
theorem dX1_pair_3 : decode cX1_pair 3 = .ok (.iload_n 3, 1) := dk_29 (dk_at dksX1_pair_0 3 rfl rfl)
theorem dX1_pair_4 : decode cX1_pair 4 = .ok (.invokevirtual 512, 3) := dk_182 2 0 (dk_at dksX1_pair_0 4 rfl rfl)
theorem dX1_pair_7 : decode cX1_pair 7 = .ok (.aload_n 0, 1) := dk_42 (dk_at dksX1_pair_0 7 rfl rfl)
theorem dX1_pair_8 : decode cX1_pair 8 = .ok (.iload_n 1, 1) := dk_27 (dk_at dksX1_pair_0 8 rfl rfl)
theorem dX1_pair_9 : decode cX1_pair 9 = .ok (.iload_n 2, 1) := dk_28 (dk_at dksX1_pair_0 9 rfl rfl)
theorem dX1_pair_10 : decode cX1_pair 10 = .ok (.iload_n 3, 1) := dk_29 (dk_at dksX1_pair_0 10 rfl rfl)
theorem dX1_pair_11 : decode cX1_pair 11 = .ok (.invokevirtual 515, 3) := dk_182 2 3 (dk_at dksX1_pair_0 11 rfl rfl)
theorem dX1_pair_14 : decode cX1_pair 14 = .ok (.astore 6, 2) := dk_58 6 (dk_at dksX1_pair_0 14 rfl rfl)
theorem dX1_pair_16 : decode cX1_pair 16 = .ok (.iload 4, 2) := dk_21 4 (dk_at dksX1_pair_0 16 rfl rfl)
theorem dX1_pair_18 : decode cX1_pair 18 = .ok (.iconst 0, 1) := dk_3 (dk_at dksX1_pair_0 18 rfl rfl)
theorem dX1_pair_19 : decode cX1_pair 19 = .ok (.aload 6, 2) := dk_25 6 (dk_at dksX1_pair_0 19 rfl rfl)
theorem dX1_pair_21 : decode cX1_pair 21 = .ok (.invokevirtual 71, 3) := dk_182 0 71 (dk_at dksX1_pair_0 21 rfl rfl)
theorem dX1_pair_24 : decode cX1_pair 24 = .ok (.iconst 1, 1) := dk_4 (dk_at dksX1_pair_1 0 rfl rfl)
theorem dX1_pair_25 : decode cX1_pair 25 = .ok (.isub, 1) := dk_100 (dk_at dksX1_pair_1 1 rfl rfl)
theorem dX1_pair_26 : decode cX1_pair 26 = .ok (.invokestatic 64, 3) := dk_184 0 64 (dk_at dksX1_pair_1 2 rfl rfl)
theorem dX1_pair_29 : decode cX1_pair 29 = .ok (.invokestatic 117, 3) := dk_184 0 117 (dk_at dksX1_pair_1 5 rfl rfl)
theorem dX1_pair_32 : decode cX1_pair 32 = .ok (.iload 5, 2) := dk_21 5 (dk_at dksX1_pair_1 8 rfl rfl)
theorem dX1_pair_34 : decode cX1_pair 34 = .ok (.ifCond .eq 19, 3) := dk_153 0 19 (dk_at dksX1_pair_1 10 rfl rfl)
theorem dX1_pair_37 : decode cX1_pair 37 = .ok (.aload 6, 2) := dk_25 6 (dk_at dksX1_pair_1 13 rfl rfl)
theorem dX1_pair_39 : decode cX1_pair 39 = .ok (.iload 4, 2) := dk_21 4 (dk_at dksX1_pair_1 15 rfl rfl)
theorem dX1_pair_41 : decode cX1_pair 41 = .ok (.invokevirtual 79, 3) := dk_182 0 79 (dk_at dksX1_pair_1 17 rfl rfl)
theorem dX1_pair_44 : decode cX1_pair 44 = .ok (.checkcast 506, 3) := dk_192 1 250 (dk_at dksX1_pair_1 20 rfl rfl)
theorem dX1_pair_47 : decode cX1_pair 47 = .ok (.invokevirtual 519, 3) := dk_182 2 7 (dk_at dksX1_pair_2 0 rfl rfl)
theorem dX1_pair_50 : decode cX1_pair 50 = .ok (.goto 16, 3) := dk_167 0 16 (dk_at dksX1_pair_2 3 rfl rfl)
theorem dX1_pair_53 : decode cX1_pair 53 = .ok (.aload 6, 2) := dk_25 6 (dk_at dksX1_pair_2 6 rfl rfl)
theorem dX1_pair_55 : decode cX1_pair 55 = .ok (.iload 4, 2) := dk_21 4 (dk_at dksX1_pair_2 8 rfl rfl)
theorem dX1_pair_57 : decode cX1_pair 57 = .ok (.invokevirtual 79, 3) := dk_182 0 79 (dk_at dksX1_pair_2 10 rfl rfl)
theorem dX1_pair_60 : decode cX1_pair 60 = .ok (.checkcast 506, 3) := dk_192 1 250 (dk_at dksX1_pair_2 13 rfl rfl)
theorem dX1_pair_63 : decode cX1_pair 63 = .ok (.invokevirtual 521, 3) := dk_182 2 9 (dk_at dksX1_pair_2 16 rfl rfl)
theorem dX1_pair_66 : decode cX1_pair 66 = .ok (.ireturn, 1) := dk_172 (dk_at dksX1_pair_2 19 rfl rfl)
abbrev cX1_byPairs : ByteArray := prog_1_method_74_code
def yX1_byPairs : MethodName := ⟨RX1, "byPairs", "(IIII)I"⟩
def dkwX1_byPairs_1 : List UInt8 := [182, 2, 3, 27, 28, 21, 4, 182, 2, 18, 184, 1, 117, 172]
abbrev dktX1_byPairs_1 : List UInt8 := dkwX1_byPairs_1 ++ []
def dkwX1_byPairs_0 : List UInt8 := [42, 27, 28, 29, 21, 4, 182, 1, 109, 27, 28, 160, 0, 8, 21, 4, 167, 0, 21, 42, 42, 27, 28, 29]
abbrev dktX1_byPairs_0 : List UInt8 := dkwX1_byPairs_0 ++ dktX1_byPairs_1
theorem dksX1_byPairs_0 : cX1_byPairs.data.toList.drop 0 = dktX1_byPairs_0 := by decide +kernel
theorem dksX1_byPairs_1 : cX1_byPairs.data.toList.drop 24 = dktX1_byPairs_1 := dk_seg dksX1_byPairs_0 24 rfl rfl
theorem dX1_byPairs_0 : decode cX1_byPairs 0 = .ok (.aload_n 0, 1) := dk_42 (dk_at dksX1_byPairs_0 0 rfl rfl)
theorem dX1_byPairs_1 : decode cX1_byPairs 1 = .ok (.iload_n 1, 1) := dk_27 (dk_at dksX1_byPairs_0 1 rfl rfl)
theorem dX1_byPairs_2 : decode cX1_byPairs 2 = .ok (.iload_n 2, 1) := dk_28 (dk_at dksX1_byPairs_0 2 rfl rfl)
theorem dX1_byPairs_3 : decode cX1_byPairs 3 = .ok (.iload_n 3, 1) := dk_29 (dk_at dksX1_byPairs_0 3 rfl rfl)
theorem dX1_byPairs_4 : decode cX1_byPairs 4 = .ok (.iload 4, 2) := dk_21 4 (dk_at dksX1_byPairs_0 4 rfl rfl)
theorem dX1_byPairs_6 : decode cX1_byPairs 6 = .ok (.invokevirtual 365, 3) := dk_182 1 109 (dk_at dksX1_byPairs_0 6 rfl rfl)
theorem dX1_byPairs_9 : decode cX1_byPairs 9 = .ok (.iload_n 1, 1) := dk_27 (dk_at dksX1_byPairs_0 9 rfl rfl)
theorem dX1_byPairs_10 : decode cX1_byPairs 10 = .ok (.iload_n 2, 1) := dk_28 (dk_at dksX1_byPairs_0 10 rfl rfl)
theorem dX1_byPairs_11 : decode cX1_byPairs 11 = .ok (.if_icmp .ne 8, 3) := dk_160 0 8 (dk_at dksX1_byPairs_0 11 rfl rfl)
theorem dX1_byPairs_14 : decode cX1_byPairs 14 = .ok (.iload 4, 2) := dk_21 4 (dk_at dksX1_byPairs_0 14 rfl rfl)
theorem dX1_byPairs_16 : decode cX1_byPairs 16 = .ok (.goto 21, 3) := dk_167 0 21 (dk_at dksX1_byPairs_0 16 rfl rfl)
theorem dX1_byPairs_19 : decode cX1_byPairs 19 = .ok (.aload_n 0, 1) := dk_42 (dk_at dksX1_byPairs_0 19 rfl rfl)
theorem dX1_byPairs_20 : decode cX1_byPairs 20 = .ok (.aload_n 0, 1) := dk_42 (dk_at dksX1_byPairs_0 20 rfl rfl)
theorem dX1_byPairs_21 : decode cX1_byPairs 21 = .ok (.iload_n 1, 1) := dk_27 (dk_at dksX1_byPairs_0 21 rfl rfl)
theorem dX1_byPairs_22 : decode cX1_byPairs 22 = .ok (.iload_n 2, 1) := dk_28 (dk_at dksX1_byPairs_0 22 rfl rfl)
theorem dX1_byPairs_23 : decode cX1_byPairs 23 = .ok (.iload_n 3, 1) := dk_29 (dk_at dksX1_byPairs_0 23 rfl rfl)
theorem dX1_byPairs_24 : decode cX1_byPairs 24 = .ok (.invokevirtual 515, 3) := dk_182 2 3 (dk_at dksX1_byPairs_1 0 rfl rfl)
theorem dX1_byPairs_27 : decode cX1_byPairs 27 = .ok (.iload_n 1, 1) := dk_27 (dk_at dksX1_byPairs_1 3 rfl rfl)
theorem dX1_byPairs_28 : decode cX1_byPairs 28 = .ok (.iload_n 2, 1) := dk_28 (dk_at dksX1_byPairs_1 4 rfl rfl)
theorem dX1_byPairs_29 : decode cX1_byPairs 29 = .ok (.iload 4, 2) := dk_21 4 (dk_at dksX1_byPairs_1 5 rfl rfl)
theorem dX1_byPairs_31 : decode cX1_byPairs 31 = .ok (.invokevirtual 530, 3) := dk_182 2 18 (dk_at dksX1_byPairs_1 7 rfl rfl)
theorem dX1_byPairs_34 : decode cX1_byPairs 34 = .ok (.invokestatic 373, 3) := dk_184 1 117 (dk_at dksX1_byPairs_1 10 rfl rfl)
theorem dX1_byPairs_37 : decode cX1_byPairs 37 = .ok (.ireturn, 1) := dk_172 (dk_at dksX1_byPairs_1 13 rfl rfl)
abbrev cX1_arrivalBy : ByteArray := prog_1_method_73_code
def yX1_arrivalBy : MethodName := ⟨RX1, "arrivalBy", "(Ljava/util/List;III)I"⟩
def dkwX1_arrivalBy_3 : List UInt8 := [167, 0, 5, 21, 7, 172]
abbrev dktX1_arrivalBy_3 : List UInt8 := dkwX1_arrivalBy_3 ++ []
def dkwX1_arrivalBy_2 : List UInt8 := [162, 0, 25, 21, 7, 43, 21, 6, 185, 2, 13, 2, 0, 192, 1, 250, 182, 2, 7, 184, 0, 107]
abbrev dktX1_arrivalBy_2 : List UInt8 := dkwX1_arrivalBy_2 ++ dktX1_arrivalBy_3
def dkwX1_arrivalBy_1 : List UInt8 := [162, 0, 11, 21, 4, 21, 5, 96, 167, 0, 5, 18, 106, 54, 7, 21, 6, 43, 185, 2, 12, 1, 0]
abbrev dktX1_arrivalBy_1 : List UInt8 := dkwX1_arrivalBy_1 ++ dktX1_arrivalBy_2
def dkwX1_arrivalBy_0 : List UInt8 := [42, 2, 182, 0, 113, 28, 50, 29, 46, 54, 5, 43, 21, 4, 184, 2, 14, 54, 6, 21, 5, 18, 106]
abbrev dktX1_arrivalBy_0 : List UInt8 := dkwX1_arrivalBy_0 ++ dktX1_arrivalBy_1
theorem dksX1_arrivalBy_0 : cX1_arrivalBy.data.toList.drop 0 = dktX1_arrivalBy_0 := by decide +kernel
theorem dksX1_arrivalBy_1 : cX1_arrivalBy.data.toList.drop 23 = dktX1_arrivalBy_1 := dk_seg dksX1_arrivalBy_0 23 rfl rfl
theorem dksX1_arrivalBy_2 : cX1_arrivalBy.data.toList.drop 46 = dktX1_arrivalBy_2 := dk_seg dksX1_arrivalBy_1 23 rfl rfl
theorem dksX1_arrivalBy_3 : cX1_arrivalBy.data.toList.drop 68 = dktX1_arrivalBy_3 := dk_seg dksX1_arrivalBy_2 22 rfl rfl
theorem dX1_arrivalBy_0 : decode cX1_arrivalBy 0 = .ok (.aload_n 0, 1) := dk_42 (dk_at dksX1_arrivalBy_0 0 rfl rfl)
theorem dX1_arrivalBy_1 : decode cX1_arrivalBy 1 = .ok (.iconst (-1), 1) := dk_2 (dk_at dksX1_arrivalBy_0 1 rfl rfl)
theorem dX1_arrivalBy_2 : decode cX1_arrivalBy 2 = .ok (.invokevirtual 113, 3) := dk_182 0 113 (dk_at dksX1_arrivalBy_0 2 rfl rfl)
theorem dX1_arrivalBy_5 : decode cX1_arrivalBy 5 = .ok (.iload_n 2, 1) := dk_28 (dk_at dksX1_arrivalBy_0 5 rfl rfl)
theorem dX1_arrivalBy_6 : decode cX1_arrivalBy 6 = .ok (.aaload, 1) := dk_50 (dk_at dksX1_arrivalBy_0 6 rfl rfl)
theorem dX1_arrivalBy_7 : decode cX1_arrivalBy 7 = .ok (.iload_n 3, 1) := dk_29 (dk_at dksX1_arrivalBy_0 7 rfl rfl)
theorem dX1_arrivalBy_8 : decode cX1_arrivalBy 8 = .ok (.iaload, 1) := dk_46 (dk_at dksX1_arrivalBy_0 8 rfl rfl)
theorem dX1_arrivalBy_9 : decode cX1_arrivalBy 9 = .ok (.istore 5, 2) := dk_54 5 (dk_at dksX1_arrivalBy_0 9 rfl rfl)
theorem dX1_arrivalBy_11 : decode cX1_arrivalBy 11 = .ok (.aload_n 1, 1) := dk_43 (dk_at dksX1_arrivalBy_0 11 rfl rfl)
theorem dX1_arrivalBy_12 : decode cX1_arrivalBy 12 = .ok (.iload 4, 2) := dk_21 4 (dk_at dksX1_arrivalBy_0 12 rfl rfl)
theorem dX1_arrivalBy_14 : decode cX1_arrivalBy 14 = .ok (.invokestatic 526, 3) := dk_184 2 14 (dk_at dksX1_arrivalBy_0 14 rfl rfl)
theorem dX1_arrivalBy_17 : decode cX1_arrivalBy 17 = .ok (.istore 6, 2) := dk_54 6 (dk_at dksX1_arrivalBy_0 17 rfl rfl)
theorem dX1_arrivalBy_19 : decode cX1_arrivalBy 19 = .ok (.iload 5, 2) := dk_21 5 (dk_at dksX1_arrivalBy_0 19 rfl rfl)
theorem dX1_arrivalBy_21 : decode cX1_arrivalBy 21 = .ok (.ldc 106, 2) := dk_18 106 (dk_at dksX1_arrivalBy_0 21 rfl rfl)
theorem dX1_arrivalBy_23 : decode cX1_arrivalBy 23 = .ok (.if_icmp .ge 11, 3) := dk_162 0 11 (dk_at dksX1_arrivalBy_1 0 rfl rfl)
theorem dX1_arrivalBy_26 : decode cX1_arrivalBy 26 = .ok (.iload 4, 2) := dk_21 4 (dk_at dksX1_arrivalBy_1 3 rfl rfl)
theorem dX1_arrivalBy_28 : decode cX1_arrivalBy 28 = .ok (.iload 5, 2) := dk_21 5 (dk_at dksX1_arrivalBy_1 5 rfl rfl)
theorem dX1_arrivalBy_30 : decode cX1_arrivalBy 30 = .ok (.iadd, 1) := dk_96 (dk_at dksX1_arrivalBy_1 7 rfl rfl)
theorem dX1_arrivalBy_31 : decode cX1_arrivalBy 31 = .ok (.goto 5, 3) := dk_167 0 5 (dk_at dksX1_arrivalBy_1 8 rfl rfl)
theorem dX1_arrivalBy_34 : decode cX1_arrivalBy 34 = .ok (.ldc 106, 2) := dk_18 106 (dk_at dksX1_arrivalBy_1 11 rfl rfl)
theorem dX1_arrivalBy_36 : decode cX1_arrivalBy 36 = .ok (.istore 7, 2) := dk_54 7 (dk_at dksX1_arrivalBy_1 13 rfl rfl)
theorem dX1_arrivalBy_38 : decode cX1_arrivalBy 38 = .ok (.iload 6, 2) := dk_21 6 (dk_at dksX1_arrivalBy_1 15 rfl rfl)
theorem dX1_arrivalBy_40 : decode cX1_arrivalBy 40 = .ok (.aload_n 1, 1) := dk_43 (dk_at dksX1_arrivalBy_1 17 rfl rfl)
theorem dX1_arrivalBy_41 : decode cX1_arrivalBy 41 = .ok (.invokeinterface 524 1, 5) := by decide +kernel
theorem dX1_arrivalBy_46 : decode cX1_arrivalBy 46 = .ok (.if_icmp .ge 25, 3) := dk_162 0 25 (dk_at dksX1_arrivalBy_2 0 rfl rfl)
theorem dX1_arrivalBy_49 : decode cX1_arrivalBy 49 = .ok (.iload 7, 2) := dk_21 7 (dk_at dksX1_arrivalBy_2 3 rfl rfl)
theorem dX1_arrivalBy_51 : decode cX1_arrivalBy 51 = .ok (.aload_n 1, 1) := dk_43 (dk_at dksX1_arrivalBy_2 5 rfl rfl)
theorem dX1_arrivalBy_52 : decode cX1_arrivalBy 52 = .ok (.iload 6, 2) := dk_21 6 (dk_at dksX1_arrivalBy_2 6 rfl rfl)
theorem dX1_arrivalBy_54 : decode cX1_arrivalBy 54 = .ok (.invokeinterface 525 2, 5) := by decide +kernel
theorem dX1_arrivalBy_59 : decode cX1_arrivalBy 59 = .ok (.checkcast 506, 3) := dk_192 1 250 (dk_at dksX1_arrivalBy_2 13 rfl rfl)
theorem dX1_arrivalBy_62 : decode cX1_arrivalBy 62 = .ok (.invokevirtual 519, 3) := dk_182 2 7 (dk_at dksX1_arrivalBy_2 16 rfl rfl)
theorem dX1_arrivalBy_65 : decode cX1_arrivalBy 65 = .ok (.invokestatic 107, 3) := dk_184 0 107 (dk_at dksX1_arrivalBy_2 19 rfl rfl)
theorem dX1_arrivalBy_68 : decode cX1_arrivalBy 68 = .ok (.goto 5, 3) := dk_167 0 5 (dk_at dksX1_arrivalBy_3 0 rfl rfl)
theorem dX1_arrivalBy_71 : decode cX1_arrivalBy 71 = .ok (.iload 7, 2) := dk_21 7 (dk_at dksX1_arrivalBy_3 3 rfl rfl)
theorem dX1_arrivalBy_73 : decode cX1_arrivalBy 73 = .ok (.ireturn, 1) := dk_172 (dk_at dksX1_arrivalBy_3 5 rfl rfl)
abbrev cX1_firstFrom : ByteArray := prog_1_method_72_code
def yX1_firstFrom : MethodName := ⟨RX1, "firstFrom", "(Ljava/util/List;I)I"⟩
def dkwX1_firstFrom_2 : List UInt8 := [21, 4, 62, 167, 255, 215, 28, 172]
abbrev dktX1_firstFrom_2 : List UInt8 := dkwX1_firstFrom_2 ++ []
def dkwX1_firstFrom_1 : List UInt8 := [185, 2, 13, 2, 0, 192, 1, 250, 182, 2, 9, 27, 162, 0, 11, 21, 4, 4, 96, 61, 167, 0, 6]
abbrev dktX1_firstFrom_1 : List UInt8 := dkwX1_firstFrom_1 ++ dktX1_firstFrom_2
def dkwX1_firstFrom_0 : List UInt8 := [3, 61, 42, 185, 2, 12, 1, 0, 62, 28, 29, 162, 0, 42, 28, 29, 96, 5, 108, 54, 4, 42, 21, 4]
abbrev dktX1_firstFrom_0 : List UInt8 := dkwX1_firstFrom_0 ++ dktX1_firstFrom_1
theorem dksX1_firstFrom_0 : cX1_firstFrom.data.toList.drop 0 = dktX1_firstFrom_0 := by decide +kernel
theorem dksX1_firstFrom_1 : cX1_firstFrom.data.toList.drop 24 = dktX1_firstFrom_1 := dk_seg dksX1_firstFrom_0 24 rfl rfl
theorem dksX1_firstFrom_2 : cX1_firstFrom.data.toList.drop 47 = dktX1_firstFrom_2 := dk_seg dksX1_firstFrom_1 23 rfl rfl
theorem dX1_firstFrom_0 : decode cX1_firstFrom 0 = .ok (.iconst 0, 1) := dk_3 (dk_at dksX1_firstFrom_0 0 rfl rfl)
theorem dX1_firstFrom_1 : decode cX1_firstFrom 1 = .ok (.istore_n 2, 1) := dk_61 (dk_at dksX1_firstFrom_0 1 rfl rfl)
theorem dX1_firstFrom_2 : decode cX1_firstFrom 2 = .ok (.aload_n 0, 1) := dk_42 (dk_at dksX1_firstFrom_0 2 rfl rfl)
theorem dX1_firstFrom_3 : decode cX1_firstFrom 3 = .ok (.invokeinterface 524 1, 5) := by decide +kernel
theorem dX1_firstFrom_8 : decode cX1_firstFrom 8 = .ok (.istore_n 3, 1) := dk_62 (dk_at dksX1_firstFrom_0 8 rfl rfl)
theorem dX1_firstFrom_9 : decode cX1_firstFrom 9 = .ok (.iload_n 2, 1) := dk_28 (dk_at dksX1_firstFrom_0 9 rfl rfl)
theorem dX1_firstFrom_10 : decode cX1_firstFrom 10 = .ok (.iload_n 3, 1) := dk_29 (dk_at dksX1_firstFrom_0 10 rfl rfl)
theorem dX1_firstFrom_11 : decode cX1_firstFrom 11 = .ok (.if_icmp .ge 42, 3) := dk_162 0 42 (dk_at dksX1_firstFrom_0 11 rfl rfl)
theorem dX1_firstFrom_14 : decode cX1_firstFrom 14 = .ok (.iload_n 2, 1) := dk_28 (dk_at dksX1_firstFrom_0 14 rfl rfl)
theorem dX1_firstFrom_15 : decode cX1_firstFrom 15 = .ok (.iload_n 3, 1) := dk_29 (dk_at dksX1_firstFrom_0 15 rfl rfl)
theorem dX1_firstFrom_16 : decode cX1_firstFrom 16 = .ok (.iadd, 1) := dk_96 (dk_at dksX1_firstFrom_0 16 rfl rfl)
theorem dX1_firstFrom_17 : decode cX1_firstFrom 17 = .ok (.iconst 2, 1) := dk_5 (dk_at dksX1_firstFrom_0 17 rfl rfl)
theorem dX1_firstFrom_18 : decode cX1_firstFrom 18 = .ok (.idiv, 1) := dk_108 (dk_at dksX1_firstFrom_0 18 rfl rfl)
theorem dX1_firstFrom_19 : decode cX1_firstFrom 19 = .ok (.istore 4, 2) := dk_54 4 (dk_at dksX1_firstFrom_0 19 rfl rfl)
theorem dX1_firstFrom_21 : decode cX1_firstFrom 21 = .ok (.aload_n 0, 1) := dk_42 (dk_at dksX1_firstFrom_0 21 rfl rfl)
theorem dX1_firstFrom_22 : decode cX1_firstFrom 22 = .ok (.iload 4, 2) := dk_21 4 (dk_at dksX1_firstFrom_0 22 rfl rfl)
theorem dX1_firstFrom_24 : decode cX1_firstFrom 24 = .ok (.invokeinterface 525 2, 5) := by decide +kernel
theorem dX1_firstFrom_29 : decode cX1_firstFrom 29 = .ok (.checkcast 506, 3) := dk_192 1 250 (dk_at dksX1_firstFrom_1 5 rfl rfl)
theorem dX1_firstFrom_32 : decode cX1_firstFrom 32 = .ok (.invokevirtual 521, 3) := dk_182 2 9 (dk_at dksX1_firstFrom_1 8 rfl rfl)
theorem dX1_firstFrom_35 : decode cX1_firstFrom 35 = .ok (.iload_n 1, 1) := dk_27 (dk_at dksX1_firstFrom_1 11 rfl rfl)
theorem dX1_firstFrom_36 : decode cX1_firstFrom 36 = .ok (.if_icmp .ge 11, 3) := dk_162 0 11 (dk_at dksX1_firstFrom_1 12 rfl rfl)
theorem dX1_firstFrom_39 : decode cX1_firstFrom 39 = .ok (.iload 4, 2) := dk_21 4 (dk_at dksX1_firstFrom_1 15 rfl rfl)
theorem dX1_firstFrom_41 : decode cX1_firstFrom 41 = .ok (.iconst 1, 1) := dk_4 (dk_at dksX1_firstFrom_1 17 rfl rfl)
theorem dX1_firstFrom_42 : decode cX1_firstFrom 42 = .ok (.iadd, 1) := dk_96 (dk_at dksX1_firstFrom_1 18 rfl rfl)
theorem dX1_firstFrom_43 : decode cX1_firstFrom 43 = .ok (.istore_n 2, 1) := dk_61 (dk_at dksX1_firstFrom_1 19 rfl rfl)
theorem dX1_firstFrom_44 : decode cX1_firstFrom 44 = .ok (.goto 6, 3) := dk_167 0 6 (dk_at dksX1_firstFrom_1 20 rfl rfl)
theorem dX1_firstFrom_47 : decode cX1_firstFrom 47 = .ok (.iload 4, 2) := dk_21 4 (dk_at dksX1_firstFrom_2 0 rfl rfl)
theorem dX1_firstFrom_49 : decode cX1_firstFrom 49 = .ok (.istore_n 3, 1) := dk_62 (dk_at dksX1_firstFrom_2 2 rfl rfl)
theorem dX1_firstFrom_50 : decode cX1_firstFrom 50 = .ok (.goto (-41), 3) := dk_167 255 215 (dk_at dksX1_firstFrom_2 3 rfl rfl)
theorem dX1_firstFrom_53 : decode cX1_firstFrom 53 = .ok (.iload_n 2, 1) := dk_28 (dk_at dksX1_firstFrom_2 6 rfl rfl)
theorem dX1_firstFrom_54 : decode cX1_firstFrom 54 = .ok (.ireturn, 1) := dk_172 (dk_at dksX1_firstFrom_2 7 rfl rfl)
abbrev cX1_choices : ByteArray := prog_1_method_76_code
def yX1_choices : MethodName := ⟨RX1, "choices", "(IIII)I"⟩
def dkwX1_choices_0 : List UInt8 := [42, 27, 28, 29, 21, 4, 182, 1, 109, 42, 27, 28, 29, 21, 4, 182, 2, 22, 182, 0, 71, 172]
abbrev dktX1_choices_0 : List UInt8 := dkwX1_choices_0 ++ []
theorem dksX1_choices_0 : cX1_choices.data.toList.drop 0 = dktX1_choices_0 := by decide +kernel
theorem dX1_choices_0 : decode cX1_choices 0 = .ok (.aload_n 0, 1) := dk_42 (dk_at dksX1_choices_0 0 rfl rfl)
theorem dX1_choices_1 : decode cX1_choices 1 = .ok (.iload_n 1, 1) := dk_27 (dk_at dksX1_choices_0 1 rfl rfl)
theorem dX1_choices_2 : decode cX1_choices 2 = .ok (.iload_n 2, 1) := dk_28 (dk_at dksX1_choices_0 2 rfl rfl)
theorem dX1_choices_3 : decode cX1_choices 3 = .ok (.iload_n 3, 1) := dk_29 (dk_at dksX1_choices_0 3 rfl rfl)
theorem dX1_choices_4 : decode cX1_choices 4 = .ok (.iload 4, 2) := dk_21 4 (dk_at dksX1_choices_0 4 rfl rfl)
theorem dX1_choices_6 : decode cX1_choices 6 = .ok (.invokevirtual 365, 3) := dk_182 1 109 (dk_at dksX1_choices_0 6 rfl rfl)
theorem dX1_choices_9 : decode cX1_choices 9 = .ok (.aload_n 0, 1) := dk_42 (dk_at dksX1_choices_0 9 rfl rfl)
theorem dX1_choices_10 : decode cX1_choices 10 = .ok (.iload_n 1, 1) := dk_27 (dk_at dksX1_choices_0 10 rfl rfl)
theorem dX1_choices_11 : decode cX1_choices 11 = .ok (.iload_n 2, 1) := dk_28 (dk_at dksX1_choices_0 11 rfl rfl)
theorem dX1_choices_12 : decode cX1_choices 12 = .ok (.iload_n 3, 1) := dk_29 (dk_at dksX1_choices_0 12 rfl rfl)
theorem dX1_choices_13 : decode cX1_choices 13 = .ok (.iload 4, 2) := dk_21 4 (dk_at dksX1_choices_0 13 rfl rfl)
theorem dX1_choices_15 : decode cX1_choices 15 = .ok (.invokevirtual 534, 3) := dk_182 2 22 (dk_at dksX1_choices_0 15 rfl rfl)
theorem dX1_choices_18 : decode cX1_choices 18 = .ok (.invokevirtual 71, 3) := dk_182 0 71 (dk_at dksX1_choices_0 18 rfl rfl)
theorem dX1_choices_21 : decode cX1_choices 21 = .ok (.ireturn, 1) := dk_172 (dk_at dksX1_choices_0 21 rfl rfl)
abbrev cX1_choicesOf : ByteArray := prog_1_method_75_code
def yX1_choicesOf : MethodName := ⟨RX1, "choicesOf", "(IIII)Ljava/util/ArrayList;"⟩
def dkwX1_choicesOf_4 : List UInt8 := [87, 132, 7, 1, 167, 255, 192, 25, 5, 176]
abbrev dktX1_choicesOf_4 : List UInt8 := dkwX1_choicesOf_4 ++ []
def dkwX1_choicesOf_3 : List UInt8 := [180, 1, 116, 28, 46, 54, 6, 25, 5, 17, 19, 136, 21, 7, 104, 21, 6, 96, 184, 0, 236, 182, 0, 121]
abbrev dktX1_choicesOf_3 : List UInt8 := dkwX1_choicesOf_3 ++ dktX1_choicesOf_4
def dkwX1_choicesOf_2 : List UInt8 := [185, 1, 44, 1, 0, 192, 1, 80, 58, 9, 25, 9, 180, 1, 116, 28, 46, 21, 6, 162, 0, 30, 25, 9]
abbrev dktX1_choicesOf_2 : List UInt8 := dkwX1_choicesOf_2 ++ dktX1_choicesOf_3
def dkwX1_choicesOf_1 : List UInt8 := [21, 4, 182, 1, 163, 182, 1, 142, 58, 8, 25, 8, 185, 1, 39, 1, 0, 153, 0, 60, 25, 8]
abbrev dktX1_choicesOf_1 : List UInt8 := dkwX1_choicesOf_1 ++ dktX1_choicesOf_2
def dkwX1_choicesOf_0 : List UInt8 := [187, 0, 18, 89, 183, 0, 20, 58, 5, 18, 106, 54, 6, 3, 54, 7, 42, 42, 29, 182, 1, 98, 27]
abbrev dktX1_choicesOf_0 : List UInt8 := dkwX1_choicesOf_0 ++ dktX1_choicesOf_1
theorem dksX1_choicesOf_0 : cX1_choicesOf.data.toList.drop 0 = dktX1_choicesOf_0 := by decide +kernel
theorem dksX1_choicesOf_1 : cX1_choicesOf.data.toList.drop 23 = dktX1_choicesOf_1 := dk_seg dksX1_choicesOf_0 23 rfl rfl
theorem dksX1_choicesOf_2 : cX1_choicesOf.data.toList.drop 45 = dktX1_choicesOf_2 := dk_seg dksX1_choicesOf_1 22 rfl rfl
theorem dksX1_choicesOf_3 : cX1_choicesOf.data.toList.drop 69 = dktX1_choicesOf_3 := dk_seg dksX1_choicesOf_2 24 rfl rfl
theorem dksX1_choicesOf_4 : cX1_choicesOf.data.toList.drop 93 = dktX1_choicesOf_4 := dk_seg dksX1_choicesOf_3 24 rfl rfl
theorem dX1_choicesOf_0 : decode cX1_choicesOf 0 = .ok (.new 18, 3) := dk_187 0 18 (dk_at dksX1_choicesOf_0 0 rfl rfl)
theorem dX1_choicesOf_3 : decode cX1_choicesOf 3 = .ok (.dup, 1) := dk_89 (dk_at dksX1_choicesOf_0 3 rfl rfl)
theorem dX1_choicesOf_4 : decode cX1_choicesOf 4 = .ok (.invokespecial 20, 3) := dk_183 0 20 (dk_at dksX1_choicesOf_0 4 rfl rfl)
theorem dX1_choicesOf_7 : decode cX1_choicesOf 7 = .ok (.astore 5, 2) := dk_58 5 (dk_at dksX1_choicesOf_0 7 rfl rfl)
theorem dX1_choicesOf_9 : decode cX1_choicesOf 9 = .ok (.ldc 106, 2) := dk_18 106 (dk_at dksX1_choicesOf_0 9 rfl rfl)
theorem dX1_choicesOf_11 : decode cX1_choicesOf 11 = .ok (.istore 6, 2) := dk_54 6 (dk_at dksX1_choicesOf_0 11 rfl rfl)
theorem dX1_choicesOf_13 : decode cX1_choicesOf 13 = .ok (.iconst 0, 1) := dk_3 (dk_at dksX1_choicesOf_0 13 rfl rfl)
theorem dX1_choicesOf_14 : decode cX1_choicesOf 14 = .ok (.istore 7, 2) := dk_54 7 (dk_at dksX1_choicesOf_0 14 rfl rfl)
theorem dX1_choicesOf_16 : decode cX1_choicesOf 16 = .ok (.aload_n 0, 1) := dk_42 (dk_at dksX1_choicesOf_0 16 rfl rfl)
theorem dX1_choicesOf_17 : decode cX1_choicesOf 17 = .ok (.aload_n 0, 1) := dk_42 (dk_at dksX1_choicesOf_0 17 rfl rfl)
theorem dX1_choicesOf_18 : decode cX1_choicesOf 18 = .ok (.iload_n 3, 1) := dk_29 (dk_at dksX1_choicesOf_0 18 rfl rfl)
theorem dX1_choicesOf_19 : decode cX1_choicesOf 19 = .ok (.invokevirtual 354, 3) := dk_182 1 98 (dk_at dksX1_choicesOf_0 19 rfl rfl)
theorem dX1_choicesOf_22 : decode cX1_choicesOf 22 = .ok (.iload_n 1, 1) := dk_27 (dk_at dksX1_choicesOf_0 22 rfl rfl)
theorem dX1_choicesOf_23 : decode cX1_choicesOf 23 = .ok (.iload 4, 2) := dk_21 4 (dk_at dksX1_choicesOf_1 0 rfl rfl)
theorem dX1_choicesOf_25 : decode cX1_choicesOf 25 = .ok (.invokevirtual 419, 3) := dk_182 1 163 (dk_at dksX1_choicesOf_1 2 rfl rfl)
theorem dX1_choicesOf_28 : decode cX1_choicesOf 28 = .ok (.invokevirtual 398, 3) := dk_182 1 142 (dk_at dksX1_choicesOf_1 5 rfl rfl)
theorem dX1_choicesOf_31 : decode cX1_choicesOf 31 = .ok (.astore 8, 2) := dk_58 8 (dk_at dksX1_choicesOf_1 8 rfl rfl)
theorem dX1_choicesOf_33 : decode cX1_choicesOf 33 = .ok (.aload 8, 2) := dk_25 8 (dk_at dksX1_choicesOf_1 10 rfl rfl)
theorem dX1_choicesOf_35 : decode cX1_choicesOf 35 = .ok (.invokeinterface 295 1, 5) := by decide +kernel
theorem dX1_choicesOf_40 : decode cX1_choicesOf 40 = .ok (.ifCond .eq 60, 3) := dk_153 0 60 (dk_at dksX1_choicesOf_1 17 rfl rfl)
theorem dX1_choicesOf_43 : decode cX1_choicesOf 43 = .ok (.aload 8, 2) := dk_25 8 (dk_at dksX1_choicesOf_1 20 rfl rfl)
theorem dX1_choicesOf_45 : decode cX1_choicesOf 45 = .ok (.invokeinterface 300 1, 5) := by decide +kernel
theorem dX1_choicesOf_50 : decode cX1_choicesOf 50 = .ok (.checkcast 336, 3) := dk_192 1 80 (dk_at dksX1_choicesOf_2 5 rfl rfl)
theorem dX1_choicesOf_53 : decode cX1_choicesOf 53 = .ok (.astore 9, 2) := dk_58 9 (dk_at dksX1_choicesOf_2 8 rfl rfl)
theorem dX1_choicesOf_55 : decode cX1_choicesOf 55 = .ok (.aload 9, 2) := dk_25 9 (dk_at dksX1_choicesOf_2 10 rfl rfl)
theorem dX1_choicesOf_57 : decode cX1_choicesOf 57 = .ok (.getfield 372, 3) := dk_180 1 116 (dk_at dksX1_choicesOf_2 12 rfl rfl)
theorem dX1_choicesOf_60 : decode cX1_choicesOf 60 = .ok (.iload_n 2, 1) := dk_28 (dk_at dksX1_choicesOf_2 15 rfl rfl)
theorem dX1_choicesOf_61 : decode cX1_choicesOf 61 = .ok (.iaload, 1) := dk_46 (dk_at dksX1_choicesOf_2 16 rfl rfl)
theorem dX1_choicesOf_62 : decode cX1_choicesOf 62 = .ok (.iload 6, 2) := dk_21 6 (dk_at dksX1_choicesOf_2 17 rfl rfl)
theorem dX1_choicesOf_64 : decode cX1_choicesOf 64 = .ok (.if_icmp .ge 30, 3) := dk_162 0 30 (dk_at dksX1_choicesOf_2 19 rfl rfl)
theorem dX1_choicesOf_67 : decode cX1_choicesOf 67 = .ok (.aload 9, 2) := dk_25 9 (dk_at dksX1_choicesOf_2 22 rfl rfl)
theorem dX1_choicesOf_69 : decode cX1_choicesOf 69 = .ok (.getfield 372, 3) := dk_180 1 116 (dk_at dksX1_choicesOf_3 0 rfl rfl)
theorem dX1_choicesOf_72 : decode cX1_choicesOf 72 = .ok (.iload_n 2, 1) := dk_28 (dk_at dksX1_choicesOf_3 3 rfl rfl)
theorem dX1_choicesOf_73 : decode cX1_choicesOf 73 = .ok (.iaload, 1) := dk_46 (dk_at dksX1_choicesOf_3 4 rfl rfl)
theorem dX1_choicesOf_74 : decode cX1_choicesOf 74 = .ok (.istore 6, 2) := dk_54 6 (dk_at dksX1_choicesOf_3 5 rfl rfl)
theorem dX1_choicesOf_76 : decode cX1_choicesOf 76 = .ok (.aload 5, 2) := dk_25 5 (dk_at dksX1_choicesOf_3 7 rfl rfl)
theorem dX1_choicesOf_78 : decode cX1_choicesOf 78 = .ok (.sipush 5000, 3) := dk_17 19 136 (dk_at dksX1_choicesOf_3 9 rfl rfl)
theorem dX1_choicesOf_81 : decode cX1_choicesOf 81 = .ok (.iload 7, 2) := dk_21 7 (dk_at dksX1_choicesOf_3 12 rfl rfl)
theorem dX1_choicesOf_83 : decode cX1_choicesOf 83 = .ok (.imul, 1) := dk_104 (dk_at dksX1_choicesOf_3 14 rfl rfl)
theorem dX1_choicesOf_84 : decode cX1_choicesOf 84 = .ok (.iload 6, 2) := dk_21 6 (dk_at dksX1_choicesOf_3 15 rfl rfl)
theorem dX1_choicesOf_86 : decode cX1_choicesOf 86 = .ok (.iadd, 1) := dk_96 (dk_at dksX1_choicesOf_3 17 rfl rfl)
theorem dX1_choicesOf_87 : decode cX1_choicesOf 87 = .ok (.invokestatic 236, 3) := dk_184 0 236 (dk_at dksX1_choicesOf_3 18 rfl rfl)
theorem dX1_choicesOf_90 : decode cX1_choicesOf 90 = .ok (.invokevirtual 121, 3) := dk_182 0 121 (dk_at dksX1_choicesOf_3 21 rfl rfl)
theorem dX1_choicesOf_93 : decode cX1_choicesOf 93 = .ok (.pop, 1) := dk_87 (dk_at dksX1_choicesOf_4 0 rfl rfl)
theorem dX1_choicesOf_94 : decode cX1_choicesOf 94 = .ok (.iinc 7 1, 3) := dk_132 7 1 (dk_at dksX1_choicesOf_4 1 rfl rfl)
theorem dX1_choicesOf_97 : decode cX1_choicesOf 97 = .ok (.goto (-64), 3) := dk_167 255 192 (dk_at dksX1_choicesOf_4 4 rfl rfl)
theorem dX1_choicesOf_100 : decode cX1_choicesOf 100 = .ok (.aload 5, 2) := dk_25 5 (dk_at dksX1_choicesOf_4 7 rfl rfl)
theorem dX1_choicesOf_102 : decode cX1_choicesOf 102 = .ok (.areturn, 1) := dk_176 (dk_at dksX1_choicesOf_4 9 rfl rfl)
abbrev cX1_choice : ByteArray := prog_1_method_77_code
def yX1_choice : MethodName := ⟨RX1, "choice", "(IIIII)I"⟩
def dkwX1_choice_2 : List UInt8 := [182, 0, 225, 172]
abbrev dktX1_choice_2 : List UInt8 := dkwX1_choice_2 ++ []
def dkwX1_choice_1 : List UInt8 := [25, 6, 182, 0, 71, 4, 100, 184, 0, 64, 184, 0, 117, 25, 6, 21, 5, 182, 0, 79, 192, 0, 223]
abbrev dktX1_choice_1 : List UInt8 := dkwX1_choice_1 ++ dktX1_choice_2
def dkwX1_choice_0 : List UInt8 := [42, 27, 28, 29, 21, 4, 182, 1, 109, 42, 27, 28, 29, 21, 4, 182, 2, 22, 58, 6, 21, 5, 3]
abbrev dktX1_choice_0 : List UInt8 := dkwX1_choice_0 ++ dktX1_choice_1
theorem dksX1_choice_0 : cX1_choice.data.toList.drop 0 = dktX1_choice_0 := by decide +kernel
theorem dksX1_choice_1 : cX1_choice.data.toList.drop 23 = dktX1_choice_1 := dk_seg dksX1_choice_0 23 rfl rfl
theorem dksX1_choice_2 : cX1_choice.data.toList.drop 46 = dktX1_choice_2 := dk_seg dksX1_choice_1 23 rfl rfl
theorem dX1_choice_0 : decode cX1_choice 0 = .ok (.aload_n 0, 1) := dk_42 (dk_at dksX1_choice_0 0 rfl rfl)
theorem dX1_choice_1 : decode cX1_choice 1 = .ok (.iload_n 1, 1) := dk_27 (dk_at dksX1_choice_0 1 rfl rfl)
theorem dX1_choice_2 : decode cX1_choice 2 = .ok (.iload_n 2, 1) := dk_28 (dk_at dksX1_choice_0 2 rfl rfl)
theorem dX1_choice_3 : decode cX1_choice 3 = .ok (.iload_n 3, 1) := dk_29 (dk_at dksX1_choice_0 3 rfl rfl)
theorem dX1_choice_4 : decode cX1_choice 4 = .ok (.iload 4, 2) := dk_21 4 (dk_at dksX1_choice_0 4 rfl rfl)
theorem dX1_choice_6 : decode cX1_choice 6 = .ok (.invokevirtual 365, 3) := dk_182 1 109 (dk_at dksX1_choice_0 6 rfl rfl)
theorem dX1_choice_9 : decode cX1_choice 9 = .ok (.aload_n 0, 1) := dk_42 (dk_at dksX1_choice_0 9 rfl rfl)
theorem dX1_choice_10 : decode cX1_choice 10 = .ok (.iload_n 1, 1) := dk_27 (dk_at dksX1_choice_0 10 rfl rfl)
theorem dX1_choice_11 : decode cX1_choice 11 = .ok (.iload_n 2, 1) := dk_28 (dk_at dksX1_choice_0 11 rfl rfl)
theorem dX1_choice_12 : decode cX1_choice 12 = .ok (.iload_n 3, 1) := dk_29 (dk_at dksX1_choice_0 12 rfl rfl)
theorem dX1_choice_13 : decode cX1_choice 13 = .ok (.iload 4, 2) := dk_21 4 (dk_at dksX1_choice_0 13 rfl rfl)
theorem dX1_choice_15 : decode cX1_choice 15 = .ok (.invokevirtual 534, 3) := dk_182 2 22 (dk_at dksX1_choice_0 15 rfl rfl)
theorem dX1_choice_18 : decode cX1_choice 18 = .ok (.astore 6, 2) := dk_58 6 (dk_at dksX1_choice_0 18 rfl rfl)
theorem dX1_choice_20 : decode cX1_choice 20 = .ok (.iload 5, 2) := dk_21 5 (dk_at dksX1_choice_0 20 rfl rfl)
theorem dX1_choice_22 : decode cX1_choice 22 = .ok (.iconst 0, 1) := dk_3 (dk_at dksX1_choice_0 22 rfl rfl)
theorem dX1_choice_23 : decode cX1_choice 23 = .ok (.aload 6, 2) := dk_25 6 (dk_at dksX1_choice_1 0 rfl rfl)
theorem dX1_choice_25 : decode cX1_choice 25 = .ok (.invokevirtual 71, 3) := dk_182 0 71 (dk_at dksX1_choice_1 2 rfl rfl)
theorem dX1_choice_28 : decode cX1_choice 28 = .ok (.iconst 1, 1) := dk_4 (dk_at dksX1_choice_1 5 rfl rfl)
theorem dX1_choice_29 : decode cX1_choice 29 = .ok (.isub, 1) := dk_100 (dk_at dksX1_choice_1 6 rfl rfl)
theorem dX1_choice_30 : decode cX1_choice 30 = .ok (.invokestatic 64, 3) := dk_184 0 64 (dk_at dksX1_choice_1 7 rfl rfl)
theorem dX1_choice_33 : decode cX1_choice 33 = .ok (.invokestatic 117, 3) := dk_184 0 117 (dk_at dksX1_choice_1 10 rfl rfl)
theorem dX1_choice_36 : decode cX1_choice 36 = .ok (.aload 6, 2) := dk_25 6 (dk_at dksX1_choice_1 13 rfl rfl)
theorem dX1_choice_38 : decode cX1_choice 38 = .ok (.iload 5, 2) := dk_21 5 (dk_at dksX1_choice_1 15 rfl rfl)
theorem dX1_choice_40 : decode cX1_choice 40 = .ok (.invokevirtual 79, 3) := dk_182 0 79 (dk_at dksX1_choice_1 17 rfl rfl)
theorem dX1_choice_43 : decode cX1_choice 43 = .ok (.checkcast 223, 3) := dk_192 0 223 (dk_at dksX1_choice_1 20 rfl rfl)
theorem dX1_choice_46 : decode cX1_choice 46 = .ok (.invokevirtual 225, 3) := dk_182 0 225 (dk_at dksX1_choice_2 0 rfl rfl)
theorem dX1_choice_49 : decode cX1_choice 49 = .ok (.ireturn, 1) := dk_172 (dk_at dksX1_choice_2 3 rfl rfl)
abbrev cX1_holds : ByteArray := prog_1_method_79_code
def yX1_holds : MethodName := ⟨RX1, "holds", "(IIIII)Z"⟩
def dkwX1_holds_7 : List UInt8 := [163, 0, 7, 4, 167, 0, 4, 3, 172]
abbrev dktX1_holds_7 : List UInt8 := dkwX1_holds_7 ++ []
def dkwX1_holds_6 : List UInt8 := [182, 0, 163, 160, 0, 16, 42, 180, 0, 9, 25, 6, 182, 0, 163, 46, 167, 0, 5, 21, 8, 96, 21, 10]
abbrev dktX1_holds_6 : List UInt8 := dkwX1_holds_6 ++ dktX1_holds_7
def dkwX1_holds_5 : List UInt8 := [182, 0, 160, 42, 27, 21, 4, 21, 5, 182, 1, 10, 96, 54, 10, 21, 9, 25, 6, 182, 0, 163, 25, 7]
abbrev dktX1_holds_5 : List UInt8 := dkwX1_holds_5 ++ dktX1_holds_6
def dkwX1_holds_4 : List UInt8 := [184, 0, 117, 25, 6, 182, 0, 174, 42, 27, 28, 29, 4, 100, 182, 1, 10, 96, 54, 9, 25, 7]
abbrev dktX1_holds_4 : List UInt8 := dkwX1_holds_4 ++ dktX1_holds_5
def dkwX1_holds_3 : List UInt8 := [182, 0, 163, 50, 25, 7, 182, 0, 163, 46, 54, 8, 21, 8, 18, 106, 162, 0, 7, 4, 167, 0, 4, 3]
abbrev dktX1_holds_3 : List UInt8 := dkwX1_holds_3 ++ dktX1_holds_4
def dkwX1_holds_2 : List UInt8 := [21, 4, 27, 182, 1, 20, 153, 0, 7, 4, 167, 0, 4, 3, 184, 0, 228, 42, 2, 182, 0, 113, 25, 6]
abbrev dktX1_holds_2 : List UInt8 := dkwX1_holds_2 ++ dktX1_holds_3
def dkwX1_holds_1 : List UInt8 := [184, 0, 96, 42, 28, 29, 21, 4, 21, 5, 182, 2, 26, 42, 28, 27, 182, 1, 20, 153, 0, 17, 42]
abbrev dktX1_holds_1 : List UInt8 := dkwX1_holds_1 ++ dktX1_holds_2
def dkwX1_holds_0 : List UInt8 := [42, 28, 29, 182, 0, 170, 58, 6, 42, 21, 4, 21, 5, 182, 0, 170, 58, 7, 27, 184, 0, 129]
abbrev dktX1_holds_0 : List UInt8 := dkwX1_holds_0 ++ dktX1_holds_1
theorem dksX1_holds_0 : cX1_holds.data.toList.drop 0 = dktX1_holds_0 := by decide +kernel
theorem dksX1_holds_1 : cX1_holds.data.toList.drop 22 = dktX1_holds_1 := dk_seg dksX1_holds_0 22 rfl rfl
theorem dksX1_holds_2 : cX1_holds.data.toList.drop 45 = dktX1_holds_2 := dk_seg dksX1_holds_1 23 rfl rfl
theorem dksX1_holds_3 : cX1_holds.data.toList.drop 69 = dktX1_holds_3 := dk_seg dksX1_holds_2 24 rfl rfl
theorem dksX1_holds_4 : cX1_holds.data.toList.drop 93 = dktX1_holds_4 := dk_seg dksX1_holds_3 24 rfl rfl
theorem dksX1_holds_5 : cX1_holds.data.toList.drop 115 = dktX1_holds_5 := dk_seg dksX1_holds_4 22 rfl rfl
theorem dksX1_holds_6 : cX1_holds.data.toList.drop 139 = dktX1_holds_6 := dk_seg dksX1_holds_5 24 rfl rfl
theorem dksX1_holds_7 : cX1_holds.data.toList.drop 163 = dktX1_holds_7 := dk_seg dksX1_holds_6 24 rfl rfl
theorem dX1_holds_0 : decode cX1_holds 0 = .ok (.aload_n 0, 1) := dk_42 (dk_at dksX1_holds_0 0 rfl rfl)
theorem dX1_holds_1 : decode cX1_holds 1 = .ok (.iload_n 2, 1) := dk_28 (dk_at dksX1_holds_0 1 rfl rfl)
theorem dX1_holds_2 : decode cX1_holds 2 = .ok (.iload_n 3, 1) := dk_29 (dk_at dksX1_holds_0 2 rfl rfl)
theorem dX1_holds_3 : decode cX1_holds 3 = .ok (.invokevirtual 170, 3) := dk_182 0 170 (dk_at dksX1_holds_0 3 rfl rfl)
theorem dX1_holds_6 : decode cX1_holds 6 = .ok (.astore 6, 2) := dk_58 6 (dk_at dksX1_holds_0 6 rfl rfl)
theorem dX1_holds_8 : decode cX1_holds 8 = .ok (.aload_n 0, 1) := dk_42 (dk_at dksX1_holds_0 8 rfl rfl)
theorem dX1_holds_9 : decode cX1_holds 9 = .ok (.iload 4, 2) := dk_21 4 (dk_at dksX1_holds_0 9 rfl rfl)
theorem dX1_holds_11 : decode cX1_holds 11 = .ok (.iload 5, 2) := dk_21 5 (dk_at dksX1_holds_0 11 rfl rfl)
theorem dX1_holds_13 : decode cX1_holds 13 = .ok (.invokevirtual 170, 3) := dk_182 0 170 (dk_at dksX1_holds_0 13 rfl rfl)
theorem dX1_holds_16 : decode cX1_holds 16 = .ok (.astore 7, 2) := dk_58 7 (dk_at dksX1_holds_0 16 rfl rfl)
theorem dX1_holds_18 : decode cX1_holds 18 = .ok (.iload_n 1, 1) := dk_27 (dk_at dksX1_holds_0 18 rfl rfl)
theorem dX1_holds_19 : decode cX1_holds 19 = .ok (.invokestatic 129, 3) := dk_184 0 129 (dk_at dksX1_holds_0 19 rfl rfl)
theorem dX1_holds_22 : decode cX1_holds 22 = .ok (.invokestatic 96, 3) := dk_184 0 96 (dk_at dksX1_holds_1 0 rfl rfl)
theorem dX1_holds_25 : decode cX1_holds 25 = .ok (.aload_n 0, 1) := dk_42 (dk_at dksX1_holds_1 3 rfl rfl)
theorem dX1_holds_26 : decode cX1_holds 26 = .ok (.iload_n 2, 1) := dk_28 (dk_at dksX1_holds_1 4 rfl rfl)
theorem dX1_holds_27 : decode cX1_holds 27 = .ok (.iload_n 3, 1) := dk_29 (dk_at dksX1_holds_1 5 rfl rfl)
theorem dX1_holds_28 : decode cX1_holds 28 = .ok (.iload 4, 2) := dk_21 4 (dk_at dksX1_holds_1 6 rfl rfl)
theorem dX1_holds_30 : decode cX1_holds 30 = .ok (.iload 5, 2) := dk_21 5 (dk_at dksX1_holds_1 8 rfl rfl)
theorem dX1_holds_32 : decode cX1_holds 32 = .ok (.invokevirtual 538, 3) := dk_182 2 26 (dk_at dksX1_holds_1 10 rfl rfl)
theorem dX1_holds_35 : decode cX1_holds 35 = .ok (.aload_n 0, 1) := dk_42 (dk_at dksX1_holds_1 13 rfl rfl)
theorem dX1_holds_36 : decode cX1_holds 36 = .ok (.iload_n 2, 1) := dk_28 (dk_at dksX1_holds_1 14 rfl rfl)
theorem dX1_holds_37 : decode cX1_holds 37 = .ok (.iload_n 1, 1) := dk_27 (dk_at dksX1_holds_1 15 rfl rfl)
theorem dX1_holds_38 : decode cX1_holds 38 = .ok (.invokevirtual 276, 3) := dk_182 1 20 (dk_at dksX1_holds_1 16 rfl rfl)
theorem dX1_holds_41 : decode cX1_holds 41 = .ok (.ifCond .eq 17, 3) := dk_153 0 17 (dk_at dksX1_holds_1 19 rfl rfl)
theorem dX1_holds_44 : decode cX1_holds 44 = .ok (.aload_n 0, 1) := dk_42 (dk_at dksX1_holds_1 22 rfl rfl)
theorem dX1_holds_45 : decode cX1_holds 45 = .ok (.iload 4, 2) := dk_21 4 (dk_at dksX1_holds_2 0 rfl rfl)
theorem dX1_holds_47 : decode cX1_holds 47 = .ok (.iload_n 1, 1) := dk_27 (dk_at dksX1_holds_2 2 rfl rfl)
theorem dX1_holds_48 : decode cX1_holds 48 = .ok (.invokevirtual 276, 3) := dk_182 1 20 (dk_at dksX1_holds_2 3 rfl rfl)
theorem dX1_holds_51 : decode cX1_holds 51 = .ok (.ifCond .eq 7, 3) := dk_153 0 7 (dk_at dksX1_holds_2 6 rfl rfl)
theorem dX1_holds_54 : decode cX1_holds 54 = .ok (.iconst 1, 1) := dk_4 (dk_at dksX1_holds_2 9 rfl rfl)
theorem dX1_holds_55 : decode cX1_holds 55 = .ok (.goto 4, 3) := dk_167 0 4 (dk_at dksX1_holds_2 10 rfl rfl)
theorem dX1_holds_58 : decode cX1_holds 58 = .ok (.iconst 0, 1) := dk_3 (dk_at dksX1_holds_2 13 rfl rfl)
theorem dX1_holds_59 : decode cX1_holds 59 = .ok (.invokestatic 228, 3) := dk_184 0 228 (dk_at dksX1_holds_2 14 rfl rfl)
theorem dX1_holds_62 : decode cX1_holds 62 = .ok (.aload_n 0, 1) := dk_42 (dk_at dksX1_holds_2 17 rfl rfl)
theorem dX1_holds_63 : decode cX1_holds 63 = .ok (.iconst (-1), 1) := dk_2 (dk_at dksX1_holds_2 18 rfl rfl)
theorem dX1_holds_64 : decode cX1_holds 64 = .ok (.invokevirtual 113, 3) := dk_182 0 113 (dk_at dksX1_holds_2 19 rfl rfl)
theorem dX1_holds_67 : decode cX1_holds 67 = .ok (.aload 6, 2) := dk_25 6 (dk_at dksX1_holds_2 22 rfl rfl)
theorem dX1_holds_69 : decode cX1_holds 69 = .ok (.invokevirtual 163, 3) := dk_182 0 163 (dk_at dksX1_holds_3 0 rfl rfl)
theorem dX1_holds_72 : decode cX1_holds 72 = .ok (.aaload, 1) := dk_50 (dk_at dksX1_holds_3 3 rfl rfl)
theorem dX1_holds_73 : decode cX1_holds 73 = .ok (.aload 7, 2) := dk_25 7 (dk_at dksX1_holds_3 4 rfl rfl)
theorem dX1_holds_75 : decode cX1_holds 75 = .ok (.invokevirtual 163, 3) := dk_182 0 163 (dk_at dksX1_holds_3 6 rfl rfl)
theorem dX1_holds_78 : decode cX1_holds 78 = .ok (.iaload, 1) := dk_46 (dk_at dksX1_holds_3 9 rfl rfl)
theorem dX1_holds_79 : decode cX1_holds 79 = .ok (.istore 8, 2) := dk_54 8 (dk_at dksX1_holds_3 10 rfl rfl)
theorem dX1_holds_81 : decode cX1_holds 81 = .ok (.iload 8, 2) := dk_21 8 (dk_at dksX1_holds_3 12 rfl rfl)
theorem dX1_holds_83 : decode cX1_holds 83 = .ok (.ldc 106, 2) := dk_18 106 (dk_at dksX1_holds_3 14 rfl rfl)
theorem dX1_holds_85 : decode cX1_holds 85 = .ok (.if_icmp .ge 7, 3) := dk_162 0 7 (dk_at dksX1_holds_3 16 rfl rfl)
theorem dX1_holds_88 : decode cX1_holds 88 = .ok (.iconst 1, 1) := dk_4 (dk_at dksX1_holds_3 19 rfl rfl)
theorem dX1_holds_89 : decode cX1_holds 89 = .ok (.goto 4, 3) := dk_167 0 4 (dk_at dksX1_holds_3 20 rfl rfl)
theorem dX1_holds_92 : decode cX1_holds 92 = .ok (.iconst 0, 1) := dk_3 (dk_at dksX1_holds_3 23 rfl rfl)
theorem dX1_holds_93 : decode cX1_holds 93 = .ok (.invokestatic 117, 3) := dk_184 0 117 (dk_at dksX1_holds_4 0 rfl rfl)
theorem dX1_holds_96 : decode cX1_holds 96 = .ok (.aload 6, 2) := dk_25 6 (dk_at dksX1_holds_4 3 rfl rfl)
theorem dX1_holds_98 : decode cX1_holds 98 = .ok (.invokevirtual 174, 3) := dk_182 0 174 (dk_at dksX1_holds_4 5 rfl rfl)
theorem dX1_holds_101 : decode cX1_holds 101 = .ok (.aload_n 0, 1) := dk_42 (dk_at dksX1_holds_4 8 rfl rfl)
theorem dX1_holds_102 : decode cX1_holds 102 = .ok (.iload_n 1, 1) := dk_27 (dk_at dksX1_holds_4 9 rfl rfl)
theorem dX1_holds_103 : decode cX1_holds 103 = .ok (.iload_n 2, 1) := dk_28 (dk_at dksX1_holds_4 10 rfl rfl)
theorem dX1_holds_104 : decode cX1_holds 104 = .ok (.iload_n 3, 1) := dk_29 (dk_at dksX1_holds_4 11 rfl rfl)
theorem dX1_holds_105 : decode cX1_holds 105 = .ok (.iconst 1, 1) := dk_4 (dk_at dksX1_holds_4 12 rfl rfl)
theorem dX1_holds_106 : decode cX1_holds 106 = .ok (.isub, 1) := dk_100 (dk_at dksX1_holds_4 13 rfl rfl)
theorem dX1_holds_107 : decode cX1_holds 107 = .ok (.invokevirtual 266, 3) := dk_182 1 10 (dk_at dksX1_holds_4 14 rfl rfl)
theorem dX1_holds_110 : decode cX1_holds 110 = .ok (.iadd, 1) := dk_96 (dk_at dksX1_holds_4 17 rfl rfl)
theorem dX1_holds_111 : decode cX1_holds 111 = .ok (.istore 9, 2) := dk_54 9 (dk_at dksX1_holds_4 18 rfl rfl)
theorem dX1_holds_113 : decode cX1_holds 113 = .ok (.aload 7, 2) := dk_25 7 (dk_at dksX1_holds_4 20 rfl rfl)
theorem dX1_holds_115 : decode cX1_holds 115 = .ok (.invokevirtual 160, 3) := dk_182 0 160 (dk_at dksX1_holds_5 0 rfl rfl)
theorem dX1_holds_118 : decode cX1_holds 118 = .ok (.aload_n 0, 1) := dk_42 (dk_at dksX1_holds_5 3 rfl rfl)
theorem dX1_holds_119 : decode cX1_holds 119 = .ok (.iload_n 1, 1) := dk_27 (dk_at dksX1_holds_5 4 rfl rfl)
theorem dX1_holds_120 : decode cX1_holds 120 = .ok (.iload 4, 2) := dk_21 4 (dk_at dksX1_holds_5 5 rfl rfl)
theorem dX1_holds_122 : decode cX1_holds 122 = .ok (.iload 5, 2) := dk_21 5 (dk_at dksX1_holds_5 7 rfl rfl)
theorem dX1_holds_124 : decode cX1_holds 124 = .ok (.invokevirtual 266, 3) := dk_182 1 10 (dk_at dksX1_holds_5 9 rfl rfl)
theorem dX1_holds_127 : decode cX1_holds 127 = .ok (.iadd, 1) := dk_96 (dk_at dksX1_holds_5 12 rfl rfl)
theorem dX1_holds_128 : decode cX1_holds 128 = .ok (.istore 10, 2) := dk_54 10 (dk_at dksX1_holds_5 13 rfl rfl)
theorem dX1_holds_130 : decode cX1_holds 130 = .ok (.iload 9, 2) := dk_21 9 (dk_at dksX1_holds_5 15 rfl rfl)
theorem dX1_holds_132 : decode cX1_holds 132 = .ok (.aload 6, 2) := dk_25 6 (dk_at dksX1_holds_5 17 rfl rfl)
theorem dX1_holds_134 : decode cX1_holds 134 = .ok (.invokevirtual 163, 3) := dk_182 0 163 (dk_at dksX1_holds_5 19 rfl rfl)
theorem dX1_holds_137 : decode cX1_holds 137 = .ok (.aload 7, 2) := dk_25 7 (dk_at dksX1_holds_5 22 rfl rfl)
theorem dX1_holds_139 : decode cX1_holds 139 = .ok (.invokevirtual 163, 3) := dk_182 0 163 (dk_at dksX1_holds_6 0 rfl rfl)
theorem dX1_holds_142 : decode cX1_holds 142 = .ok (.if_icmp .ne 16, 3) := dk_160 0 16 (dk_at dksX1_holds_6 3 rfl rfl)
theorem dX1_holds_145 : decode cX1_holds 145 = .ok (.aload_n 0, 1) := dk_42 (dk_at dksX1_holds_6 6 rfl rfl)
theorem dX1_holds_146 : decode cX1_holds 146 = .ok (.getfield 9, 3) := dk_180 0 9 (dk_at dksX1_holds_6 7 rfl rfl)
theorem dX1_holds_149 : decode cX1_holds 149 = .ok (.aload 6, 2) := dk_25 6 (dk_at dksX1_holds_6 10 rfl rfl)
theorem dX1_holds_151 : decode cX1_holds 151 = .ok (.invokevirtual 163, 3) := dk_182 0 163 (dk_at dksX1_holds_6 12 rfl rfl)
theorem dX1_holds_154 : decode cX1_holds 154 = .ok (.iaload, 1) := dk_46 (dk_at dksX1_holds_6 15 rfl rfl)
theorem dX1_holds_155 : decode cX1_holds 155 = .ok (.goto 5, 3) := dk_167 0 5 (dk_at dksX1_holds_6 16 rfl rfl)
theorem dX1_holds_158 : decode cX1_holds 158 = .ok (.iload 8, 2) := dk_21 8 (dk_at dksX1_holds_6 19 rfl rfl)
theorem dX1_holds_160 : decode cX1_holds 160 = .ok (.iadd, 1) := dk_96 (dk_at dksX1_holds_6 21 rfl rfl)
theorem dX1_holds_161 : decode cX1_holds 161 = .ok (.iload 10, 2) := dk_21 10 (dk_at dksX1_holds_6 22 rfl rfl)
theorem dX1_holds_163 : decode cX1_holds 163 = .ok (.if_icmp .gt 7, 3) := dk_163 0 7 (dk_at dksX1_holds_7 0 rfl rfl)
theorem dX1_holds_166 : decode cX1_holds 166 = .ok (.iconst 1, 1) := dk_4 (dk_at dksX1_holds_7 3 rfl rfl)
theorem dX1_holds_167 : decode cX1_holds 167 = .ok (.goto 4, 3) := dk_167 0 4 (dk_at dksX1_holds_7 4 rfl rfl)
theorem dX1_holds_170 : decode cX1_holds 170 = .ok (.iconst 0, 1) := dk_3 (dk_at dksX1_holds_7 7 rfl rfl)
theorem dX1_holds_171 : decode cX1_holds 171 = .ok (.ireturn, 1) := dk_172 (dk_at dksX1_holds_7 8 rfl rfl)
abbrev cX1_requireChange : ByteArray := prog_1_method_78_code
def yX1_requireChange : MethodName := ⟨RX1, "requireChange", "(IIII)V"⟩
def dkwX1_requireChange_1 : List UInt8 := [180, 0, 89, 182, 0, 71, 4, 100, 162, 0, 7, 4, 167, 0, 4, 3, 184, 0, 96, 177]
abbrev dktX1_requireChange_1 : List UInt8 := dkwX1_requireChange_1 ++ []
def dkwX1_requireChange_0 : List UInt8 := [27, 29, 159, 0, 35, 28, 158, 0, 31, 21, 4, 42, 180, 0, 25, 29, 182, 0, 79, 192, 0, 83]
abbrev dktX1_requireChange_0 : List UInt8 := dkwX1_requireChange_0 ++ dktX1_requireChange_1
theorem dksX1_requireChange_0 : cX1_requireChange.data.toList.drop 0 = dktX1_requireChange_0 := by decide +kernel
theorem dksX1_requireChange_1 : cX1_requireChange.data.toList.drop 22 = dktX1_requireChange_1 := dk_seg dksX1_requireChange_0 22 rfl rfl
theorem dX1_requireChange_0 : decode cX1_requireChange 0 = .ok (.iload_n 1, 1) := dk_27 (dk_at dksX1_requireChange_0 0 rfl rfl)
theorem dX1_requireChange_1 : decode cX1_requireChange 1 = .ok (.iload_n 3, 1) := dk_29 (dk_at dksX1_requireChange_0 1 rfl rfl)
theorem dX1_requireChange_2 : decode cX1_requireChange 2 = .ok (.if_icmp .eq 35, 3) := dk_159 0 35 (dk_at dksX1_requireChange_0 2 rfl rfl)
theorem dX1_requireChange_5 : decode cX1_requireChange 5 = .ok (.iload_n 2, 1) := dk_28 (dk_at dksX1_requireChange_0 5 rfl rfl)
theorem dX1_requireChange_6 : decode cX1_requireChange 6 = .ok (.ifCond .le 31, 3) := dk_158 0 31 (dk_at dksX1_requireChange_0 6 rfl rfl)
theorem dX1_requireChange_9 : decode cX1_requireChange 9 = .ok (.iload 4, 2) := dk_21 4 (dk_at dksX1_requireChange_0 9 rfl rfl)
theorem dX1_requireChange_11 : decode cX1_requireChange 11 = .ok (.aload_n 0, 1) := dk_42 (dk_at dksX1_requireChange_0 11 rfl rfl)
theorem dX1_requireChange_12 : decode cX1_requireChange 12 = .ok (.getfield 25, 3) := dk_180 0 25 (dk_at dksX1_requireChange_0 12 rfl rfl)
theorem dX1_requireChange_15 : decode cX1_requireChange 15 = .ok (.iload_n 3, 1) := dk_29 (dk_at dksX1_requireChange_0 15 rfl rfl)
theorem dX1_requireChange_16 : decode cX1_requireChange 16 = .ok (.invokevirtual 79, 3) := dk_182 0 79 (dk_at dksX1_requireChange_0 16 rfl rfl)
theorem dX1_requireChange_19 : decode cX1_requireChange 19 = .ok (.checkcast 83, 3) := dk_192 0 83 (dk_at dksX1_requireChange_0 19 rfl rfl)
theorem dX1_requireChange_22 : decode cX1_requireChange 22 = .ok (.getfield 89, 3) := dk_180 0 89 (dk_at dksX1_requireChange_1 0 rfl rfl)
theorem dX1_requireChange_25 : decode cX1_requireChange 25 = .ok (.invokevirtual 71, 3) := dk_182 0 71 (dk_at dksX1_requireChange_1 3 rfl rfl)
theorem dX1_requireChange_28 : decode cX1_requireChange 28 = .ok (.iconst 1, 1) := dk_4 (dk_at dksX1_requireChange_1 6 rfl rfl)
theorem dX1_requireChange_29 : decode cX1_requireChange 29 = .ok (.isub, 1) := dk_100 (dk_at dksX1_requireChange_1 7 rfl rfl)
theorem dX1_requireChange_30 : decode cX1_requireChange 30 = .ok (.if_icmp .ge 7, 3) := dk_162 0 7 (dk_at dksX1_requireChange_1 8 rfl rfl)
theorem dX1_requireChange_33 : decode cX1_requireChange 33 = .ok (.iconst 1, 1) := dk_4 (dk_at dksX1_requireChange_1 11 rfl rfl)
theorem dX1_requireChange_34 : decode cX1_requireChange 34 = .ok (.goto 4, 3) := dk_167 0 4 (dk_at dksX1_requireChange_1 12 rfl rfl)
theorem dX1_requireChange_37 : decode cX1_requireChange 37 = .ok (.iconst 0, 1) := dk_3 (dk_at dksX1_requireChange_1 15 rfl rfl)
theorem dX1_requireChange_38 : decode cX1_requireChange 38 = .ok (.invokestatic 96, 3) := dk_184 0 96 (dk_at dksX1_requireChange_1 16 rfl rfl)
theorem dX1_requireChange_41 : decode cX1_requireChange 41 = .ok (.return_, 1) := dk_177 (dk_at dksX1_requireChange_1 19 rfl rfl)
abbrev cX1_wish : ByteArray := prog_1_method_80_code
def yX1_wish : MethodName := ⟨RX1, "wish", "(IIIII)I"⟩
def dkwX1_wish_4 : List UInt8 := [183, 2, 31, 182, 0, 121, 87, 42, 180, 0, 35, 182, 0, 71, 4, 100, 172]
abbrev dktX1_wish_4 : List UInt8 := dkwX1_wish_4 ++ []
def dkwX1_wish_3 : List UInt8 := [167, 0, 4, 3, 184, 0, 99, 42, 180, 0, 35, 187, 2, 29, 89, 27, 28, 29, 21, 4, 21, 5]
abbrev dktX1_wish_3 : List UInt8 := dkwX1_wish_3 ++ dktX1_wish_4
def dkwX1_wish_2 : List UInt8 := [160, 0, 7, 4, 167, 0, 4, 3, 184, 0, 228, 42, 180, 0, 35, 182, 0, 71, 16, 6, 162, 0, 7, 4]
abbrev dktX1_wish_2 : List UInt8 := dkwX1_wish_2 ++ dktX1_wish_3
def dkwX1_wish_1 : List UInt8 := [182, 2, 26, 21, 5, 4, 16, 99, 184, 0, 64, 184, 0, 96, 25, 6, 182, 0, 163, 25, 7, 182, 0, 163]
abbrev dktX1_wish_1 : List UInt8 := dkwX1_wish_1 ++ dktX1_wish_2
def dkwX1_wish_0 : List UInt8 := [42, 27, 28, 182, 0, 170, 58, 6, 42, 29, 21, 4, 182, 0, 170, 58, 7, 42, 27, 28, 29, 21, 4]
abbrev dktX1_wish_0 : List UInt8 := dkwX1_wish_0 ++ dktX1_wish_1
theorem dksX1_wish_0 : cX1_wish.data.toList.drop 0 = dktX1_wish_0 := by decide +kernel
theorem dksX1_wish_1 : cX1_wish.data.toList.drop 23 = dktX1_wish_1 := dk_seg dksX1_wish_0 23 rfl rfl
theorem dksX1_wish_2 : cX1_wish.data.toList.drop 47 = dktX1_wish_2 := dk_seg dksX1_wish_1 24 rfl rfl
theorem dksX1_wish_3 : cX1_wish.data.toList.drop 71 = dktX1_wish_3 := dk_seg dksX1_wish_2 24 rfl rfl
theorem dksX1_wish_4 : cX1_wish.data.toList.drop 93 = dktX1_wish_4 := dk_seg dksX1_wish_3 22 rfl rfl
theorem dX1_wish_0 : decode cX1_wish 0 = .ok (.aload_n 0, 1) := dk_42 (dk_at dksX1_wish_0 0 rfl rfl)
theorem dX1_wish_1 : decode cX1_wish 1 = .ok (.iload_n 1, 1) := dk_27 (dk_at dksX1_wish_0 1 rfl rfl)
theorem dX1_wish_2 : decode cX1_wish 2 = .ok (.iload_n 2, 1) := dk_28 (dk_at dksX1_wish_0 2 rfl rfl)
theorem dX1_wish_3 : decode cX1_wish 3 = .ok (.invokevirtual 170, 3) := dk_182 0 170 (dk_at dksX1_wish_0 3 rfl rfl)
theorem dX1_wish_6 : decode cX1_wish 6 = .ok (.astore 6, 2) := dk_58 6 (dk_at dksX1_wish_0 6 rfl rfl)
theorem dX1_wish_8 : decode cX1_wish 8 = .ok (.aload_n 0, 1) := dk_42 (dk_at dksX1_wish_0 8 rfl rfl)
theorem dX1_wish_9 : decode cX1_wish 9 = .ok (.iload_n 3, 1) := dk_29 (dk_at dksX1_wish_0 9 rfl rfl)
theorem dX1_wish_10 : decode cX1_wish 10 = .ok (.iload 4, 2) := dk_21 4 (dk_at dksX1_wish_0 10 rfl rfl)
theorem dX1_wish_12 : decode cX1_wish 12 = .ok (.invokevirtual 170, 3) := dk_182 0 170 (dk_at dksX1_wish_0 12 rfl rfl)
theorem dX1_wish_15 : decode cX1_wish 15 = .ok (.astore 7, 2) := dk_58 7 (dk_at dksX1_wish_0 15 rfl rfl)
theorem dX1_wish_17 : decode cX1_wish 17 = .ok (.aload_n 0, 1) := dk_42 (dk_at dksX1_wish_0 17 rfl rfl)
theorem dX1_wish_18 : decode cX1_wish 18 = .ok (.iload_n 1, 1) := dk_27 (dk_at dksX1_wish_0 18 rfl rfl)
theorem dX1_wish_19 : decode cX1_wish 19 = .ok (.iload_n 2, 1) := dk_28 (dk_at dksX1_wish_0 19 rfl rfl)
theorem dX1_wish_20 : decode cX1_wish 20 = .ok (.iload_n 3, 1) := dk_29 (dk_at dksX1_wish_0 20 rfl rfl)
theorem dX1_wish_21 : decode cX1_wish 21 = .ok (.iload 4, 2) := dk_21 4 (dk_at dksX1_wish_0 21 rfl rfl)
theorem dX1_wish_23 : decode cX1_wish 23 = .ok (.invokevirtual 538, 3) := dk_182 2 26 (dk_at dksX1_wish_1 0 rfl rfl)
theorem dX1_wish_26 : decode cX1_wish 26 = .ok (.iload 5, 2) := dk_21 5 (dk_at dksX1_wish_1 3 rfl rfl)
theorem dX1_wish_28 : decode cX1_wish 28 = .ok (.iconst 1, 1) := dk_4 (dk_at dksX1_wish_1 5 rfl rfl)
theorem dX1_wish_29 : decode cX1_wish 29 = .ok (.bipush 99, 2) := dk_16 99 (dk_at dksX1_wish_1 6 rfl rfl)
theorem dX1_wish_31 : decode cX1_wish 31 = .ok (.invokestatic 64, 3) := dk_184 0 64 (dk_at dksX1_wish_1 8 rfl rfl)
theorem dX1_wish_34 : decode cX1_wish 34 = .ok (.invokestatic 96, 3) := dk_184 0 96 (dk_at dksX1_wish_1 11 rfl rfl)
theorem dX1_wish_37 : decode cX1_wish 37 = .ok (.aload 6, 2) := dk_25 6 (dk_at dksX1_wish_1 14 rfl rfl)
theorem dX1_wish_39 : decode cX1_wish 39 = .ok (.invokevirtual 163, 3) := dk_182 0 163 (dk_at dksX1_wish_1 16 rfl rfl)
theorem dX1_wish_42 : decode cX1_wish 42 = .ok (.aload 7, 2) := dk_25 7 (dk_at dksX1_wish_1 19 rfl rfl)
theorem dX1_wish_44 : decode cX1_wish 44 = .ok (.invokevirtual 163, 3) := dk_182 0 163 (dk_at dksX1_wish_1 21 rfl rfl)
theorem dX1_wish_47 : decode cX1_wish 47 = .ok (.if_icmp .ne 7, 3) := dk_160 0 7 (dk_at dksX1_wish_2 0 rfl rfl)
theorem dX1_wish_50 : decode cX1_wish 50 = .ok (.iconst 1, 1) := dk_4 (dk_at dksX1_wish_2 3 rfl rfl)
theorem dX1_wish_51 : decode cX1_wish 51 = .ok (.goto 4, 3) := dk_167 0 4 (dk_at dksX1_wish_2 4 rfl rfl)
theorem dX1_wish_54 : decode cX1_wish 54 = .ok (.iconst 0, 1) := dk_3 (dk_at dksX1_wish_2 7 rfl rfl)
theorem dX1_wish_55 : decode cX1_wish 55 = .ok (.invokestatic 228, 3) := dk_184 0 228 (dk_at dksX1_wish_2 8 rfl rfl)
theorem dX1_wish_58 : decode cX1_wish 58 = .ok (.aload_n 0, 1) := dk_42 (dk_at dksX1_wish_2 11 rfl rfl)
theorem dX1_wish_59 : decode cX1_wish 59 = .ok (.getfield 35, 3) := dk_180 0 35 (dk_at dksX1_wish_2 12 rfl rfl)
theorem dX1_wish_62 : decode cX1_wish 62 = .ok (.invokevirtual 71, 3) := dk_182 0 71 (dk_at dksX1_wish_2 15 rfl rfl)
theorem dX1_wish_65 : decode cX1_wish 65 = .ok (.bipush 6, 2) := dk_16 6 (dk_at dksX1_wish_2 18 rfl rfl)
theorem dX1_wish_67 : decode cX1_wish 67 = .ok (.if_icmp .ge 7, 3) := dk_162 0 7 (dk_at dksX1_wish_2 20 rfl rfl)
theorem dX1_wish_70 : decode cX1_wish 70 = .ok (.iconst 1, 1) := dk_4 (dk_at dksX1_wish_2 23 rfl rfl)
theorem dX1_wish_71 : decode cX1_wish 71 = .ok (.goto 4, 3) := dk_167 0 4 (dk_at dksX1_wish_3 0 rfl rfl)
theorem dX1_wish_74 : decode cX1_wish 74 = .ok (.iconst 0, 1) := dk_3 (dk_at dksX1_wish_3 3 rfl rfl)
theorem dX1_wish_75 : decode cX1_wish 75 = .ok (.invokestatic 99, 3) := dk_184 0 99 (dk_at dksX1_wish_3 4 rfl rfl)
theorem dX1_wish_78 : decode cX1_wish 78 = .ok (.aload_n 0, 1) := dk_42 (dk_at dksX1_wish_3 7 rfl rfl)
theorem dX1_wish_79 : decode cX1_wish 79 = .ok (.getfield 35, 3) := dk_180 0 35 (dk_at dksX1_wish_3 8 rfl rfl)
theorem dX1_wish_82 : decode cX1_wish 82 = .ok (.new 541, 3) := dk_187 2 29 (dk_at dksX1_wish_3 11 rfl rfl)
theorem dX1_wish_85 : decode cX1_wish 85 = .ok (.dup, 1) := dk_89 (dk_at dksX1_wish_3 14 rfl rfl)
theorem dX1_wish_86 : decode cX1_wish 86 = .ok (.iload_n 1, 1) := dk_27 (dk_at dksX1_wish_3 15 rfl rfl)
theorem dX1_wish_87 : decode cX1_wish 87 = .ok (.iload_n 2, 1) := dk_28 (dk_at dksX1_wish_3 16 rfl rfl)
theorem dX1_wish_88 : decode cX1_wish 88 = .ok (.iload_n 3, 1) := dk_29 (dk_at dksX1_wish_3 17 rfl rfl)
theorem dX1_wish_89 : decode cX1_wish 89 = .ok (.iload 4, 2) := dk_21 4 (dk_at dksX1_wish_3 18 rfl rfl)
theorem dX1_wish_91 : decode cX1_wish 91 = .ok (.iload 5, 2) := dk_21 5 (dk_at dksX1_wish_3 20 rfl rfl)
theorem dX1_wish_93 : decode cX1_wish 93 = .ok (.invokespecial 543, 3) := dk_183 2 31 (dk_at dksX1_wish_4 0 rfl rfl)
theorem dX1_wish_96 : decode cX1_wish 96 = .ok (.invokevirtual 121, 3) := dk_182 0 121 (dk_at dksX1_wish_4 3 rfl rfl)
theorem dX1_wish_99 : decode cX1_wish 99 = .ok (.pop, 1) := dk_87 (dk_at dksX1_wish_4 6 rfl rfl)
theorem dX1_wish_100 : decode cX1_wish 100 = .ok (.aload_n 0, 1) := dk_42 (dk_at dksX1_wish_4 7 rfl rfl)
theorem dX1_wish_101 : decode cX1_wish 101 = .ok (.getfield 35, 3) := dk_180 0 35 (dk_at dksX1_wish_4 8 rfl rfl)
theorem dX1_wish_104 : decode cX1_wish 104 = .ok (.invokevirtual 71, 3) := dk_182 0 71 (dk_at dksX1_wish_4 11 rfl rfl)
theorem dX1_wish_107 : decode cX1_wish 107 = .ok (.iconst 1, 1) := dk_4 (dk_at dksX1_wish_4 14 rfl rfl)
theorem dX1_wish_108 : decode cX1_wish 108 = .ok (.isub, 1) := dk_100 (dk_at dksX1_wish_4 15 rfl rfl)
theorem dX1_wish_109 : decode cX1_wish 109 = .ok (.ireturn, 1) := dk_172 (dk_at dksX1_wish_4 16 rfl rfl)
abbrev cX1_waitCost : ByteArray := prog_1_method_89_code
def yX1_waitCost : MethodName := ⟨RX1, "waitCost", "(II)I"⟩
def dkwX1_waitCost_1 : List UInt8 := [153, 0, 7, 4, 167, 0, 4, 3, 184, 0, 96, 42, 27, 28, 182, 2, 69, 184, 1, 117, 172]
abbrev dktX1_waitCost_1 : List UInt8 := dkwX1_waitCost_1 ++ []
def dkwX1_waitCost_0 : List UInt8 := [27, 184, 0, 129, 153, 0, 26, 28, 3, 4, 42, 180, 0, 35, 182, 0, 71, 120, 4, 100, 184, 0, 64]
abbrev dktX1_waitCost_0 : List UInt8 := dkwX1_waitCost_0 ++ dktX1_waitCost_1
theorem dksX1_waitCost_0 : cX1_waitCost.data.toList.drop 0 = dktX1_waitCost_0 := by decide +kernel
theorem dksX1_waitCost_1 : cX1_waitCost.data.toList.drop 23 = dktX1_waitCost_1 := dk_seg dksX1_waitCost_0 23 rfl rfl
theorem dX1_waitCost_0 : decode cX1_waitCost 0 = .ok (.iload_n 1, 1) := dk_27 (dk_at dksX1_waitCost_0 0 rfl rfl)
theorem dX1_waitCost_1 : decode cX1_waitCost 1 = .ok (.invokestatic 129, 3) := dk_184 0 129 (dk_at dksX1_waitCost_0 1 rfl rfl)
theorem dX1_waitCost_4 : decode cX1_waitCost 4 = .ok (.ifCond .eq 26, 3) := dk_153 0 26 (dk_at dksX1_waitCost_0 4 rfl rfl)
theorem dX1_waitCost_7 : decode cX1_waitCost 7 = .ok (.iload_n 2, 1) := dk_28 (dk_at dksX1_waitCost_0 7 rfl rfl)
theorem dX1_waitCost_8 : decode cX1_waitCost 8 = .ok (.iconst 0, 1) := dk_3 (dk_at dksX1_waitCost_0 8 rfl rfl)
theorem dX1_waitCost_9 : decode cX1_waitCost 9 = .ok (.iconst 1, 1) := dk_4 (dk_at dksX1_waitCost_0 9 rfl rfl)
theorem dX1_waitCost_10 : decode cX1_waitCost 10 = .ok (.aload_n 0, 1) := dk_42 (dk_at dksX1_waitCost_0 10 rfl rfl)
theorem dX1_waitCost_11 : decode cX1_waitCost 11 = .ok (.getfield 35, 3) := dk_180 0 35 (dk_at dksX1_waitCost_0 11 rfl rfl)
theorem dX1_waitCost_14 : decode cX1_waitCost 14 = .ok (.invokevirtual 71, 3) := dk_182 0 71 (dk_at dksX1_waitCost_0 14 rfl rfl)
theorem dX1_waitCost_17 : decode cX1_waitCost 17 = .ok (.ishl, 1) := dk_120 (dk_at dksX1_waitCost_0 17 rfl rfl)
theorem dX1_waitCost_18 : decode cX1_waitCost 18 = .ok (.iconst 1, 1) := dk_4 (dk_at dksX1_waitCost_0 18 rfl rfl)
theorem dX1_waitCost_19 : decode cX1_waitCost 19 = .ok (.isub, 1) := dk_100 (dk_at dksX1_waitCost_0 19 rfl rfl)
theorem dX1_waitCost_20 : decode cX1_waitCost 20 = .ok (.invokestatic 64, 3) := dk_184 0 64 (dk_at dksX1_waitCost_0 20 rfl rfl)
theorem dX1_waitCost_23 : decode cX1_waitCost 23 = .ok (.ifCond .eq 7, 3) := dk_153 0 7 (dk_at dksX1_waitCost_1 0 rfl rfl)
theorem dX1_waitCost_26 : decode cX1_waitCost 26 = .ok (.iconst 1, 1) := dk_4 (dk_at dksX1_waitCost_1 3 rfl rfl)
theorem dX1_waitCost_27 : decode cX1_waitCost 27 = .ok (.goto 4, 3) := dk_167 0 4 (dk_at dksX1_waitCost_1 4 rfl rfl)
theorem dX1_waitCost_30 : decode cX1_waitCost 30 = .ok (.iconst 0, 1) := dk_3 (dk_at dksX1_waitCost_1 7 rfl rfl)
theorem dX1_waitCost_31 : decode cX1_waitCost 31 = .ok (.invokestatic 96, 3) := dk_184 0 96 (dk_at dksX1_waitCost_1 8 rfl rfl)
theorem dX1_waitCost_34 : decode cX1_waitCost 34 = .ok (.aload_n 0, 1) := dk_42 (dk_at dksX1_waitCost_1 11 rfl rfl)
theorem dX1_waitCost_35 : decode cX1_waitCost 35 = .ok (.iload_n 1, 1) := dk_27 (dk_at dksX1_waitCost_1 12 rfl rfl)
theorem dX1_waitCost_36 : decode cX1_waitCost 36 = .ok (.iload_n 2, 1) := dk_28 (dk_at dksX1_waitCost_1 13 rfl rfl)
theorem dX1_waitCost_37 : decode cX1_waitCost 37 = .ok (.invokevirtual 581, 3) := dk_182 2 69 (dk_at dksX1_waitCost_1 14 rfl rfl)
theorem dX1_waitCost_40 : decode cX1_waitCost 40 = .ok (.invokestatic 373, 3) := dk_184 1 117 (dk_at dksX1_waitCost_1 17 rfl rfl)
theorem dX1_waitCost_43 : decode cX1_waitCost 43 = .ok (.ireturn, 1) := dk_172 (dk_at dksX1_waitCost_1 20 rfl rfl)
abbrev cX1_costOf : ByteArray := prog_1_method_88_code
def yX1_costOf : MethodName := ⟨RX1, "costOf", "(II)I"⟩
def dkwX1_costOf_8 : List UInt8 := [104, 167, 0, 4, 3, 96, 54, 4, 132, 5, 1, 167, 255, 149, 21, 4, 172]
abbrev dktX1_costOf_8 : List UInt8 := dkwX1_costOf_8 ++ []
def dkwX1_costOf_7 : List UInt8 := [164, 0, 7, 4, 167, 0, 4, 3, 54, 7, 21, 4, 21, 7, 153, 0, 14, 16, 60, 25, 6, 182, 2, 66]
abbrev dktX1_costOf_7 : List UInt8 := dkwX1_costOf_7 ++ dktX1_costOf_8
def dkwX1_costOf_6 : List UInt8 := [45, 182, 2, 50, 42, 25, 6, 182, 2, 54, 45, 25, 6, 182, 2, 36, 50, 25, 6, 182, 2, 40, 46, 96]
abbrev dktX1_costOf_6 : List UInt8 := dkwX1_costOf_6 ++ dktX1_costOf_7
def dkwX1_costOf_5 : List UInt8 := [58, 6, 28, 21, 5, 184, 2, 43, 154, 0, 47, 42, 25, 6, 27, 182, 2, 46, 153, 0, 37, 42, 25, 6]
abbrev dktX1_costOf_5 : List UInt8 := dkwX1_costOf_5 ++ dktX1_costOf_6
def dkwX1_costOf_4 : List UInt8 := [21, 5, 42, 180, 0, 35, 182, 0, 71, 162, 0, 101, 42, 180, 0, 35, 21, 5, 182, 0, 79, 192, 2, 29]
abbrev dktX1_costOf_4 : List UInt8 := dkwX1_costOf_4 ++ dktX1_costOf_5
def dkwX1_costOf_3 : List UInt8 := [21, 5, 50, 21, 6, 5, 100, 46, 167, 0, 4, 3, 96, 54, 4, 132, 5, 1, 167, 255, 187, 3, 54, 5]
abbrev dktX1_costOf_3 : List UInt8 := dkwX1_costOf_3 ++ dktX1_costOf_4
def dkwX1_costOf_2 : List UInt8 := [182, 0, 71, 54, 6, 21, 4, 42, 21, 5, 27, 182, 1, 20, 153, 0, 21, 21, 6, 4, 164, 0, 15, 45]
abbrev dktX1_costOf_2 : List UInt8 := dkwX1_costOf_2 ++ dktX1_costOf_3
def dkwX1_costOf_1 : List UInt8 := [180, 0, 25, 182, 0, 71, 162, 0, 63, 42, 180, 0, 25, 21, 5, 182, 0, 79, 192, 0, 83, 180, 0, 89]
abbrev dktX1_costOf_1 : List UInt8 := dkwX1_costOf_1 ++ dktX1_costOf_2
def dkwX1_costOf_0 : List UInt8 := [42, 27, 28, 182, 2, 62, 78, 45, 199, 0, 6, 18, 106, 172, 3, 54, 4, 3, 54, 5, 21, 5, 42]
abbrev dktX1_costOf_0 : List UInt8 := dkwX1_costOf_0 ++ dktX1_costOf_1
theorem dksX1_costOf_0 : cX1_costOf.data.toList.drop 0 = dktX1_costOf_0 := by decide +kernel
theorem dksX1_costOf_1 : cX1_costOf.data.toList.drop 23 = dktX1_costOf_1 := dk_seg dksX1_costOf_0 23 rfl rfl
theorem dksX1_costOf_2 : cX1_costOf.data.toList.drop 47 = dktX1_costOf_2 := dk_seg dksX1_costOf_1 24 rfl rfl
theorem dksX1_costOf_3 : cX1_costOf.data.toList.drop 71 = dktX1_costOf_3 := dk_seg dksX1_costOf_2 24 rfl rfl
theorem dksX1_costOf_4 : cX1_costOf.data.toList.drop 95 = dktX1_costOf_4 := dk_seg dksX1_costOf_3 24 rfl rfl
theorem dksX1_costOf_5 : cX1_costOf.data.toList.drop 119 = dktX1_costOf_5 := dk_seg dksX1_costOf_4 24 rfl rfl
theorem dksX1_costOf_6 : cX1_costOf.data.toList.drop 143 = dktX1_costOf_6 := dk_seg dksX1_costOf_5 24 rfl rfl
theorem dksX1_costOf_7 : cX1_costOf.data.toList.drop 167 = dktX1_costOf_7 := dk_seg dksX1_costOf_6 24 rfl rfl
theorem dksX1_costOf_8 : cX1_costOf.data.toList.drop 191 = dktX1_costOf_8 := dk_seg dksX1_costOf_7 24 rfl rfl
theorem dX1_costOf_0 : decode cX1_costOf 0 = .ok (.aload_n 0, 1) := dk_42 (dk_at dksX1_costOf_0 0 rfl rfl)
theorem dX1_costOf_1 : decode cX1_costOf 1 = .ok (.iload_n 1, 1) := dk_27 (dk_at dksX1_costOf_0 1 rfl rfl)
theorem dX1_costOf_2 : decode cX1_costOf 2 = .ok (.iload_n 2, 1) := dk_28 (dk_at dksX1_costOf_0 2 rfl rfl)
theorem dX1_costOf_3 : decode cX1_costOf 3 = .ok (.invokevirtual 574, 3) := dk_182 2 62 (dk_at dksX1_costOf_0 3 rfl rfl)
theorem dX1_costOf_6 : decode cX1_costOf 6 = .ok (.astore_n 3, 1) := dk_78 (dk_at dksX1_costOf_0 6 rfl rfl)
theorem dX1_costOf_7 : decode cX1_costOf 7 = .ok (.aload_n 3, 1) := dk_45 (dk_at dksX1_costOf_0 7 rfl rfl)
theorem dX1_costOf_8 : decode cX1_costOf 8 = .ok (.ifnonnull 6, 3) := dk_199 0 6 (dk_at dksX1_costOf_0 8 rfl rfl)
theorem dX1_costOf_11 : decode cX1_costOf 11 = .ok (.ldc 106, 2) := dk_18 106 (dk_at dksX1_costOf_0 11 rfl rfl)
theorem dX1_costOf_13 : decode cX1_costOf 13 = .ok (.ireturn, 1) := dk_172 (dk_at dksX1_costOf_0 13 rfl rfl)
theorem dX1_costOf_14 : decode cX1_costOf 14 = .ok (.iconst 0, 1) := dk_3 (dk_at dksX1_costOf_0 14 rfl rfl)
theorem dX1_costOf_15 : decode cX1_costOf 15 = .ok (.istore 4, 2) := dk_54 4 (dk_at dksX1_costOf_0 15 rfl rfl)
theorem dX1_costOf_17 : decode cX1_costOf 17 = .ok (.iconst 0, 1) := dk_3 (dk_at dksX1_costOf_0 17 rfl rfl)
theorem dX1_costOf_18 : decode cX1_costOf 18 = .ok (.istore 5, 2) := dk_54 5 (dk_at dksX1_costOf_0 18 rfl rfl)
theorem dX1_costOf_20 : decode cX1_costOf 20 = .ok (.iload 5, 2) := dk_21 5 (dk_at dksX1_costOf_0 20 rfl rfl)
theorem dX1_costOf_22 : decode cX1_costOf 22 = .ok (.aload_n 0, 1) := dk_42 (dk_at dksX1_costOf_0 22 rfl rfl)
theorem dX1_costOf_23 : decode cX1_costOf 23 = .ok (.getfield 25, 3) := dk_180 0 25 (dk_at dksX1_costOf_1 0 rfl rfl)
theorem dX1_costOf_26 : decode cX1_costOf 26 = .ok (.invokevirtual 71, 3) := dk_182 0 71 (dk_at dksX1_costOf_1 3 rfl rfl)
theorem dX1_costOf_29 : decode cX1_costOf 29 = .ok (.if_icmp .ge 63, 3) := dk_162 0 63 (dk_at dksX1_costOf_1 6 rfl rfl)
theorem dX1_costOf_32 : decode cX1_costOf 32 = .ok (.aload_n 0, 1) := dk_42 (dk_at dksX1_costOf_1 9 rfl rfl)
theorem dX1_costOf_33 : decode cX1_costOf 33 = .ok (.getfield 25, 3) := dk_180 0 25 (dk_at dksX1_costOf_1 10 rfl rfl)
theorem dX1_costOf_36 : decode cX1_costOf 36 = .ok (.iload 5, 2) := dk_21 5 (dk_at dksX1_costOf_1 13 rfl rfl)
theorem dX1_costOf_38 : decode cX1_costOf 38 = .ok (.invokevirtual 79, 3) := dk_182 0 79 (dk_at dksX1_costOf_1 15 rfl rfl)
theorem dX1_costOf_41 : decode cX1_costOf 41 = .ok (.checkcast 83, 3) := dk_192 0 83 (dk_at dksX1_costOf_1 18 rfl rfl)
theorem dX1_costOf_44 : decode cX1_costOf 44 = .ok (.getfield 89, 3) := dk_180 0 89 (dk_at dksX1_costOf_1 21 rfl rfl)
theorem dX1_costOf_47 : decode cX1_costOf 47 = .ok (.invokevirtual 71, 3) := dk_182 0 71 (dk_at dksX1_costOf_2 0 rfl rfl)
theorem dX1_costOf_50 : decode cX1_costOf 50 = .ok (.istore 6, 2) := dk_54 6 (dk_at dksX1_costOf_2 3 rfl rfl)
theorem dX1_costOf_52 : decode cX1_costOf 52 = .ok (.iload 4, 2) := dk_21 4 (dk_at dksX1_costOf_2 5 rfl rfl)
theorem dX1_costOf_54 : decode cX1_costOf 54 = .ok (.aload_n 0, 1) := dk_42 (dk_at dksX1_costOf_2 7 rfl rfl)
theorem dX1_costOf_55 : decode cX1_costOf 55 = .ok (.iload 5, 2) := dk_21 5 (dk_at dksX1_costOf_2 8 rfl rfl)
theorem dX1_costOf_57 : decode cX1_costOf 57 = .ok (.iload_n 1, 1) := dk_27 (dk_at dksX1_costOf_2 10 rfl rfl)
theorem dX1_costOf_58 : decode cX1_costOf 58 = .ok (.invokevirtual 276, 3) := dk_182 1 20 (dk_at dksX1_costOf_2 11 rfl rfl)
theorem dX1_costOf_61 : decode cX1_costOf 61 = .ok (.ifCond .eq 21, 3) := dk_153 0 21 (dk_at dksX1_costOf_2 14 rfl rfl)
theorem dX1_costOf_64 : decode cX1_costOf 64 = .ok (.iload 6, 2) := dk_21 6 (dk_at dksX1_costOf_2 17 rfl rfl)
theorem dX1_costOf_66 : decode cX1_costOf 66 = .ok (.iconst 1, 1) := dk_4 (dk_at dksX1_costOf_2 19 rfl rfl)
theorem dX1_costOf_67 : decode cX1_costOf 67 = .ok (.if_icmp .le 15, 3) := dk_164 0 15 (dk_at dksX1_costOf_2 20 rfl rfl)
theorem dX1_costOf_70 : decode cX1_costOf 70 = .ok (.aload_n 3, 1) := dk_45 (dk_at dksX1_costOf_2 23 rfl rfl)
theorem dX1_costOf_71 : decode cX1_costOf 71 = .ok (.iload 5, 2) := dk_21 5 (dk_at dksX1_costOf_3 0 rfl rfl)
theorem dX1_costOf_73 : decode cX1_costOf 73 = .ok (.aaload, 1) := dk_50 (dk_at dksX1_costOf_3 2 rfl rfl)
theorem dX1_costOf_74 : decode cX1_costOf 74 = .ok (.iload 6, 2) := dk_21 6 (dk_at dksX1_costOf_3 3 rfl rfl)
theorem dX1_costOf_76 : decode cX1_costOf 76 = .ok (.iconst 2, 1) := dk_5 (dk_at dksX1_costOf_3 5 rfl rfl)
theorem dX1_costOf_77 : decode cX1_costOf 77 = .ok (.isub, 1) := dk_100 (dk_at dksX1_costOf_3 6 rfl rfl)
theorem dX1_costOf_78 : decode cX1_costOf 78 = .ok (.iaload, 1) := dk_46 (dk_at dksX1_costOf_3 7 rfl rfl)
theorem dX1_costOf_79 : decode cX1_costOf 79 = .ok (.goto 4, 3) := dk_167 0 4 (dk_at dksX1_costOf_3 8 rfl rfl)
theorem dX1_costOf_82 : decode cX1_costOf 82 = .ok (.iconst 0, 1) := dk_3 (dk_at dksX1_costOf_3 11 rfl rfl)
theorem dX1_costOf_83 : decode cX1_costOf 83 = .ok (.iadd, 1) := dk_96 (dk_at dksX1_costOf_3 12 rfl rfl)
theorem dX1_costOf_84 : decode cX1_costOf 84 = .ok (.istore 4, 2) := dk_54 4 (dk_at dksX1_costOf_3 13 rfl rfl)
theorem dX1_costOf_86 : decode cX1_costOf 86 = .ok (.iinc 5 1, 3) := dk_132 5 1 (dk_at dksX1_costOf_3 15 rfl rfl)
theorem dX1_costOf_89 : decode cX1_costOf 89 = .ok (.goto (-69), 3) := dk_167 255 187 (dk_at dksX1_costOf_3 18 rfl rfl)
theorem dX1_costOf_92 : decode cX1_costOf 92 = .ok (.iconst 0, 1) := dk_3 (dk_at dksX1_costOf_3 21 rfl rfl)
theorem dX1_costOf_93 : decode cX1_costOf 93 = .ok (.istore 5, 2) := dk_54 5 (dk_at dksX1_costOf_3 22 rfl rfl)
theorem dX1_costOf_95 : decode cX1_costOf 95 = .ok (.iload 5, 2) := dk_21 5 (dk_at dksX1_costOf_4 0 rfl rfl)
theorem dX1_costOf_97 : decode cX1_costOf 97 = .ok (.aload_n 0, 1) := dk_42 (dk_at dksX1_costOf_4 2 rfl rfl)
theorem dX1_costOf_98 : decode cX1_costOf 98 = .ok (.getfield 35, 3) := dk_180 0 35 (dk_at dksX1_costOf_4 3 rfl rfl)
theorem dX1_costOf_101 : decode cX1_costOf 101 = .ok (.invokevirtual 71, 3) := dk_182 0 71 (dk_at dksX1_costOf_4 6 rfl rfl)
theorem dX1_costOf_104 : decode cX1_costOf 104 = .ok (.if_icmp .ge 101, 3) := dk_162 0 101 (dk_at dksX1_costOf_4 9 rfl rfl)
theorem dX1_costOf_107 : decode cX1_costOf 107 = .ok (.aload_n 0, 1) := dk_42 (dk_at dksX1_costOf_4 12 rfl rfl)
theorem dX1_costOf_108 : decode cX1_costOf 108 = .ok (.getfield 35, 3) := dk_180 0 35 (dk_at dksX1_costOf_4 13 rfl rfl)
theorem dX1_costOf_111 : decode cX1_costOf 111 = .ok (.iload 5, 2) := dk_21 5 (dk_at dksX1_costOf_4 16 rfl rfl)
theorem dX1_costOf_113 : decode cX1_costOf 113 = .ok (.invokevirtual 79, 3) := dk_182 0 79 (dk_at dksX1_costOf_4 18 rfl rfl)
theorem dX1_costOf_116 : decode cX1_costOf 116 = .ok (.checkcast 541, 3) := dk_192 2 29 (dk_at dksX1_costOf_4 21 rfl rfl)
theorem dX1_costOf_119 : decode cX1_costOf 119 = .ok (.astore 6, 2) := dk_58 6 (dk_at dksX1_costOf_5 0 rfl rfl)
theorem dX1_costOf_121 : decode cX1_costOf 121 = .ok (.iload_n 2, 1) := dk_28 (dk_at dksX1_costOf_5 2 rfl rfl)
theorem dX1_costOf_122 : decode cX1_costOf 122 = .ok (.iload 5, 2) := dk_21 5 (dk_at dksX1_costOf_5 3 rfl rfl)
theorem dX1_costOf_124 : decode cX1_costOf 124 = .ok (.invokestatic 555, 3) := dk_184 2 43 (dk_at dksX1_costOf_5 5 rfl rfl)
theorem dX1_costOf_127 : decode cX1_costOf 127 = .ok (.ifCond .ne 47, 3) := dk_154 0 47 (dk_at dksX1_costOf_5 8 rfl rfl)
theorem dX1_costOf_130 : decode cX1_costOf 130 = .ok (.aload_n 0, 1) := dk_42 (dk_at dksX1_costOf_5 11 rfl rfl)
theorem dX1_costOf_131 : decode cX1_costOf 131 = .ok (.aload 6, 2) := dk_25 6 (dk_at dksX1_costOf_5 12 rfl rfl)
theorem dX1_costOf_133 : decode cX1_costOf 133 = .ok (.iload_n 1, 1) := dk_27 (dk_at dksX1_costOf_5 14 rfl rfl)
theorem dX1_costOf_134 : decode cX1_costOf 134 = .ok (.invokevirtual 558, 3) := dk_182 2 46 (dk_at dksX1_costOf_5 15 rfl rfl)
theorem dX1_costOf_137 : decode cX1_costOf 137 = .ok (.ifCond .eq 37, 3) := dk_153 0 37 (dk_at dksX1_costOf_5 18 rfl rfl)
theorem dX1_costOf_140 : decode cX1_costOf 140 = .ok (.aload_n 0, 1) := dk_42 (dk_at dksX1_costOf_5 21 rfl rfl)
theorem dX1_costOf_141 : decode cX1_costOf 141 = .ok (.aload 6, 2) := dk_25 6 (dk_at dksX1_costOf_5 22 rfl rfl)
theorem dX1_costOf_143 : decode cX1_costOf 143 = .ok (.aload_n 3, 1) := dk_45 (dk_at dksX1_costOf_6 0 rfl rfl)
theorem dX1_costOf_144 : decode cX1_costOf 144 = .ok (.invokevirtual 562, 3) := dk_182 2 50 (dk_at dksX1_costOf_6 1 rfl rfl)
theorem dX1_costOf_147 : decode cX1_costOf 147 = .ok (.aload_n 0, 1) := dk_42 (dk_at dksX1_costOf_6 4 rfl rfl)
theorem dX1_costOf_148 : decode cX1_costOf 148 = .ok (.aload 6, 2) := dk_25 6 (dk_at dksX1_costOf_6 5 rfl rfl)
theorem dX1_costOf_150 : decode cX1_costOf 150 = .ok (.invokevirtual 566, 3) := dk_182 2 54 (dk_at dksX1_costOf_6 7 rfl rfl)
theorem dX1_costOf_153 : decode cX1_costOf 153 = .ok (.aload_n 3, 1) := dk_45 (dk_at dksX1_costOf_6 10 rfl rfl)
theorem dX1_costOf_154 : decode cX1_costOf 154 = .ok (.aload 6, 2) := dk_25 6 (dk_at dksX1_costOf_6 11 rfl rfl)
theorem dX1_costOf_156 : decode cX1_costOf 156 = .ok (.invokevirtual 548, 3) := dk_182 2 36 (dk_at dksX1_costOf_6 13 rfl rfl)
theorem dX1_costOf_159 : decode cX1_costOf 159 = .ok (.aaload, 1) := dk_50 (dk_at dksX1_costOf_6 16 rfl rfl)
theorem dX1_costOf_160 : decode cX1_costOf 160 = .ok (.aload 6, 2) := dk_25 6 (dk_at dksX1_costOf_6 17 rfl rfl)
theorem dX1_costOf_162 : decode cX1_costOf 162 = .ok (.invokevirtual 552, 3) := dk_182 2 40 (dk_at dksX1_costOf_6 19 rfl rfl)
theorem dX1_costOf_165 : decode cX1_costOf 165 = .ok (.iaload, 1) := dk_46 (dk_at dksX1_costOf_6 22 rfl rfl)
theorem dX1_costOf_166 : decode cX1_costOf 166 = .ok (.iadd, 1) := dk_96 (dk_at dksX1_costOf_6 23 rfl rfl)
theorem dX1_costOf_167 : decode cX1_costOf 167 = .ok (.if_icmp .le 7, 3) := dk_164 0 7 (dk_at dksX1_costOf_7 0 rfl rfl)
theorem dX1_costOf_170 : decode cX1_costOf 170 = .ok (.iconst 1, 1) := dk_4 (dk_at dksX1_costOf_7 3 rfl rfl)
theorem dX1_costOf_171 : decode cX1_costOf 171 = .ok (.goto 4, 3) := dk_167 0 4 (dk_at dksX1_costOf_7 4 rfl rfl)
theorem dX1_costOf_174 : decode cX1_costOf 174 = .ok (.iconst 0, 1) := dk_3 (dk_at dksX1_costOf_7 7 rfl rfl)
theorem dX1_costOf_175 : decode cX1_costOf 175 = .ok (.istore 7, 2) := dk_54 7 (dk_at dksX1_costOf_7 8 rfl rfl)
theorem dX1_costOf_177 : decode cX1_costOf 177 = .ok (.iload 4, 2) := dk_21 4 (dk_at dksX1_costOf_7 10 rfl rfl)
theorem dX1_costOf_179 : decode cX1_costOf 179 = .ok (.iload 7, 2) := dk_21 7 (dk_at dksX1_costOf_7 12 rfl rfl)
theorem dX1_costOf_181 : decode cX1_costOf 181 = .ok (.ifCond .eq 14, 3) := dk_153 0 14 (dk_at dksX1_costOf_7 14 rfl rfl)
theorem dX1_costOf_184 : decode cX1_costOf 184 = .ok (.bipush 60, 2) := dk_16 60 (dk_at dksX1_costOf_7 17 rfl rfl)
theorem dX1_costOf_186 : decode cX1_costOf 186 = .ok (.aload 6, 2) := dk_25 6 (dk_at dksX1_costOf_7 19 rfl rfl)
theorem dX1_costOf_188 : decode cX1_costOf 188 = .ok (.invokevirtual 578, 3) := dk_182 2 66 (dk_at dksX1_costOf_7 21 rfl rfl)
theorem dX1_costOf_191 : decode cX1_costOf 191 = .ok (.imul, 1) := dk_104 (dk_at dksX1_costOf_8 0 rfl rfl)
theorem dX1_costOf_192 : decode cX1_costOf 192 = .ok (.goto 4, 3) := dk_167 0 4 (dk_at dksX1_costOf_8 1 rfl rfl)
theorem dX1_costOf_195 : decode cX1_costOf 195 = .ok (.iconst 0, 1) := dk_3 (dk_at dksX1_costOf_8 4 rfl rfl)
theorem dX1_costOf_196 : decode cX1_costOf 196 = .ok (.iadd, 1) := dk_96 (dk_at dksX1_costOf_8 5 rfl rfl)
theorem dX1_costOf_197 : decode cX1_costOf 197 = .ok (.istore 4, 2) := dk_54 4 (dk_at dksX1_costOf_8 6 rfl rfl)
theorem dX1_costOf_199 : decode cX1_costOf 199 = .ok (.iinc 5 1, 3) := dk_132 5 1 (dk_at dksX1_costOf_8 8 rfl rfl)
theorem dX1_costOf_202 : decode cX1_costOf 202 = .ok (.goto (-107), 3) := dk_167 255 149 (dk_at dksX1_costOf_8 11 rfl rfl)
theorem dX1_costOf_205 : decode cX1_costOf 205 = .ok (.iload 4, 2) := dk_21 4 (dk_at dksX1_costOf_8 14 rfl rfl)
theorem dX1_costOf_207 : decode cX1_costOf 207 = .ok (.ireturn, 1) := dk_172 (dk_at dksX1_costOf_8 16 rfl rfl)
abbrev cX1_settled : ByteArray := prog_1_method_87_code
def yX1_settled : MethodName := ⟨RX1, "settled", "(II)[[I"⟩
def dkwX1_settled_8 : List UInt8 := [132, 6, 1, 167, 255, 189, 132, 5, 1, 167, 255, 168, 167, 255, 154, 45, 176]
abbrev dktX1_settled_8 : List UInt8 := dkwX1_settled_8 ++ []
def dkwX1_settled_7 : List UInt8 := [21, 6, 182, 2, 58, 128, 54, 4, 45, 21, 5, 50, 21, 6, 46, 17, 0, 240, 164, 0, 5, 1, 176]
abbrev dktX1_settled_7 : List UInt8 := dkwX1_settled_7 ++ dktX1_settled_8
def dkwX1_settled_6 : List UInt8 := [182, 0, 79, 192, 0, 83, 180, 0, 89, 182, 0, 71, 162, 0, 40, 21, 4, 42, 45, 27, 28, 21, 5]
abbrev dktX1_settled_6 : List UInt8 := dkwX1_settled_6 ++ dktX1_settled_7
def dkwX1_settled_5 : List UInt8 := [162, 0, 82, 3, 54, 6, 42, 21, 5, 27, 182, 1, 20, 153, 0, 63, 21, 6, 42, 180, 0, 25, 21, 5]
abbrev dktX1_settled_5 : List UInt8 := dkwX1_settled_5 ++ dktX1_settled_6
def dkwX1_settled_4 : List UInt8 := [54, 4, 21, 4, 153, 0, 103, 3, 54, 4, 3, 54, 5, 21, 5, 42, 180, 0, 25, 182, 0, 71]
abbrev dktX1_settled_4 : List UInt8 := dkwX1_settled_4 ++ dktX1_settled_5
def dkwX1_settled_3 : List UInt8 := [21, 5, 182, 1, 10, 167, 0, 4, 3, 79, 132, 5, 1, 167, 255, 200, 132, 4, 1, 167, 255, 179, 4]
abbrev dktX1_settled_3 : List UInt8 := dkwX1_settled_3 ++ dktX1_settled_4
def dkwX1_settled_2 : List UInt8 := [162, 0, 39, 45, 21, 4, 50, 21, 5, 42, 21, 4, 27, 182, 1, 20, 153, 0, 15, 42, 27, 21, 4]
abbrev dktX1_settled_2 : List UInt8 := dkwX1_settled_2 ++ dktX1_settled_3
def dkwX1_settled_1 : List UInt8 := [3, 54, 5, 21, 5, 42, 180, 0, 25, 21, 4, 182, 0, 79, 192, 0, 83, 180, 0, 89, 182, 0, 71]
abbrev dktX1_settled_1 : List UInt8 := dkwX1_settled_1 ++ dktX1_settled_2
def dkwX1_settled_0 : List UInt8 := [16, 24, 16, 8, 197, 0, 13, 2, 78, 3, 54, 4, 21, 4, 42, 180, 0, 25, 182, 0, 71, 162, 0, 71]
abbrev dktX1_settled_0 : List UInt8 := dkwX1_settled_0 ++ dktX1_settled_1
theorem dksX1_settled_0 : cX1_settled.data.toList.drop 0 = dktX1_settled_0 := by decide +kernel
theorem dksX1_settled_1 : cX1_settled.data.toList.drop 24 = dktX1_settled_1 := dk_seg dksX1_settled_0 24 rfl rfl
theorem dksX1_settled_2 : cX1_settled.data.toList.drop 47 = dktX1_settled_2 := dk_seg dksX1_settled_1 23 rfl rfl
theorem dksX1_settled_3 : cX1_settled.data.toList.drop 70 = dktX1_settled_3 := dk_seg dksX1_settled_2 23 rfl rfl
theorem dksX1_settled_4 : cX1_settled.data.toList.drop 93 = dktX1_settled_4 := dk_seg dksX1_settled_3 23 rfl rfl
theorem dksX1_settled_5 : cX1_settled.data.toList.drop 115 = dktX1_settled_5 := dk_seg dksX1_settled_4 22 rfl rfl
theorem dksX1_settled_6 : cX1_settled.data.toList.drop 139 = dktX1_settled_6 := dk_seg dksX1_settled_5 24 rfl rfl
theorem dksX1_settled_7 : cX1_settled.data.toList.drop 162 = dktX1_settled_7 := dk_seg dksX1_settled_6 23 rfl rfl
theorem dksX1_settled_8 : cX1_settled.data.toList.drop 185 = dktX1_settled_8 := dk_seg dksX1_settled_7 23 rfl rfl
theorem dX1_settled_0 : decode cX1_settled 0 = .ok (.bipush 24, 2) := dk_16 24 (dk_at dksX1_settled_0 0 rfl rfl)
theorem dX1_settled_2 : decode cX1_settled 2 = .ok (.bipush 8, 2) := dk_16 8 (dk_at dksX1_settled_0 2 rfl rfl)
theorem dX1_settled_4 : decode cX1_settled 4 = .ok (.multianewarray 13 2, 4) := by decide +kernel
theorem dX1_settled_8 : decode cX1_settled 8 = .ok (.astore_n 3, 1) := dk_78 (dk_at dksX1_settled_0 8 rfl rfl)
theorem dX1_settled_9 : decode cX1_settled 9 = .ok (.iconst 0, 1) := dk_3 (dk_at dksX1_settled_0 9 rfl rfl)
theorem dX1_settled_10 : decode cX1_settled 10 = .ok (.istore 4, 2) := dk_54 4 (dk_at dksX1_settled_0 10 rfl rfl)
theorem dX1_settled_12 : decode cX1_settled 12 = .ok (.iload 4, 2) := dk_21 4 (dk_at dksX1_settled_0 12 rfl rfl)
theorem dX1_settled_14 : decode cX1_settled 14 = .ok (.aload_n 0, 1) := dk_42 (dk_at dksX1_settled_0 14 rfl rfl)
theorem dX1_settled_15 : decode cX1_settled 15 = .ok (.getfield 25, 3) := dk_180 0 25 (dk_at dksX1_settled_0 15 rfl rfl)
theorem dX1_settled_18 : decode cX1_settled 18 = .ok (.invokevirtual 71, 3) := dk_182 0 71 (dk_at dksX1_settled_0 18 rfl rfl)
theorem dX1_settled_21 : decode cX1_settled 21 = .ok (.if_icmp .ge 71, 3) := dk_162 0 71 (dk_at dksX1_settled_0 21 rfl rfl)
theorem dX1_settled_24 : decode cX1_settled 24 = .ok (.iconst 0, 1) := dk_3 (dk_at dksX1_settled_1 0 rfl rfl)
theorem dX1_settled_25 : decode cX1_settled 25 = .ok (.istore 5, 2) := dk_54 5 (dk_at dksX1_settled_1 1 rfl rfl)
theorem dX1_settled_27 : decode cX1_settled 27 = .ok (.iload 5, 2) := dk_21 5 (dk_at dksX1_settled_1 3 rfl rfl)
theorem dX1_settled_29 : decode cX1_settled 29 = .ok (.aload_n 0, 1) := dk_42 (dk_at dksX1_settled_1 5 rfl rfl)
theorem dX1_settled_30 : decode cX1_settled 30 = .ok (.getfield 25, 3) := dk_180 0 25 (dk_at dksX1_settled_1 6 rfl rfl)
theorem dX1_settled_33 : decode cX1_settled 33 = .ok (.iload 4, 2) := dk_21 4 (dk_at dksX1_settled_1 9 rfl rfl)
theorem dX1_settled_35 : decode cX1_settled 35 = .ok (.invokevirtual 79, 3) := dk_182 0 79 (dk_at dksX1_settled_1 11 rfl rfl)
theorem dX1_settled_38 : decode cX1_settled 38 = .ok (.checkcast 83, 3) := dk_192 0 83 (dk_at dksX1_settled_1 14 rfl rfl)
theorem dX1_settled_41 : decode cX1_settled 41 = .ok (.getfield 89, 3) := dk_180 0 89 (dk_at dksX1_settled_1 17 rfl rfl)
theorem dX1_settled_44 : decode cX1_settled 44 = .ok (.invokevirtual 71, 3) := dk_182 0 71 (dk_at dksX1_settled_1 20 rfl rfl)
theorem dX1_settled_47 : decode cX1_settled 47 = .ok (.if_icmp .ge 39, 3) := dk_162 0 39 (dk_at dksX1_settled_2 0 rfl rfl)
theorem dX1_settled_50 : decode cX1_settled 50 = .ok (.aload_n 3, 1) := dk_45 (dk_at dksX1_settled_2 3 rfl rfl)
theorem dX1_settled_51 : decode cX1_settled 51 = .ok (.iload 4, 2) := dk_21 4 (dk_at dksX1_settled_2 4 rfl rfl)
theorem dX1_settled_53 : decode cX1_settled 53 = .ok (.aaload, 1) := dk_50 (dk_at dksX1_settled_2 6 rfl rfl)
theorem dX1_settled_54 : decode cX1_settled 54 = .ok (.iload 5, 2) := dk_21 5 (dk_at dksX1_settled_2 7 rfl rfl)
theorem dX1_settled_56 : decode cX1_settled 56 = .ok (.aload_n 0, 1) := dk_42 (dk_at dksX1_settled_2 9 rfl rfl)
theorem dX1_settled_57 : decode cX1_settled 57 = .ok (.iload 4, 2) := dk_21 4 (dk_at dksX1_settled_2 10 rfl rfl)
theorem dX1_settled_59 : decode cX1_settled 59 = .ok (.iload_n 1, 1) := dk_27 (dk_at dksX1_settled_2 12 rfl rfl)
theorem dX1_settled_60 : decode cX1_settled 60 = .ok (.invokevirtual 276, 3) := dk_182 1 20 (dk_at dksX1_settled_2 13 rfl rfl)
theorem dX1_settled_63 : decode cX1_settled 63 = .ok (.ifCond .eq 15, 3) := dk_153 0 15 (dk_at dksX1_settled_2 16 rfl rfl)
theorem dX1_settled_66 : decode cX1_settled 66 = .ok (.aload_n 0, 1) := dk_42 (dk_at dksX1_settled_2 19 rfl rfl)
theorem dX1_settled_67 : decode cX1_settled 67 = .ok (.iload_n 1, 1) := dk_27 (dk_at dksX1_settled_2 20 rfl rfl)
theorem dX1_settled_68 : decode cX1_settled 68 = .ok (.iload 4, 2) := dk_21 4 (dk_at dksX1_settled_2 21 rfl rfl)
theorem dX1_settled_70 : decode cX1_settled 70 = .ok (.iload 5, 2) := dk_21 5 (dk_at dksX1_settled_3 0 rfl rfl)
theorem dX1_settled_72 : decode cX1_settled 72 = .ok (.invokevirtual 266, 3) := dk_182 1 10 (dk_at dksX1_settled_3 2 rfl rfl)
theorem dX1_settled_75 : decode cX1_settled 75 = .ok (.goto 4, 3) := dk_167 0 4 (dk_at dksX1_settled_3 5 rfl rfl)
theorem dX1_settled_78 : decode cX1_settled 78 = .ok (.iconst 0, 1) := dk_3 (dk_at dksX1_settled_3 8 rfl rfl)
theorem dX1_settled_79 : decode cX1_settled 79 = .ok (.iastore, 1) := dk_79 (dk_at dksX1_settled_3 9 rfl rfl)
theorem dX1_settled_80 : decode cX1_settled 80 = .ok (.iinc 5 1, 3) := dk_132 5 1 (dk_at dksX1_settled_3 10 rfl rfl)
theorem dX1_settled_83 : decode cX1_settled 83 = .ok (.goto (-56), 3) := dk_167 255 200 (dk_at dksX1_settled_3 13 rfl rfl)
theorem dX1_settled_86 : decode cX1_settled 86 = .ok (.iinc 4 1, 3) := dk_132 4 1 (dk_at dksX1_settled_3 16 rfl rfl)
theorem dX1_settled_89 : decode cX1_settled 89 = .ok (.goto (-77), 3) := dk_167 255 179 (dk_at dksX1_settled_3 19 rfl rfl)
theorem dX1_settled_92 : decode cX1_settled 92 = .ok (.iconst 1, 1) := dk_4 (dk_at dksX1_settled_3 22 rfl rfl)
theorem dX1_settled_93 : decode cX1_settled 93 = .ok (.istore 4, 2) := dk_54 4 (dk_at dksX1_settled_4 0 rfl rfl)
theorem dX1_settled_95 : decode cX1_settled 95 = .ok (.iload 4, 2) := dk_21 4 (dk_at dksX1_settled_4 2 rfl rfl)
theorem dX1_settled_97 : decode cX1_settled 97 = .ok (.ifCond .eq 103, 3) := dk_153 0 103 (dk_at dksX1_settled_4 4 rfl rfl)
theorem dX1_settled_100 : decode cX1_settled 100 = .ok (.iconst 0, 1) := dk_3 (dk_at dksX1_settled_4 7 rfl rfl)
theorem dX1_settled_101 : decode cX1_settled 101 = .ok (.istore 4, 2) := dk_54 4 (dk_at dksX1_settled_4 8 rfl rfl)
theorem dX1_settled_103 : decode cX1_settled 103 = .ok (.iconst 0, 1) := dk_3 (dk_at dksX1_settled_4 10 rfl rfl)
theorem dX1_settled_104 : decode cX1_settled 104 = .ok (.istore 5, 2) := dk_54 5 (dk_at dksX1_settled_4 11 rfl rfl)
theorem dX1_settled_106 : decode cX1_settled 106 = .ok (.iload 5, 2) := dk_21 5 (dk_at dksX1_settled_4 13 rfl rfl)
theorem dX1_settled_108 : decode cX1_settled 108 = .ok (.aload_n 0, 1) := dk_42 (dk_at dksX1_settled_4 15 rfl rfl)
theorem dX1_settled_109 : decode cX1_settled 109 = .ok (.getfield 25, 3) := dk_180 0 25 (dk_at dksX1_settled_4 16 rfl rfl)
theorem dX1_settled_112 : decode cX1_settled 112 = .ok (.invokevirtual 71, 3) := dk_182 0 71 (dk_at dksX1_settled_4 19 rfl rfl)
theorem dX1_settled_115 : decode cX1_settled 115 = .ok (.if_icmp .ge 82, 3) := dk_162 0 82 (dk_at dksX1_settled_5 0 rfl rfl)
theorem dX1_settled_118 : decode cX1_settled 118 = .ok (.iconst 0, 1) := dk_3 (dk_at dksX1_settled_5 3 rfl rfl)
theorem dX1_settled_119 : decode cX1_settled 119 = .ok (.istore 6, 2) := dk_54 6 (dk_at dksX1_settled_5 4 rfl rfl)
theorem dX1_settled_121 : decode cX1_settled 121 = .ok (.aload_n 0, 1) := dk_42 (dk_at dksX1_settled_5 6 rfl rfl)
theorem dX1_settled_122 : decode cX1_settled 122 = .ok (.iload 5, 2) := dk_21 5 (dk_at dksX1_settled_5 7 rfl rfl)
theorem dX1_settled_124 : decode cX1_settled 124 = .ok (.iload_n 1, 1) := dk_27 (dk_at dksX1_settled_5 9 rfl rfl)
theorem dX1_settled_125 : decode cX1_settled 125 = .ok (.invokevirtual 276, 3) := dk_182 1 20 (dk_at dksX1_settled_5 10 rfl rfl)
theorem dX1_settled_128 : decode cX1_settled 128 = .ok (.ifCond .eq 63, 3) := dk_153 0 63 (dk_at dksX1_settled_5 13 rfl rfl)
theorem dX1_settled_131 : decode cX1_settled 131 = .ok (.iload 6, 2) := dk_21 6 (dk_at dksX1_settled_5 16 rfl rfl)
theorem dX1_settled_133 : decode cX1_settled 133 = .ok (.aload_n 0, 1) := dk_42 (dk_at dksX1_settled_5 18 rfl rfl)
theorem dX1_settled_134 : decode cX1_settled 134 = .ok (.getfield 25, 3) := dk_180 0 25 (dk_at dksX1_settled_5 19 rfl rfl)
theorem dX1_settled_137 : decode cX1_settled 137 = .ok (.iload 5, 2) := dk_21 5 (dk_at dksX1_settled_5 22 rfl rfl)
theorem dX1_settled_139 : decode cX1_settled 139 = .ok (.invokevirtual 79, 3) := dk_182 0 79 (dk_at dksX1_settled_6 0 rfl rfl)
theorem dX1_settled_142 : decode cX1_settled 142 = .ok (.checkcast 83, 3) := dk_192 0 83 (dk_at dksX1_settled_6 3 rfl rfl)
theorem dX1_settled_145 : decode cX1_settled 145 = .ok (.getfield 89, 3) := dk_180 0 89 (dk_at dksX1_settled_6 6 rfl rfl)
theorem dX1_settled_148 : decode cX1_settled 148 = .ok (.invokevirtual 71, 3) := dk_182 0 71 (dk_at dksX1_settled_6 9 rfl rfl)
theorem dX1_settled_151 : decode cX1_settled 151 = .ok (.if_icmp .ge 40, 3) := dk_162 0 40 (dk_at dksX1_settled_6 12 rfl rfl)
theorem dX1_settled_154 : decode cX1_settled 154 = .ok (.iload 4, 2) := dk_21 4 (dk_at dksX1_settled_6 15 rfl rfl)
theorem dX1_settled_156 : decode cX1_settled 156 = .ok (.aload_n 0, 1) := dk_42 (dk_at dksX1_settled_6 17 rfl rfl)
theorem dX1_settled_157 : decode cX1_settled 157 = .ok (.aload_n 3, 1) := dk_45 (dk_at dksX1_settled_6 18 rfl rfl)
theorem dX1_settled_158 : decode cX1_settled 158 = .ok (.iload_n 1, 1) := dk_27 (dk_at dksX1_settled_6 19 rfl rfl)
theorem dX1_settled_159 : decode cX1_settled 159 = .ok (.iload_n 2, 1) := dk_28 (dk_at dksX1_settled_6 20 rfl rfl)
theorem dX1_settled_160 : decode cX1_settled 160 = .ok (.iload 5, 2) := dk_21 5 (dk_at dksX1_settled_6 21 rfl rfl)
theorem dX1_settled_162 : decode cX1_settled 162 = .ok (.iload 6, 2) := dk_21 6 (dk_at dksX1_settled_7 0 rfl rfl)
theorem dX1_settled_164 : decode cX1_settled 164 = .ok (.invokevirtual 570, 3) := dk_182 2 58 (dk_at dksX1_settled_7 2 rfl rfl)
theorem dX1_settled_167 : decode cX1_settled 167 = .ok (.ior, 1) := dk_128 (dk_at dksX1_settled_7 5 rfl rfl)
theorem dX1_settled_168 : decode cX1_settled 168 = .ok (.istore 4, 2) := dk_54 4 (dk_at dksX1_settled_7 6 rfl rfl)
theorem dX1_settled_170 : decode cX1_settled 170 = .ok (.aload_n 3, 1) := dk_45 (dk_at dksX1_settled_7 8 rfl rfl)
theorem dX1_settled_171 : decode cX1_settled 171 = .ok (.iload 5, 2) := dk_21 5 (dk_at dksX1_settled_7 9 rfl rfl)
theorem dX1_settled_173 : decode cX1_settled 173 = .ok (.aaload, 1) := dk_50 (dk_at dksX1_settled_7 11 rfl rfl)
theorem dX1_settled_174 : decode cX1_settled 174 = .ok (.iload 6, 2) := dk_21 6 (dk_at dksX1_settled_7 12 rfl rfl)
theorem dX1_settled_176 : decode cX1_settled 176 = .ok (.iaload, 1) := dk_46 (dk_at dksX1_settled_7 14 rfl rfl)
theorem dX1_settled_177 : decode cX1_settled 177 = .ok (.sipush 240, 3) := dk_17 0 240 (dk_at dksX1_settled_7 15 rfl rfl)
theorem dX1_settled_180 : decode cX1_settled 180 = .ok (.if_icmp .le 5, 3) := dk_164 0 5 (dk_at dksX1_settled_7 18 rfl rfl)
theorem dX1_settled_183 : decode cX1_settled 183 = .ok (.aconst_null, 1) := dk_1 (dk_at dksX1_settled_7 21 rfl rfl)
theorem dX1_settled_184 : decode cX1_settled 184 = .ok (.areturn, 1) := dk_176 (dk_at dksX1_settled_7 22 rfl rfl)
theorem dX1_settled_185 : decode cX1_settled 185 = .ok (.iinc 6 1, 3) := dk_132 6 1 (dk_at dksX1_settled_8 0 rfl rfl)
theorem dX1_settled_188 : decode cX1_settled 188 = .ok (.goto (-67), 3) := dk_167 255 189 (dk_at dksX1_settled_8 3 rfl rfl)
theorem dX1_settled_191 : decode cX1_settled 191 = .ok (.iinc 5 1, 3) := dk_132 5 1 (dk_at dksX1_settled_8 6 rfl rfl)
theorem dX1_settled_194 : decode cX1_settled 194 = .ok (.goto (-88), 3) := dk_167 255 168 (dk_at dksX1_settled_8 9 rfl rfl)
theorem dX1_settled_197 : decode cX1_settled 197 = .ok (.goto (-102), 3) := dk_167 255 154 (dk_at dksX1_settled_8 12 rfl rfl)
theorem dX1_settled_200 : decode cX1_settled 200 = .ok (.aload_n 3, 1) := dk_45 (dk_at dksX1_settled_8 15 rfl rfl)
theorem dX1_settled_201 : decode cX1_settled 201 = .ok (.areturn, 1) := dk_176 (dk_at dksX1_settled_8 16 rfl rfl)
abbrev cX1_grows : ByteArray := prog_1_method_86_code
def yX1_grows : MethodName := ⟨RX1, "grows", "([[IIIII)Z"⟩
def dkwX1_grows_7 : List UInt8 := [79, 21, 7, 172]
abbrev dktX1_grows_7 : List UInt8 := dkwX1_grows_7 ++ []
def dkwX1_grows_6 : List UInt8 := [21, 4, 50, 21, 5, 46, 164, 0, 7, 4, 167, 0, 4, 3, 54, 7, 43, 21, 4, 50, 21, 5, 21, 6]
abbrev dktX1_grows_6 : List UInt8 := dkwX1_grows_6 ++ dktX1_grows_7
def dkwX1_grows_5 : List UInt8 := [182, 2, 50, 42, 25, 8, 182, 2, 54, 100, 184, 1, 176, 54, 6, 132, 7, 1, 167, 255, 155, 21, 6, 43]
abbrev dktX1_grows_5 : List UInt8 := dkwX1_grows_5 ++ dktX1_grows_6
def dkwX1_grows_4 : List UInt8 := [21, 7, 184, 2, 43, 153, 0, 34, 42, 25, 8, 28, 182, 2, 46, 153, 0, 24, 21, 6, 42, 25, 8, 43]
abbrev dktX1_grows_4 : List UInt8 := dkwX1_grows_4 ++ dktX1_grows_5
def dkwX1_grows_3 : List UInt8 := [25, 8, 182, 2, 40, 21, 5, 160, 0, 7, 4, 167, 0, 4, 3, 54, 9, 21, 9, 153, 0, 43, 29]
abbrev dktX1_grows_3 : List UInt8 := dkwX1_grows_3 ++ dktX1_grows_4
def dkwX1_grows_2 : List UInt8 := [180, 0, 35, 21, 7, 182, 0, 79, 192, 2, 29, 58, 8, 25, 8, 182, 2, 36, 21, 4, 160, 0, 17]
abbrev dktX1_grows_2 : List UInt8 := dkwX1_grows_2 ++ dktX1_grows_3
def dkwX1_grows_1 : List UInt8 := [3, 184, 1, 176, 54, 6, 3, 54, 7, 21, 7, 42, 180, 0, 35, 182, 0, 71, 162, 0, 95, 42]
abbrev dktX1_grows_1 : List UInt8 := dkwX1_grows_1 ++ dktX1_grows_2
def dkwX1_grows_0 : List UInt8 := [43, 21, 4, 50, 21, 5, 46, 21, 5, 158, 0, 15, 43, 21, 4, 50, 21, 5, 4, 100, 46, 167, 0, 4]
abbrev dktX1_grows_0 : List UInt8 := dkwX1_grows_0 ++ dktX1_grows_1
theorem dksX1_grows_0 : cX1_grows.data.toList.drop 0 = dktX1_grows_0 := by decide +kernel
theorem dksX1_grows_1 : cX1_grows.data.toList.drop 24 = dktX1_grows_1 := dk_seg dksX1_grows_0 24 rfl rfl
theorem dksX1_grows_2 : cX1_grows.data.toList.drop 46 = dktX1_grows_2 := dk_seg dksX1_grows_1 22 rfl rfl
theorem dksX1_grows_3 : cX1_grows.data.toList.drop 69 = dktX1_grows_3 := dk_seg dksX1_grows_2 23 rfl rfl
theorem dksX1_grows_4 : cX1_grows.data.toList.drop 92 = dktX1_grows_4 := dk_seg dksX1_grows_3 23 rfl rfl
theorem dksX1_grows_5 : cX1_grows.data.toList.drop 116 = dktX1_grows_5 := dk_seg dksX1_grows_4 24 rfl rfl
theorem dksX1_grows_6 : cX1_grows.data.toList.drop 140 = dktX1_grows_6 := dk_seg dksX1_grows_5 24 rfl rfl
theorem dksX1_grows_7 : cX1_grows.data.toList.drop 164 = dktX1_grows_7 := dk_seg dksX1_grows_6 24 rfl rfl
theorem dX1_grows_0 : decode cX1_grows 0 = .ok (.aload_n 1, 1) := dk_43 (dk_at dksX1_grows_0 0 rfl rfl)
theorem dX1_grows_1 : decode cX1_grows 1 = .ok (.iload 4, 2) := dk_21 4 (dk_at dksX1_grows_0 1 rfl rfl)
theorem dX1_grows_3 : decode cX1_grows 3 = .ok (.aaload, 1) := dk_50 (dk_at dksX1_grows_0 3 rfl rfl)
theorem dX1_grows_4 : decode cX1_grows 4 = .ok (.iload 5, 2) := dk_21 5 (dk_at dksX1_grows_0 4 rfl rfl)
theorem dX1_grows_6 : decode cX1_grows 6 = .ok (.iaload, 1) := dk_46 (dk_at dksX1_grows_0 6 rfl rfl)
theorem dX1_grows_7 : decode cX1_grows 7 = .ok (.iload 5, 2) := dk_21 5 (dk_at dksX1_grows_0 7 rfl rfl)
theorem dX1_grows_9 : decode cX1_grows 9 = .ok (.ifCond .le 15, 3) := dk_158 0 15 (dk_at dksX1_grows_0 9 rfl rfl)
theorem dX1_grows_12 : decode cX1_grows 12 = .ok (.aload_n 1, 1) := dk_43 (dk_at dksX1_grows_0 12 rfl rfl)
theorem dX1_grows_13 : decode cX1_grows 13 = .ok (.iload 4, 2) := dk_21 4 (dk_at dksX1_grows_0 13 rfl rfl)
theorem dX1_grows_15 : decode cX1_grows 15 = .ok (.aaload, 1) := dk_50 (dk_at dksX1_grows_0 15 rfl rfl)
theorem dX1_grows_16 : decode cX1_grows 16 = .ok (.iload 5, 2) := dk_21 5 (dk_at dksX1_grows_0 16 rfl rfl)
theorem dX1_grows_18 : decode cX1_grows 18 = .ok (.iconst 1, 1) := dk_4 (dk_at dksX1_grows_0 18 rfl rfl)
theorem dX1_grows_19 : decode cX1_grows 19 = .ok (.isub, 1) := dk_100 (dk_at dksX1_grows_0 19 rfl rfl)
theorem dX1_grows_20 : decode cX1_grows 20 = .ok (.iaload, 1) := dk_46 (dk_at dksX1_grows_0 20 rfl rfl)
theorem dX1_grows_21 : decode cX1_grows 21 = .ok (.goto 4, 3) := dk_167 0 4 (dk_at dksX1_grows_0 21 rfl rfl)
theorem dX1_grows_24 : decode cX1_grows 24 = .ok (.iconst 0, 1) := dk_3 (dk_at dksX1_grows_1 0 rfl rfl)
theorem dX1_grows_25 : decode cX1_grows 25 = .ok (.invokestatic 432, 3) := dk_184 1 176 (dk_at dksX1_grows_1 1 rfl rfl)
theorem dX1_grows_28 : decode cX1_grows 28 = .ok (.istore 6, 2) := dk_54 6 (dk_at dksX1_grows_1 4 rfl rfl)
theorem dX1_grows_30 : decode cX1_grows 30 = .ok (.iconst 0, 1) := dk_3 (dk_at dksX1_grows_1 6 rfl rfl)
theorem dX1_grows_31 : decode cX1_grows 31 = .ok (.istore 7, 2) := dk_54 7 (dk_at dksX1_grows_1 7 rfl rfl)
theorem dX1_grows_33 : decode cX1_grows 33 = .ok (.iload 7, 2) := dk_21 7 (dk_at dksX1_grows_1 9 rfl rfl)
theorem dX1_grows_35 : decode cX1_grows 35 = .ok (.aload_n 0, 1) := dk_42 (dk_at dksX1_grows_1 11 rfl rfl)
theorem dX1_grows_36 : decode cX1_grows 36 = .ok (.getfield 35, 3) := dk_180 0 35 (dk_at dksX1_grows_1 12 rfl rfl)
theorem dX1_grows_39 : decode cX1_grows 39 = .ok (.invokevirtual 71, 3) := dk_182 0 71 (dk_at dksX1_grows_1 15 rfl rfl)
theorem dX1_grows_42 : decode cX1_grows 42 = .ok (.if_icmp .ge 95, 3) := dk_162 0 95 (dk_at dksX1_grows_1 18 rfl rfl)
theorem dX1_grows_45 : decode cX1_grows 45 = .ok (.aload_n 0, 1) := dk_42 (dk_at dksX1_grows_1 21 rfl rfl)
theorem dX1_grows_46 : decode cX1_grows 46 = .ok (.getfield 35, 3) := dk_180 0 35 (dk_at dksX1_grows_2 0 rfl rfl)
theorem dX1_grows_49 : decode cX1_grows 49 = .ok (.iload 7, 2) := dk_21 7 (dk_at dksX1_grows_2 3 rfl rfl)
theorem dX1_grows_51 : decode cX1_grows 51 = .ok (.invokevirtual 79, 3) := dk_182 0 79 (dk_at dksX1_grows_2 5 rfl rfl)
theorem dX1_grows_54 : decode cX1_grows 54 = .ok (.checkcast 541, 3) := dk_192 2 29 (dk_at dksX1_grows_2 8 rfl rfl)
theorem dX1_grows_57 : decode cX1_grows 57 = .ok (.astore 8, 2) := dk_58 8 (dk_at dksX1_grows_2 11 rfl rfl)
theorem dX1_grows_59 : decode cX1_grows 59 = .ok (.aload 8, 2) := dk_25 8 (dk_at dksX1_grows_2 13 rfl rfl)
theorem dX1_grows_61 : decode cX1_grows 61 = .ok (.invokevirtual 548, 3) := dk_182 2 36 (dk_at dksX1_grows_2 15 rfl rfl)
theorem dX1_grows_64 : decode cX1_grows 64 = .ok (.iload 4, 2) := dk_21 4 (dk_at dksX1_grows_2 18 rfl rfl)
theorem dX1_grows_66 : decode cX1_grows 66 = .ok (.if_icmp .ne 17, 3) := dk_160 0 17 (dk_at dksX1_grows_2 20 rfl rfl)
theorem dX1_grows_69 : decode cX1_grows 69 = .ok (.aload 8, 2) := dk_25 8 (dk_at dksX1_grows_3 0 rfl rfl)
theorem dX1_grows_71 : decode cX1_grows 71 = .ok (.invokevirtual 552, 3) := dk_182 2 40 (dk_at dksX1_grows_3 2 rfl rfl)
theorem dX1_grows_74 : decode cX1_grows 74 = .ok (.iload 5, 2) := dk_21 5 (dk_at dksX1_grows_3 5 rfl rfl)
theorem dX1_grows_76 : decode cX1_grows 76 = .ok (.if_icmp .ne 7, 3) := dk_160 0 7 (dk_at dksX1_grows_3 7 rfl rfl)
theorem dX1_grows_79 : decode cX1_grows 79 = .ok (.iconst 1, 1) := dk_4 (dk_at dksX1_grows_3 10 rfl rfl)
theorem dX1_grows_80 : decode cX1_grows 80 = .ok (.goto 4, 3) := dk_167 0 4 (dk_at dksX1_grows_3 11 rfl rfl)
theorem dX1_grows_83 : decode cX1_grows 83 = .ok (.iconst 0, 1) := dk_3 (dk_at dksX1_grows_3 14 rfl rfl)
theorem dX1_grows_84 : decode cX1_grows 84 = .ok (.istore 9, 2) := dk_54 9 (dk_at dksX1_grows_3 15 rfl rfl)
theorem dX1_grows_86 : decode cX1_grows 86 = .ok (.iload 9, 2) := dk_21 9 (dk_at dksX1_grows_3 17 rfl rfl)
theorem dX1_grows_88 : decode cX1_grows 88 = .ok (.ifCond .eq 43, 3) := dk_153 0 43 (dk_at dksX1_grows_3 19 rfl rfl)
theorem dX1_grows_91 : decode cX1_grows 91 = .ok (.iload_n 3, 1) := dk_29 (dk_at dksX1_grows_3 22 rfl rfl)
theorem dX1_grows_92 : decode cX1_grows 92 = .ok (.iload 7, 2) := dk_21 7 (dk_at dksX1_grows_4 0 rfl rfl)
theorem dX1_grows_94 : decode cX1_grows 94 = .ok (.invokestatic 555, 3) := dk_184 2 43 (dk_at dksX1_grows_4 2 rfl rfl)
theorem dX1_grows_97 : decode cX1_grows 97 = .ok (.ifCond .eq 34, 3) := dk_153 0 34 (dk_at dksX1_grows_4 5 rfl rfl)
theorem dX1_grows_100 : decode cX1_grows 100 = .ok (.aload_n 0, 1) := dk_42 (dk_at dksX1_grows_4 8 rfl rfl)
theorem dX1_grows_101 : decode cX1_grows 101 = .ok (.aload 8, 2) := dk_25 8 (dk_at dksX1_grows_4 9 rfl rfl)
theorem dX1_grows_103 : decode cX1_grows 103 = .ok (.iload_n 2, 1) := dk_28 (dk_at dksX1_grows_4 11 rfl rfl)
theorem dX1_grows_104 : decode cX1_grows 104 = .ok (.invokevirtual 558, 3) := dk_182 2 46 (dk_at dksX1_grows_4 12 rfl rfl)
theorem dX1_grows_107 : decode cX1_grows 107 = .ok (.ifCond .eq 24, 3) := dk_153 0 24 (dk_at dksX1_grows_4 15 rfl rfl)
theorem dX1_grows_110 : decode cX1_grows 110 = .ok (.iload 6, 2) := dk_21 6 (dk_at dksX1_grows_4 18 rfl rfl)
theorem dX1_grows_112 : decode cX1_grows 112 = .ok (.aload_n 0, 1) := dk_42 (dk_at dksX1_grows_4 20 rfl rfl)
theorem dX1_grows_113 : decode cX1_grows 113 = .ok (.aload 8, 2) := dk_25 8 (dk_at dksX1_grows_4 21 rfl rfl)
theorem dX1_grows_115 : decode cX1_grows 115 = .ok (.aload_n 1, 1) := dk_43 (dk_at dksX1_grows_4 23 rfl rfl)
theorem dX1_grows_116 : decode cX1_grows 116 = .ok (.invokevirtual 562, 3) := dk_182 2 50 (dk_at dksX1_grows_5 0 rfl rfl)
theorem dX1_grows_119 : decode cX1_grows 119 = .ok (.aload_n 0, 1) := dk_42 (dk_at dksX1_grows_5 3 rfl rfl)
theorem dX1_grows_120 : decode cX1_grows 120 = .ok (.aload 8, 2) := dk_25 8 (dk_at dksX1_grows_5 4 rfl rfl)
theorem dX1_grows_122 : decode cX1_grows 122 = .ok (.invokevirtual 566, 3) := dk_182 2 54 (dk_at dksX1_grows_5 6 rfl rfl)
theorem dX1_grows_125 : decode cX1_grows 125 = .ok (.isub, 1) := dk_100 (dk_at dksX1_grows_5 9 rfl rfl)
theorem dX1_grows_126 : decode cX1_grows 126 = .ok (.invokestatic 432, 3) := dk_184 1 176 (dk_at dksX1_grows_5 10 rfl rfl)
theorem dX1_grows_129 : decode cX1_grows 129 = .ok (.istore 6, 2) := dk_54 6 (dk_at dksX1_grows_5 13 rfl rfl)
theorem dX1_grows_131 : decode cX1_grows 131 = .ok (.iinc 7 1, 3) := dk_132 7 1 (dk_at dksX1_grows_5 15 rfl rfl)
theorem dX1_grows_134 : decode cX1_grows 134 = .ok (.goto (-101), 3) := dk_167 255 155 (dk_at dksX1_grows_5 18 rfl rfl)
theorem dX1_grows_137 : decode cX1_grows 137 = .ok (.iload 6, 2) := dk_21 6 (dk_at dksX1_grows_5 21 rfl rfl)
theorem dX1_grows_139 : decode cX1_grows 139 = .ok (.aload_n 1, 1) := dk_43 (dk_at dksX1_grows_5 23 rfl rfl)
theorem dX1_grows_140 : decode cX1_grows 140 = .ok (.iload 4, 2) := dk_21 4 (dk_at dksX1_grows_6 0 rfl rfl)
theorem dX1_grows_142 : decode cX1_grows 142 = .ok (.aaload, 1) := dk_50 (dk_at dksX1_grows_6 2 rfl rfl)
theorem dX1_grows_143 : decode cX1_grows 143 = .ok (.iload 5, 2) := dk_21 5 (dk_at dksX1_grows_6 3 rfl rfl)
theorem dX1_grows_145 : decode cX1_grows 145 = .ok (.iaload, 1) := dk_46 (dk_at dksX1_grows_6 5 rfl rfl)
theorem dX1_grows_146 : decode cX1_grows 146 = .ok (.if_icmp .le 7, 3) := dk_164 0 7 (dk_at dksX1_grows_6 6 rfl rfl)
theorem dX1_grows_149 : decode cX1_grows 149 = .ok (.iconst 1, 1) := dk_4 (dk_at dksX1_grows_6 9 rfl rfl)
theorem dX1_grows_150 : decode cX1_grows 150 = .ok (.goto 4, 3) := dk_167 0 4 (dk_at dksX1_grows_6 10 rfl rfl)
theorem dX1_grows_153 : decode cX1_grows 153 = .ok (.iconst 0, 1) := dk_3 (dk_at dksX1_grows_6 13 rfl rfl)
theorem dX1_grows_154 : decode cX1_grows 154 = .ok (.istore 7, 2) := dk_54 7 (dk_at dksX1_grows_6 14 rfl rfl)
theorem dX1_grows_156 : decode cX1_grows 156 = .ok (.aload_n 1, 1) := dk_43 (dk_at dksX1_grows_6 16 rfl rfl)
theorem dX1_grows_157 : decode cX1_grows 157 = .ok (.iload 4, 2) := dk_21 4 (dk_at dksX1_grows_6 17 rfl rfl)
theorem dX1_grows_159 : decode cX1_grows 159 = .ok (.aaload, 1) := dk_50 (dk_at dksX1_grows_6 19 rfl rfl)
theorem dX1_grows_160 : decode cX1_grows 160 = .ok (.iload 5, 2) := dk_21 5 (dk_at dksX1_grows_6 20 rfl rfl)
theorem dX1_grows_162 : decode cX1_grows 162 = .ok (.iload 6, 2) := dk_21 6 (dk_at dksX1_grows_6 22 rfl rfl)
theorem dX1_grows_164 : decode cX1_grows 164 = .ok (.iastore, 1) := dk_79 (dk_at dksX1_grows_7 0 rfl rfl)
theorem dX1_grows_165 : decode cX1_grows 165 = .ok (.iload 7, 2) := dk_21 7 (dk_at dksX1_grows_7 1 rfl rfl)
theorem dX1_grows_167 : decode cX1_grows 167 = .ok (.ireturn, 1) := dk_172 (dk_at dksX1_grows_7 3 rfl rfl)
abbrev cX1_isHeld : ByteArray := prog_1_method_85_code
def yX1_isHeld : MethodName := ⟨RX1, "isHeld", "(II)Z"⟩
def dkwX1_isHeld_0 : List UInt8 := [26, 27, 122, 4, 126, 4, 160, 0, 7, 4, 167, 0, 4, 3, 172]
abbrev dktX1_isHeld_0 : List UInt8 := dkwX1_isHeld_0 ++ []
theorem dksX1_isHeld_0 : cX1_isHeld.data.toList.drop 0 = dktX1_isHeld_0 := by decide +kernel
theorem dX1_isHeld_0 : decode cX1_isHeld 0 = .ok (.iload_n 0, 1) := dk_26 (dk_at dksX1_isHeld_0 0 rfl rfl)
theorem dX1_isHeld_1 : decode cX1_isHeld 1 = .ok (.iload_n 1, 1) := dk_27 (dk_at dksX1_isHeld_0 1 rfl rfl)
theorem dX1_isHeld_2 : decode cX1_isHeld 2 = .ok (.ishr, 1) := dk_122 (dk_at dksX1_isHeld_0 2 rfl rfl)
theorem dX1_isHeld_3 : decode cX1_isHeld 3 = .ok (.iconst 1, 1) := dk_4 (dk_at dksX1_isHeld_0 3 rfl rfl)
theorem dX1_isHeld_4 : decode cX1_isHeld 4 = .ok (.iand, 1) := dk_126 (dk_at dksX1_isHeld_0 4 rfl rfl)
theorem dX1_isHeld_5 : decode cX1_isHeld 5 = .ok (.iconst 1, 1) := dk_4 (dk_at dksX1_isHeld_0 5 rfl rfl)
theorem dX1_isHeld_6 : decode cX1_isHeld 6 = .ok (.if_icmp .ne 7, 3) := dk_160 0 7 (dk_at dksX1_isHeld_0 6 rfl rfl)
theorem dX1_isHeld_9 : decode cX1_isHeld 9 = .ok (.iconst 1, 1) := dk_4 (dk_at dksX1_isHeld_0 9 rfl rfl)
theorem dX1_isHeld_10 : decode cX1_isHeld 10 = .ok (.goto 4, 3) := dk_167 0 4 (dk_at dksX1_isHeld_0 10 rfl rfl)
theorem dX1_isHeld_13 : decode cX1_isHeld 13 = .ok (.iconst 0, 1) := dk_3 (dk_at dksX1_isHeld_0 13 rfl rfl)
theorem dX1_isHeld_14 : decode cX1_isHeld 14 = .ok (.ireturn, 1) := dk_172 (dk_at dksX1_isHeld_0 14 rfl rfl)
abbrev cX1_counts : ByteArray := prog_1_method_82_code
def yX1_counts : MethodName := ⟨RX1, "counts", "(LLastbus$Wish;I)Z"⟩
def dkwX1_counts_1 : List UInt8 := [4, 167, 0, 4, 3, 172]
abbrev dktX1_counts_1 : List UInt8 := dkwX1_counts_1 ++ []
def dkwX1_counts_0 : List UInt8 := [42, 43, 182, 2, 35, 28, 182, 1, 20, 153, 0, 19, 42, 43, 182, 2, 36, 28, 182, 1, 20, 153, 0, 7]
abbrev dktX1_counts_0 : List UInt8 := dkwX1_counts_0 ++ dktX1_counts_1
theorem dksX1_counts_0 : cX1_counts.data.toList.drop 0 = dktX1_counts_0 := by decide +kernel
theorem dksX1_counts_1 : cX1_counts.data.toList.drop 24 = dktX1_counts_1 := dk_seg dksX1_counts_0 24 rfl rfl
theorem dX1_counts_0 : decode cX1_counts 0 = .ok (.aload_n 0, 1) := dk_42 (dk_at dksX1_counts_0 0 rfl rfl)
theorem dX1_counts_1 : decode cX1_counts 1 = .ok (.aload_n 1, 1) := dk_43 (dk_at dksX1_counts_0 1 rfl rfl)
theorem dX1_counts_2 : decode cX1_counts 2 = .ok (.invokevirtual 547, 3) := dk_182 2 35 (dk_at dksX1_counts_0 2 rfl rfl)
theorem dX1_counts_5 : decode cX1_counts 5 = .ok (.iload_n 2, 1) := dk_28 (dk_at dksX1_counts_0 5 rfl rfl)
theorem dX1_counts_6 : decode cX1_counts 6 = .ok (.invokevirtual 276, 3) := dk_182 1 20 (dk_at dksX1_counts_0 6 rfl rfl)
theorem dX1_counts_9 : decode cX1_counts 9 = .ok (.ifCond .eq 19, 3) := dk_153 0 19 (dk_at dksX1_counts_0 9 rfl rfl)
theorem dX1_counts_12 : decode cX1_counts 12 = .ok (.aload_n 0, 1) := dk_42 (dk_at dksX1_counts_0 12 rfl rfl)
theorem dX1_counts_13 : decode cX1_counts 13 = .ok (.aload_n 1, 1) := dk_43 (dk_at dksX1_counts_0 13 rfl rfl)
theorem dX1_counts_14 : decode cX1_counts 14 = .ok (.invokevirtual 548, 3) := dk_182 2 36 (dk_at dksX1_counts_0 14 rfl rfl)
theorem dX1_counts_17 : decode cX1_counts 17 = .ok (.iload_n 2, 1) := dk_28 (dk_at dksX1_counts_0 17 rfl rfl)
theorem dX1_counts_18 : decode cX1_counts 18 = .ok (.invokevirtual 276, 3) := dk_182 1 20 (dk_at dksX1_counts_0 18 rfl rfl)
theorem dX1_counts_21 : decode cX1_counts 21 = .ok (.ifCond .eq 7, 3) := dk_153 0 7 (dk_at dksX1_counts_0 21 rfl rfl)
theorem dX1_counts_24 : decode cX1_counts 24 = .ok (.iconst 1, 1) := dk_4 (dk_at dksX1_counts_1 0 rfl rfl)
theorem dX1_counts_25 : decode cX1_counts 25 = .ok (.goto 4, 3) := dk_167 0 4 (dk_at dksX1_counts_1 1 rfl rfl)
theorem dX1_counts_28 : decode cX1_counts 28 = .ok (.iconst 0, 1) := dk_3 (dk_at dksX1_counts_1 4 rfl rfl)
theorem dX1_counts_29 : decode cX1_counts 29 = .ok (.ireturn, 1) := dk_172 (dk_at dksX1_counts_1 5 rfl rfl)
abbrev cX1_readyBy : ByteArray := prog_1_method_83_code
def yX1_readyBy : MethodName := ⟨RX1, "readyBy", "(LLastbus$Wish;[[I)I"⟩
def dkwX1_readyBy_2 : List UInt8 := [180, 0, 9, 45, 182, 0, 163, 46, 96, 172]
abbrev dktX1_readyBy_2 : List UInt8 := dkwX1_readyBy_2 ++ []
def dkwX1_readyBy_1 : List UInt8 := [192, 0, 92, 78, 45, 182, 0, 174, 44, 43, 182, 2, 35, 50, 43, 182, 2, 39, 4, 100, 46, 96, 42]
abbrev dktX1_readyBy_1 : List UInt8 := dkwX1_readyBy_1 ++ dktX1_readyBy_2
def dkwX1_readyBy_0 : List UInt8 := [42, 180, 0, 25, 43, 182, 2, 35, 182, 0, 79, 192, 0, 83, 180, 0, 89, 43, 182, 2, 39, 182, 0, 79]
abbrev dktX1_readyBy_0 : List UInt8 := dkwX1_readyBy_0 ++ dktX1_readyBy_1
theorem dksX1_readyBy_0 : cX1_readyBy.data.toList.drop 0 = dktX1_readyBy_0 := by decide +kernel
theorem dksX1_readyBy_1 : cX1_readyBy.data.toList.drop 24 = dktX1_readyBy_1 := dk_seg dksX1_readyBy_0 24 rfl rfl
theorem dksX1_readyBy_2 : cX1_readyBy.data.toList.drop 47 = dktX1_readyBy_2 := dk_seg dksX1_readyBy_1 23 rfl rfl
theorem dX1_readyBy_0 : decode cX1_readyBy 0 = .ok (.aload_n 0, 1) := dk_42 (dk_at dksX1_readyBy_0 0 rfl rfl)
theorem dX1_readyBy_1 : decode cX1_readyBy 1 = .ok (.getfield 25, 3) := dk_180 0 25 (dk_at dksX1_readyBy_0 1 rfl rfl)
theorem dX1_readyBy_4 : decode cX1_readyBy 4 = .ok (.aload_n 1, 1) := dk_43 (dk_at dksX1_readyBy_0 4 rfl rfl)
theorem dX1_readyBy_5 : decode cX1_readyBy 5 = .ok (.invokevirtual 547, 3) := dk_182 2 35 (dk_at dksX1_readyBy_0 5 rfl rfl)
theorem dX1_readyBy_8 : decode cX1_readyBy 8 = .ok (.invokevirtual 79, 3) := dk_182 0 79 (dk_at dksX1_readyBy_0 8 rfl rfl)
theorem dX1_readyBy_11 : decode cX1_readyBy 11 = .ok (.checkcast 83, 3) := dk_192 0 83 (dk_at dksX1_readyBy_0 11 rfl rfl)
theorem dX1_readyBy_14 : decode cX1_readyBy 14 = .ok (.getfield 89, 3) := dk_180 0 89 (dk_at dksX1_readyBy_0 14 rfl rfl)
theorem dX1_readyBy_17 : decode cX1_readyBy 17 = .ok (.aload_n 1, 1) := dk_43 (dk_at dksX1_readyBy_0 17 rfl rfl)
theorem dX1_readyBy_18 : decode cX1_readyBy 18 = .ok (.invokevirtual 551, 3) := dk_182 2 39 (dk_at dksX1_readyBy_0 18 rfl rfl)
theorem dX1_readyBy_21 : decode cX1_readyBy 21 = .ok (.invokevirtual 79, 3) := dk_182 0 79 (dk_at dksX1_readyBy_0 21 rfl rfl)
theorem dX1_readyBy_24 : decode cX1_readyBy 24 = .ok (.checkcast 92, 3) := dk_192 0 92 (dk_at dksX1_readyBy_1 0 rfl rfl)
theorem dX1_readyBy_27 : decode cX1_readyBy 27 = .ok (.astore_n 3, 1) := dk_78 (dk_at dksX1_readyBy_1 3 rfl rfl)
theorem dX1_readyBy_28 : decode cX1_readyBy 28 = .ok (.aload_n 3, 1) := dk_45 (dk_at dksX1_readyBy_1 4 rfl rfl)
theorem dX1_readyBy_29 : decode cX1_readyBy 29 = .ok (.invokevirtual 174, 3) := dk_182 0 174 (dk_at dksX1_readyBy_1 5 rfl rfl)
theorem dX1_readyBy_32 : decode cX1_readyBy 32 = .ok (.aload_n 2, 1) := dk_44 (dk_at dksX1_readyBy_1 8 rfl rfl)
theorem dX1_readyBy_33 : decode cX1_readyBy 33 = .ok (.aload_n 1, 1) := dk_43 (dk_at dksX1_readyBy_1 9 rfl rfl)
theorem dX1_readyBy_34 : decode cX1_readyBy 34 = .ok (.invokevirtual 547, 3) := dk_182 2 35 (dk_at dksX1_readyBy_1 10 rfl rfl)
theorem dX1_readyBy_37 : decode cX1_readyBy 37 = .ok (.aaload, 1) := dk_50 (dk_at dksX1_readyBy_1 13 rfl rfl)
theorem dX1_readyBy_38 : decode cX1_readyBy 38 = .ok (.aload_n 1, 1) := dk_43 (dk_at dksX1_readyBy_1 14 rfl rfl)
theorem dX1_readyBy_39 : decode cX1_readyBy 39 = .ok (.invokevirtual 551, 3) := dk_182 2 39 (dk_at dksX1_readyBy_1 15 rfl rfl)
theorem dX1_readyBy_42 : decode cX1_readyBy 42 = .ok (.iconst 1, 1) := dk_4 (dk_at dksX1_readyBy_1 18 rfl rfl)
theorem dX1_readyBy_43 : decode cX1_readyBy 43 = .ok (.isub, 1) := dk_100 (dk_at dksX1_readyBy_1 19 rfl rfl)
theorem dX1_readyBy_44 : decode cX1_readyBy 44 = .ok (.iaload, 1) := dk_46 (dk_at dksX1_readyBy_1 20 rfl rfl)
theorem dX1_readyBy_45 : decode cX1_readyBy 45 = .ok (.iadd, 1) := dk_96 (dk_at dksX1_readyBy_1 21 rfl rfl)
theorem dX1_readyBy_46 : decode cX1_readyBy 46 = .ok (.aload_n 0, 1) := dk_42 (dk_at dksX1_readyBy_1 22 rfl rfl)
theorem dX1_readyBy_47 : decode cX1_readyBy 47 = .ok (.getfield 9, 3) := dk_180 0 9 (dk_at dksX1_readyBy_2 0 rfl rfl)
theorem dX1_readyBy_50 : decode cX1_readyBy 50 = .ok (.aload_n 3, 1) := dk_45 (dk_at dksX1_readyBy_2 3 rfl rfl)
theorem dX1_readyBy_51 : decode cX1_readyBy 51 = .ok (.invokevirtual 163, 3) := dk_182 0 163 (dk_at dksX1_readyBy_2 4 rfl rfl)
theorem dX1_readyBy_54 : decode cX1_readyBy 54 = .ok (.iaload, 1) := dk_46 (dk_at dksX1_readyBy_2 7 rfl rfl)
theorem dX1_readyBy_55 : decode cX1_readyBy 55 = .ok (.iadd, 1) := dk_96 (dk_at dksX1_readyBy_2 8 rfl rfl)
theorem dX1_readyBy_56 : decode cX1_readyBy 56 = .ok (.ireturn, 1) := dk_172 (dk_at dksX1_readyBy_2 9 rfl rfl)
abbrev cX1_departureOf : ByteArray := prog_1_method_84_code
def yX1_departureOf : MethodName := ⟨RX1, "departureOf", "(LLastbus$Wish;)I"⟩
def dkwX1_departureOf_1 : List UInt8 := [192, 0, 92, 182, 0, 160, 172]
abbrev dktX1_departureOf_1 : List UInt8 := dkwX1_departureOf_1 ++ []
def dkwX1_departureOf_0 : List UInt8 := [42, 180, 0, 25, 43, 182, 2, 36, 182, 0, 79, 192, 0, 83, 180, 0, 89, 43, 182, 2, 40, 182, 0, 79]
abbrev dktX1_departureOf_0 : List UInt8 := dkwX1_departureOf_0 ++ dktX1_departureOf_1
theorem dksX1_departureOf_0 : cX1_departureOf.data.toList.drop 0 = dktX1_departureOf_0 := by decide +kernel
theorem dksX1_departureOf_1 : cX1_departureOf.data.toList.drop 24 = dktX1_departureOf_1 := dk_seg dksX1_departureOf_0 24 rfl rfl
theorem dX1_departureOf_0 : decode cX1_departureOf 0 = .ok (.aload_n 0, 1) := dk_42 (dk_at dksX1_departureOf_0 0 rfl rfl)
theorem dX1_departureOf_1 : decode cX1_departureOf 1 = .ok (.getfield 25, 3) := dk_180 0 25 (dk_at dksX1_departureOf_0 1 rfl rfl)
theorem dX1_departureOf_4 : decode cX1_departureOf 4 = .ok (.aload_n 1, 1) := dk_43 (dk_at dksX1_departureOf_0 4 rfl rfl)
theorem dX1_departureOf_5 : decode cX1_departureOf 5 = .ok (.invokevirtual 548, 3) := dk_182 2 36 (dk_at dksX1_departureOf_0 5 rfl rfl)
theorem dX1_departureOf_8 : decode cX1_departureOf 8 = .ok (.invokevirtual 79, 3) := dk_182 0 79 (dk_at dksX1_departureOf_0 8 rfl rfl)
theorem dX1_departureOf_11 : decode cX1_departureOf 11 = .ok (.checkcast 83, 3) := dk_192 0 83 (dk_at dksX1_departureOf_0 11 rfl rfl)
theorem dX1_departureOf_14 : decode cX1_departureOf 14 = .ok (.getfield 89, 3) := dk_180 0 89 (dk_at dksX1_departureOf_0 14 rfl rfl)
theorem dX1_departureOf_17 : decode cX1_departureOf 17 = .ok (.aload_n 1, 1) := dk_43 (dk_at dksX1_departureOf_0 17 rfl rfl)
theorem dX1_departureOf_18 : decode cX1_departureOf 18 = .ok (.invokevirtual 552, 3) := dk_182 2 40 (dk_at dksX1_departureOf_0 18 rfl rfl)
theorem dX1_departureOf_21 : decode cX1_departureOf 21 = .ok (.invokevirtual 79, 3) := dk_182 0 79 (dk_at dksX1_departureOf_0 21 rfl rfl)
theorem dX1_departureOf_24 : decode cX1_departureOf 24 = .ok (.checkcast 92, 3) := dk_192 0 92 (dk_at dksX1_departureOf_1 0 rfl rfl)
theorem dX1_departureOf_27 : decode cX1_departureOf 27 = .ok (.invokevirtual 160, 3) := dk_182 0 160 (dk_at dksX1_departureOf_1 3 rfl rfl)
theorem dX1_departureOf_30 : decode cX1_departureOf 30 = .ok (.ireturn, 1) := dk_172 (dk_at dksX1_departureOf_1 6 rfl rfl)
abbrev cX1_bestWaits : ByteArray := prog_1_method_90_code
def yX1_bestWaits : MethodName := ⟨RX1, "bestWaits", "(I)I"⟩
def dkwX1_bestWaits_2 : List UInt8 := [162, 0, 9, 21, 4, 61, 21, 5, 62, 132, 4, 1, 167, 255, 218, 28, 172]
abbrev dktX1_bestWaits_2 : List UInt8 := dkwX1_bestWaits_2 ++ []
def dkwX1_bestWaits_1 : List UInt8 := [180, 0, 35, 182, 0, 71, 120, 162, 0, 30, 42, 27, 21, 4, 182, 2, 69, 54, 5, 21, 5, 29]
abbrev dktX1_bestWaits_1 : List UInt8 := dkwX1_bestWaits_1 ++ dktX1_bestWaits_2
def dkwX1_bestWaits_0 : List UInt8 := [27, 184, 0, 129, 184, 0, 96, 3, 61, 42, 27, 3, 182, 2, 69, 62, 4, 54, 4, 21, 4, 4, 42]
abbrev dktX1_bestWaits_0 : List UInt8 := dkwX1_bestWaits_0 ++ dktX1_bestWaits_1
theorem dksX1_bestWaits_0 : cX1_bestWaits.data.toList.drop 0 = dktX1_bestWaits_0 := by decide +kernel
theorem dksX1_bestWaits_1 : cX1_bestWaits.data.toList.drop 23 = dktX1_bestWaits_1 := dk_seg dksX1_bestWaits_0 23 rfl rfl
theorem dksX1_bestWaits_2 : cX1_bestWaits.data.toList.drop 45 = dktX1_bestWaits_2 := dk_seg dksX1_bestWaits_1 22 rfl rfl
theorem dX1_bestWaits_0 : decode cX1_bestWaits 0 = .ok (.iload_n 1, 1) := dk_27 (dk_at dksX1_bestWaits_0 0 rfl rfl)
theorem dX1_bestWaits_1 : decode cX1_bestWaits 1 = .ok (.invokestatic 129, 3) := dk_184 0 129 (dk_at dksX1_bestWaits_0 1 rfl rfl)
theorem dX1_bestWaits_4 : decode cX1_bestWaits 4 = .ok (.invokestatic 96, 3) := dk_184 0 96 (dk_at dksX1_bestWaits_0 4 rfl rfl)
theorem dX1_bestWaits_7 : decode cX1_bestWaits 7 = .ok (.iconst 0, 1) := dk_3 (dk_at dksX1_bestWaits_0 7 rfl rfl)
theorem dX1_bestWaits_8 : decode cX1_bestWaits 8 = .ok (.istore_n 2, 1) := dk_61 (dk_at dksX1_bestWaits_0 8 rfl rfl)
theorem dX1_bestWaits_9 : decode cX1_bestWaits 9 = .ok (.aload_n 0, 1) := dk_42 (dk_at dksX1_bestWaits_0 9 rfl rfl)
theorem dX1_bestWaits_10 : decode cX1_bestWaits 10 = .ok (.iload_n 1, 1) := dk_27 (dk_at dksX1_bestWaits_0 10 rfl rfl)
theorem dX1_bestWaits_11 : decode cX1_bestWaits 11 = .ok (.iconst 0, 1) := dk_3 (dk_at dksX1_bestWaits_0 11 rfl rfl)
theorem dX1_bestWaits_12 : decode cX1_bestWaits 12 = .ok (.invokevirtual 581, 3) := dk_182 2 69 (dk_at dksX1_bestWaits_0 12 rfl rfl)
theorem dX1_bestWaits_15 : decode cX1_bestWaits 15 = .ok (.istore_n 3, 1) := dk_62 (dk_at dksX1_bestWaits_0 15 rfl rfl)
theorem dX1_bestWaits_16 : decode cX1_bestWaits 16 = .ok (.iconst 1, 1) := dk_4 (dk_at dksX1_bestWaits_0 16 rfl rfl)
theorem dX1_bestWaits_17 : decode cX1_bestWaits 17 = .ok (.istore 4, 2) := dk_54 4 (dk_at dksX1_bestWaits_0 17 rfl rfl)
theorem dX1_bestWaits_19 : decode cX1_bestWaits 19 = .ok (.iload 4, 2) := dk_21 4 (dk_at dksX1_bestWaits_0 19 rfl rfl)
theorem dX1_bestWaits_21 : decode cX1_bestWaits 21 = .ok (.iconst 1, 1) := dk_4 (dk_at dksX1_bestWaits_0 21 rfl rfl)
theorem dX1_bestWaits_22 : decode cX1_bestWaits 22 = .ok (.aload_n 0, 1) := dk_42 (dk_at dksX1_bestWaits_0 22 rfl rfl)
theorem dX1_bestWaits_23 : decode cX1_bestWaits 23 = .ok (.getfield 35, 3) := dk_180 0 35 (dk_at dksX1_bestWaits_1 0 rfl rfl)
theorem dX1_bestWaits_26 : decode cX1_bestWaits 26 = .ok (.invokevirtual 71, 3) := dk_182 0 71 (dk_at dksX1_bestWaits_1 3 rfl rfl)
theorem dX1_bestWaits_29 : decode cX1_bestWaits 29 = .ok (.ishl, 1) := dk_120 (dk_at dksX1_bestWaits_1 6 rfl rfl)
theorem dX1_bestWaits_30 : decode cX1_bestWaits 30 = .ok (.if_icmp .ge 30, 3) := dk_162 0 30 (dk_at dksX1_bestWaits_1 7 rfl rfl)
theorem dX1_bestWaits_33 : decode cX1_bestWaits 33 = .ok (.aload_n 0, 1) := dk_42 (dk_at dksX1_bestWaits_1 10 rfl rfl)
theorem dX1_bestWaits_34 : decode cX1_bestWaits 34 = .ok (.iload_n 1, 1) := dk_27 (dk_at dksX1_bestWaits_1 11 rfl rfl)
theorem dX1_bestWaits_35 : decode cX1_bestWaits 35 = .ok (.iload 4, 2) := dk_21 4 (dk_at dksX1_bestWaits_1 12 rfl rfl)
theorem dX1_bestWaits_37 : decode cX1_bestWaits 37 = .ok (.invokevirtual 581, 3) := dk_182 2 69 (dk_at dksX1_bestWaits_1 14 rfl rfl)
theorem dX1_bestWaits_40 : decode cX1_bestWaits 40 = .ok (.istore 5, 2) := dk_54 5 (dk_at dksX1_bestWaits_1 17 rfl rfl)
theorem dX1_bestWaits_42 : decode cX1_bestWaits 42 = .ok (.iload 5, 2) := dk_21 5 (dk_at dksX1_bestWaits_1 19 rfl rfl)
theorem dX1_bestWaits_44 : decode cX1_bestWaits 44 = .ok (.iload_n 3, 1) := dk_29 (dk_at dksX1_bestWaits_1 21 rfl rfl)
theorem dX1_bestWaits_45 : decode cX1_bestWaits 45 = .ok (.if_icmp .ge 9, 3) := dk_162 0 9 (dk_at dksX1_bestWaits_2 0 rfl rfl)
theorem dX1_bestWaits_48 : decode cX1_bestWaits 48 = .ok (.iload 4, 2) := dk_21 4 (dk_at dksX1_bestWaits_2 3 rfl rfl)
theorem dX1_bestWaits_50 : decode cX1_bestWaits 50 = .ok (.istore_n 2, 1) := dk_61 (dk_at dksX1_bestWaits_2 5 rfl rfl)
theorem dX1_bestWaits_51 : decode cX1_bestWaits 51 = .ok (.iload 5, 2) := dk_21 5 (dk_at dksX1_bestWaits_2 6 rfl rfl)
theorem dX1_bestWaits_53 : decode cX1_bestWaits 53 = .ok (.istore_n 3, 1) := dk_62 (dk_at dksX1_bestWaits_2 8 rfl rfl)
theorem dX1_bestWaits_54 : decode cX1_bestWaits 54 = .ok (.iinc 4 1, 3) := dk_132 4 1 (dk_at dksX1_bestWaits_2 9 rfl rfl)
theorem dX1_bestWaits_57 : decode cX1_bestWaits 57 = .ok (.goto (-38), 3) := dk_167 255 218 (dk_at dksX1_bestWaits_2 12 rfl rfl)
theorem dX1_bestWaits_60 : decode cX1_bestWaits 60 = .ok (.iload_n 2, 1) := dk_28 (dk_at dksX1_bestWaits_2 15 rfl rfl)
theorem dX1_bestWaits_61 : decode cX1_bestWaits 61 = .ok (.ireturn, 1) := dk_172 (dk_at dksX1_bestWaits_2 16 rfl rfl)
abbrev cX1_lost : ByteArray := prog_1_method_93_code
def yX1_lost : MethodName := ⟨RX1, "lost", "(II)I"⟩
def dkwX1_lost_1 : List UInt8 := [42, 45, 42, 45, 2, 182, 2, 72, 27, 182, 2, 85, 172]
abbrev dktX1_lost_1 : List UInt8 := dkwX1_lost_1 ++ []
def dkwX1_lost_0 : List UInt8 := [42, 27, 182, 0, 102, 184, 0, 75, 28, 184, 0, 129, 184, 0, 96, 42, 28, 182, 1, 98, 184, 1, 101, 78]
abbrev dktX1_lost_0 : List UInt8 := dkwX1_lost_0 ++ dktX1_lost_1
theorem dksX1_lost_0 : cX1_lost.data.toList.drop 0 = dktX1_lost_0 := by decide +kernel
theorem dksX1_lost_1 : cX1_lost.data.toList.drop 24 = dktX1_lost_1 := dk_seg dksX1_lost_0 24 rfl rfl
theorem dX1_lost_0 : decode cX1_lost 0 = .ok (.aload_n 0, 1) := dk_42 (dk_at dksX1_lost_0 0 rfl rfl)
theorem dX1_lost_1 : decode cX1_lost 1 = .ok (.iload_n 1, 1) := dk_27 (dk_at dksX1_lost_0 1 rfl rfl)
theorem dX1_lost_2 : decode cX1_lost 2 = .ok (.invokevirtual 102, 3) := dk_182 0 102 (dk_at dksX1_lost_0 2 rfl rfl)
theorem dX1_lost_5 : decode cX1_lost 5 = .ok (.invokestatic 75, 3) := dk_184 0 75 (dk_at dksX1_lost_0 5 rfl rfl)
theorem dX1_lost_8 : decode cX1_lost 8 = .ok (.iload_n 2, 1) := dk_28 (dk_at dksX1_lost_0 8 rfl rfl)
theorem dX1_lost_9 : decode cX1_lost 9 = .ok (.invokestatic 129, 3) := dk_184 0 129 (dk_at dksX1_lost_0 9 rfl rfl)
theorem dX1_lost_12 : decode cX1_lost 12 = .ok (.invokestatic 96, 3) := dk_184 0 96 (dk_at dksX1_lost_0 12 rfl rfl)
theorem dX1_lost_15 : decode cX1_lost 15 = .ok (.aload_n 0, 1) := dk_42 (dk_at dksX1_lost_0 15 rfl rfl)
theorem dX1_lost_16 : decode cX1_lost 16 = .ok (.iload_n 2, 1) := dk_28 (dk_at dksX1_lost_0 16 rfl rfl)
theorem dX1_lost_17 : decode cX1_lost 17 = .ok (.invokevirtual 354, 3) := dk_182 1 98 (dk_at dksX1_lost_0 17 rfl rfl)
theorem dX1_lost_20 : decode cX1_lost 20 = .ok (.invokestatic 357, 3) := dk_184 1 101 (dk_at dksX1_lost_0 20 rfl rfl)
theorem dX1_lost_23 : decode cX1_lost 23 = .ok (.astore_n 3, 1) := dk_78 (dk_at dksX1_lost_0 23 rfl rfl)
theorem dX1_lost_24 : decode cX1_lost 24 = .ok (.aload_n 0, 1) := dk_42 (dk_at dksX1_lost_1 0 rfl rfl)
theorem dX1_lost_25 : decode cX1_lost 25 = .ok (.aload_n 3, 1) := dk_45 (dk_at dksX1_lost_1 1 rfl rfl)
theorem dX1_lost_26 : decode cX1_lost 26 = .ok (.aload_n 0, 1) := dk_42 (dk_at dksX1_lost_1 2 rfl rfl)
theorem dX1_lost_27 : decode cX1_lost 27 = .ok (.aload_n 3, 1) := dk_45 (dk_at dksX1_lost_1 3 rfl rfl)
theorem dX1_lost_28 : decode cX1_lost 28 = .ok (.iconst (-1), 1) := dk_2 (dk_at dksX1_lost_1 4 rfl rfl)
theorem dX1_lost_29 : decode cX1_lost 29 = .ok (.invokevirtual 584, 3) := dk_182 2 72 (dk_at dksX1_lost_1 5 rfl rfl)
theorem dX1_lost_32 : decode cX1_lost 32 = .ok (.iload_n 1, 1) := dk_27 (dk_at dksX1_lost_1 8 rfl rfl)
theorem dX1_lost_33 : decode cX1_lost 33 = .ok (.invokevirtual 597, 3) := dk_182 2 85 (dk_at dksX1_lost_1 9 rfl rfl)
theorem dX1_lost_36 : decode cX1_lost 36 = .ok (.ireturn, 1) := dk_172 (dk_at dksX1_lost_1 12 rfl rfl)
abbrev cX1_reached : ByteArray := prog_1_method_91_code
def yX1_reached : MethodName := ⟨RX1, "reached", "(Ljava/util/List;I)Ljava/util/ArrayList;"⟩
def dkwX1_reached_4 : List UInt8 := [25, 7, 182, 0, 121, 87, 132, 5, 1, 167, 255, 170, 25, 4, 176]
abbrev dktX1_reached_4 : List UInt8 := dkwX1_reached_4 ++ []
def dkwX1_reached_3 : List UInt8 := [21, 8, 46, 18, 106, 162, 0, 10, 25, 7, 21, 8, 182, 0, 132, 132, 8, 1, 167, 255, 217, 25, 4]
abbrev dktX1_reached_3 : List UInt8 := dkwX1_reached_3 ++ dktX1_reached_4
def dkwX1_reached_2 : List UInt8 := [3, 54, 8, 21, 8, 42, 180, 0, 68, 162, 0, 36, 21, 8, 21, 5, 159, 0, 23, 25, 6, 180, 1, 116]
abbrev dktX1_reached_2 : List UInt8 := dkwX1_reached_2 ++ dktX1_reached_3
def dkwX1_reached_1 : List UInt8 := [162, 0, 83, 42, 43, 21, 5, 3, 28, 45, 182, 1, 105, 58, 6, 187, 0, 94, 89, 183, 0, 120, 58, 7]
abbrev dktX1_reached_1 : List UInt8 := dkwX1_reached_1 ++ dktX1_reached_2
def dkwX1_reached_0 : List UInt8 := [42, 28, 182, 0, 113, 78, 187, 0, 18, 89, 183, 0, 20, 58, 4, 3, 54, 5, 21, 5, 42, 180, 0, 68]
abbrev dktX1_reached_0 : List UInt8 := dkwX1_reached_0 ++ dktX1_reached_1
theorem dksX1_reached_0 : cX1_reached.data.toList.drop 0 = dktX1_reached_0 := by decide +kernel
theorem dksX1_reached_1 : cX1_reached.data.toList.drop 24 = dktX1_reached_1 := dk_seg dksX1_reached_0 24 rfl rfl
theorem dksX1_reached_2 : cX1_reached.data.toList.drop 48 = dktX1_reached_2 := dk_seg dksX1_reached_1 24 rfl rfl
theorem dksX1_reached_3 : cX1_reached.data.toList.drop 72 = dktX1_reached_3 := dk_seg dksX1_reached_2 24 rfl rfl
theorem dksX1_reached_4 : cX1_reached.data.toList.drop 95 = dktX1_reached_4 := dk_seg dksX1_reached_3 23 rfl rfl
theorem dX1_reached_0 : decode cX1_reached 0 = .ok (.aload_n 0, 1) := dk_42 (dk_at dksX1_reached_0 0 rfl rfl)
theorem dX1_reached_1 : decode cX1_reached 1 = .ok (.iload_n 2, 1) := dk_28 (dk_at dksX1_reached_0 1 rfl rfl)
theorem dX1_reached_2 : decode cX1_reached 2 = .ok (.invokevirtual 113, 3) := dk_182 0 113 (dk_at dksX1_reached_0 2 rfl rfl)
theorem dX1_reached_5 : decode cX1_reached 5 = .ok (.astore_n 3, 1) := dk_78 (dk_at dksX1_reached_0 5 rfl rfl)
theorem dX1_reached_6 : decode cX1_reached 6 = .ok (.new 18, 3) := dk_187 0 18 (dk_at dksX1_reached_0 6 rfl rfl)
theorem dX1_reached_9 : decode cX1_reached 9 = .ok (.dup, 1) := dk_89 (dk_at dksX1_reached_0 9 rfl rfl)
theorem dX1_reached_10 : decode cX1_reached 10 = .ok (.invokespecial 20, 3) := dk_183 0 20 (dk_at dksX1_reached_0 10 rfl rfl)
theorem dX1_reached_13 : decode cX1_reached 13 = .ok (.astore 4, 2) := dk_58 4 (dk_at dksX1_reached_0 13 rfl rfl)
theorem dX1_reached_15 : decode cX1_reached 15 = .ok (.iconst 0, 1) := dk_3 (dk_at dksX1_reached_0 15 rfl rfl)
theorem dX1_reached_16 : decode cX1_reached 16 = .ok (.istore 5, 2) := dk_54 5 (dk_at dksX1_reached_0 16 rfl rfl)
theorem dX1_reached_18 : decode cX1_reached 18 = .ok (.iload 5, 2) := dk_21 5 (dk_at dksX1_reached_0 18 rfl rfl)
theorem dX1_reached_20 : decode cX1_reached 20 = .ok (.aload_n 0, 1) := dk_42 (dk_at dksX1_reached_0 20 rfl rfl)
theorem dX1_reached_21 : decode cX1_reached 21 = .ok (.getfield 68, 3) := dk_180 0 68 (dk_at dksX1_reached_0 21 rfl rfl)
theorem dX1_reached_24 : decode cX1_reached 24 = .ok (.if_icmp .ge 83, 3) := dk_162 0 83 (dk_at dksX1_reached_1 0 rfl rfl)
theorem dX1_reached_27 : decode cX1_reached 27 = .ok (.aload_n 0, 1) := dk_42 (dk_at dksX1_reached_1 3 rfl rfl)
theorem dX1_reached_28 : decode cX1_reached 28 = .ok (.aload_n 1, 1) := dk_43 (dk_at dksX1_reached_1 4 rfl rfl)
theorem dX1_reached_29 : decode cX1_reached 29 = .ok (.iload 5, 2) := dk_21 5 (dk_at dksX1_reached_1 5 rfl rfl)
theorem dX1_reached_31 : decode cX1_reached 31 = .ok (.iconst 0, 1) := dk_3 (dk_at dksX1_reached_1 7 rfl rfl)
theorem dX1_reached_32 : decode cX1_reached 32 = .ok (.iload_n 2, 1) := dk_28 (dk_at dksX1_reached_1 8 rfl rfl)
theorem dX1_reached_33 : decode cX1_reached 33 = .ok (.aload_n 3, 1) := dk_45 (dk_at dksX1_reached_1 9 rfl rfl)
theorem dX1_reached_34 : decode cX1_reached 34 = .ok (.invokevirtual 361, 3) := dk_182 1 105 (dk_at dksX1_reached_1 10 rfl rfl)
theorem dX1_reached_37 : decode cX1_reached 37 = .ok (.astore 6, 2) := dk_58 6 (dk_at dksX1_reached_1 13 rfl rfl)
theorem dX1_reached_39 : decode cX1_reached 39 = .ok (.new 94, 3) := dk_187 0 94 (dk_at dksX1_reached_1 15 rfl rfl)
theorem dX1_reached_42 : decode cX1_reached 42 = .ok (.dup, 1) := dk_89 (dk_at dksX1_reached_1 18 rfl rfl)
theorem dX1_reached_43 : decode cX1_reached 43 = .ok (.invokespecial 120, 3) := dk_183 0 120 (dk_at dksX1_reached_1 19 rfl rfl)
theorem dX1_reached_46 : decode cX1_reached 46 = .ok (.astore 7, 2) := dk_58 7 (dk_at dksX1_reached_1 22 rfl rfl)
theorem dX1_reached_48 : decode cX1_reached 48 = .ok (.iconst 0, 1) := dk_3 (dk_at dksX1_reached_2 0 rfl rfl)
theorem dX1_reached_49 : decode cX1_reached 49 = .ok (.istore 8, 2) := dk_54 8 (dk_at dksX1_reached_2 1 rfl rfl)
theorem dX1_reached_51 : decode cX1_reached 51 = .ok (.iload 8, 2) := dk_21 8 (dk_at dksX1_reached_2 3 rfl rfl)
theorem dX1_reached_53 : decode cX1_reached 53 = .ok (.aload_n 0, 1) := dk_42 (dk_at dksX1_reached_2 5 rfl rfl)
theorem dX1_reached_54 : decode cX1_reached 54 = .ok (.getfield 68, 3) := dk_180 0 68 (dk_at dksX1_reached_2 6 rfl rfl)
theorem dX1_reached_57 : decode cX1_reached 57 = .ok (.if_icmp .ge 36, 3) := dk_162 0 36 (dk_at dksX1_reached_2 9 rfl rfl)
theorem dX1_reached_60 : decode cX1_reached 60 = .ok (.iload 8, 2) := dk_21 8 (dk_at dksX1_reached_2 12 rfl rfl)
theorem dX1_reached_62 : decode cX1_reached 62 = .ok (.iload 5, 2) := dk_21 5 (dk_at dksX1_reached_2 14 rfl rfl)
theorem dX1_reached_64 : decode cX1_reached 64 = .ok (.if_icmp .eq 23, 3) := dk_159 0 23 (dk_at dksX1_reached_2 16 rfl rfl)
theorem dX1_reached_67 : decode cX1_reached 67 = .ok (.aload 6, 2) := dk_25 6 (dk_at dksX1_reached_2 19 rfl rfl)
theorem dX1_reached_69 : decode cX1_reached 69 = .ok (.getfield 372, 3) := dk_180 1 116 (dk_at dksX1_reached_2 21 rfl rfl)
theorem dX1_reached_72 : decode cX1_reached 72 = .ok (.iload 8, 2) := dk_21 8 (dk_at dksX1_reached_3 0 rfl rfl)
theorem dX1_reached_74 : decode cX1_reached 74 = .ok (.iaload, 1) := dk_46 (dk_at dksX1_reached_3 2 rfl rfl)
theorem dX1_reached_75 : decode cX1_reached 75 = .ok (.ldc 106, 2) := dk_18 106 (dk_at dksX1_reached_3 3 rfl rfl)
theorem dX1_reached_77 : decode cX1_reached 77 = .ok (.if_icmp .ge 10, 3) := dk_162 0 10 (dk_at dksX1_reached_3 5 rfl rfl)
theorem dX1_reached_80 : decode cX1_reached 80 = .ok (.aload 7, 2) := dk_25 7 (dk_at dksX1_reached_3 8 rfl rfl)
theorem dX1_reached_82 : decode cX1_reached 82 = .ok (.iload 8, 2) := dk_21 8 (dk_at dksX1_reached_3 10 rfl rfl)
theorem dX1_reached_84 : decode cX1_reached 84 = .ok (.invokevirtual 132, 3) := dk_182 0 132 (dk_at dksX1_reached_3 12 rfl rfl)
theorem dX1_reached_87 : decode cX1_reached 87 = .ok (.iinc 8 1, 3) := dk_132 8 1 (dk_at dksX1_reached_3 15 rfl rfl)
theorem dX1_reached_90 : decode cX1_reached 90 = .ok (.goto (-39), 3) := dk_167 255 217 (dk_at dksX1_reached_3 18 rfl rfl)
theorem dX1_reached_93 : decode cX1_reached 93 = .ok (.aload 4, 2) := dk_25 4 (dk_at dksX1_reached_3 21 rfl rfl)
theorem dX1_reached_95 : decode cX1_reached 95 = .ok (.aload 7, 2) := dk_25 7 (dk_at dksX1_reached_4 0 rfl rfl)
theorem dX1_reached_97 : decode cX1_reached 97 = .ok (.invokevirtual 121, 3) := dk_182 0 121 (dk_at dksX1_reached_4 2 rfl rfl)
theorem dX1_reached_100 : decode cX1_reached 100 = .ok (.pop, 1) := dk_87 (dk_at dksX1_reached_4 5 rfl rfl)
theorem dX1_reached_101 : decode cX1_reached 101 = .ok (.iinc 5 1, 3) := dk_132 5 1 (dk_at dksX1_reached_4 6 rfl rfl)
theorem dX1_reached_104 : decode cX1_reached 104 = .ok (.goto (-86), 3) := dk_167 255 170 (dk_at dksX1_reached_4 9 rfl rfl)
theorem dX1_reached_107 : decode cX1_reached 107 = .ok (.aload 4, 2) := dk_25 4 (dk_at dksX1_reached_4 12 rfl rfl)
theorem dX1_reached_109 : decode cX1_reached 109 = .ok (.areturn, 1) := dk_176 (dk_at dksX1_reached_4 14 rfl rfl)
abbrev cX1_lostBy : ByteArray := prog_1_method_92_code
def yX1_lostBy : MethodName := ⟨RX1, "lostBy", "(Ljava/util/List;Ljava/util/List;I)I"⟩
def dkwX1_lostBy_4 : List UInt8 := [167, 255, 178, 21, 5, 172]
abbrev dktX1_lostBy_4 : List UInt8 := dkwX1_lostBy_4 ++ []
def dkwX1_lostBy_3 : List UInt8 := [21, 5, 21, 6, 29, 160, 0, 7, 3, 167, 0, 8, 25, 7, 182, 0, 136, 96, 54, 5, 132, 6, 1]
abbrev dktX1_lostBy_3 : List UInt8 := dkwX1_lostBy_3 ++ dktX1_lostBy_4
def dkwX1_lostBy_2 : List UInt8 := [182, 2, 76, 25, 7, 25, 4, 21, 6, 182, 0, 79, 192, 0, 94, 182, 2, 80, 25, 7, 29, 182, 2, 83]
abbrev dktX1_lostBy_2 : List UInt8 := dkwX1_lostBy_2 ++ dktX1_lostBy_3
def dkwX1_lostBy_1 : List UInt8 := [187, 0, 94, 89, 183, 0, 120, 58, 7, 25, 7, 44, 21, 6, 185, 2, 13, 2, 0, 192, 0, 94]
abbrev dktX1_lostBy_1 : List UInt8 := dkwX1_lostBy_1 ++ dktX1_lostBy_2
def dkwX1_lostBy_0 : List UInt8 := [42, 43, 29, 182, 2, 72, 58, 4, 3, 54, 5, 3, 54, 6, 21, 6, 42, 180, 0, 68, 162, 0, 75]
abbrev dktX1_lostBy_0 : List UInt8 := dkwX1_lostBy_0 ++ dktX1_lostBy_1
theorem dksX1_lostBy_0 : cX1_lostBy.data.toList.drop 0 = dktX1_lostBy_0 := by decide +kernel
theorem dksX1_lostBy_1 : cX1_lostBy.data.toList.drop 23 = dktX1_lostBy_1 := dk_seg dksX1_lostBy_0 23 rfl rfl
theorem dksX1_lostBy_2 : cX1_lostBy.data.toList.drop 45 = dktX1_lostBy_2 := dk_seg dksX1_lostBy_1 22 rfl rfl
theorem dksX1_lostBy_3 : cX1_lostBy.data.toList.drop 69 = dktX1_lostBy_3 := dk_seg dksX1_lostBy_2 24 rfl rfl
theorem dksX1_lostBy_4 : cX1_lostBy.data.toList.drop 92 = dktX1_lostBy_4 := dk_seg dksX1_lostBy_3 23 rfl rfl
theorem dX1_lostBy_0 : decode cX1_lostBy 0 = .ok (.aload_n 0, 1) := dk_42 (dk_at dksX1_lostBy_0 0 rfl rfl)
theorem dX1_lostBy_1 : decode cX1_lostBy 1 = .ok (.aload_n 1, 1) := dk_43 (dk_at dksX1_lostBy_0 1 rfl rfl)
theorem dX1_lostBy_2 : decode cX1_lostBy 2 = .ok (.iload_n 3, 1) := dk_29 (dk_at dksX1_lostBy_0 2 rfl rfl)
theorem dX1_lostBy_3 : decode cX1_lostBy 3 = .ok (.invokevirtual 584, 3) := dk_182 2 72 (dk_at dksX1_lostBy_0 3 rfl rfl)
theorem dX1_lostBy_6 : decode cX1_lostBy 6 = .ok (.astore 4, 2) := dk_58 4 (dk_at dksX1_lostBy_0 6 rfl rfl)
theorem dX1_lostBy_8 : decode cX1_lostBy 8 = .ok (.iconst 0, 1) := dk_3 (dk_at dksX1_lostBy_0 8 rfl rfl)
theorem dX1_lostBy_9 : decode cX1_lostBy 9 = .ok (.istore 5, 2) := dk_54 5 (dk_at dksX1_lostBy_0 9 rfl rfl)
theorem dX1_lostBy_11 : decode cX1_lostBy 11 = .ok (.iconst 0, 1) := dk_3 (dk_at dksX1_lostBy_0 11 rfl rfl)
theorem dX1_lostBy_12 : decode cX1_lostBy 12 = .ok (.istore 6, 2) := dk_54 6 (dk_at dksX1_lostBy_0 12 rfl rfl)
theorem dX1_lostBy_14 : decode cX1_lostBy 14 = .ok (.iload 6, 2) := dk_21 6 (dk_at dksX1_lostBy_0 14 rfl rfl)
theorem dX1_lostBy_16 : decode cX1_lostBy 16 = .ok (.aload_n 0, 1) := dk_42 (dk_at dksX1_lostBy_0 16 rfl rfl)
theorem dX1_lostBy_17 : decode cX1_lostBy 17 = .ok (.getfield 68, 3) := dk_180 0 68 (dk_at dksX1_lostBy_0 17 rfl rfl)
theorem dX1_lostBy_20 : decode cX1_lostBy 20 = .ok (.if_icmp .ge 75, 3) := dk_162 0 75 (dk_at dksX1_lostBy_0 20 rfl rfl)
theorem dX1_lostBy_23 : decode cX1_lostBy 23 = .ok (.new 94, 3) := dk_187 0 94 (dk_at dksX1_lostBy_1 0 rfl rfl)
theorem dX1_lostBy_26 : decode cX1_lostBy 26 = .ok (.dup, 1) := dk_89 (dk_at dksX1_lostBy_1 3 rfl rfl)
theorem dX1_lostBy_27 : decode cX1_lostBy 27 = .ok (.invokespecial 120, 3) := dk_183 0 120 (dk_at dksX1_lostBy_1 4 rfl rfl)
theorem dX1_lostBy_30 : decode cX1_lostBy 30 = .ok (.astore 7, 2) := dk_58 7 (dk_at dksX1_lostBy_1 7 rfl rfl)
theorem dX1_lostBy_32 : decode cX1_lostBy 32 = .ok (.aload 7, 2) := dk_25 7 (dk_at dksX1_lostBy_1 9 rfl rfl)
theorem dX1_lostBy_34 : decode cX1_lostBy 34 = .ok (.aload_n 2, 1) := dk_44 (dk_at dksX1_lostBy_1 11 rfl rfl)
theorem dX1_lostBy_35 : decode cX1_lostBy 35 = .ok (.iload 6, 2) := dk_21 6 (dk_at dksX1_lostBy_1 12 rfl rfl)
theorem dX1_lostBy_37 : decode cX1_lostBy 37 = .ok (.invokeinterface 525 2, 5) := by decide +kernel
theorem dX1_lostBy_42 : decode cX1_lostBy 42 = .ok (.checkcast 94, 3) := dk_192 0 94 (dk_at dksX1_lostBy_1 19 rfl rfl)
theorem dX1_lostBy_45 : decode cX1_lostBy 45 = .ok (.invokevirtual 588, 3) := dk_182 2 76 (dk_at dksX1_lostBy_2 0 rfl rfl)
theorem dX1_lostBy_48 : decode cX1_lostBy 48 = .ok (.aload 7, 2) := dk_25 7 (dk_at dksX1_lostBy_2 3 rfl rfl)
theorem dX1_lostBy_50 : decode cX1_lostBy 50 = .ok (.aload 4, 2) := dk_25 4 (dk_at dksX1_lostBy_2 5 rfl rfl)
theorem dX1_lostBy_52 : decode cX1_lostBy 52 = .ok (.iload 6, 2) := dk_21 6 (dk_at dksX1_lostBy_2 7 rfl rfl)
theorem dX1_lostBy_54 : decode cX1_lostBy 54 = .ok (.invokevirtual 79, 3) := dk_182 0 79 (dk_at dksX1_lostBy_2 9 rfl rfl)
theorem dX1_lostBy_57 : decode cX1_lostBy 57 = .ok (.checkcast 94, 3) := dk_192 0 94 (dk_at dksX1_lostBy_2 12 rfl rfl)
theorem dX1_lostBy_60 : decode cX1_lostBy 60 = .ok (.invokevirtual 592, 3) := dk_182 2 80 (dk_at dksX1_lostBy_2 15 rfl rfl)
theorem dX1_lostBy_63 : decode cX1_lostBy 63 = .ok (.aload 7, 2) := dk_25 7 (dk_at dksX1_lostBy_2 18 rfl rfl)
theorem dX1_lostBy_65 : decode cX1_lostBy 65 = .ok (.iload_n 3, 1) := dk_29 (dk_at dksX1_lostBy_2 20 rfl rfl)
theorem dX1_lostBy_66 : decode cX1_lostBy 66 = .ok (.invokevirtual 595, 3) := dk_182 2 83 (dk_at dksX1_lostBy_2 21 rfl rfl)
theorem dX1_lostBy_69 : decode cX1_lostBy 69 = .ok (.iload 5, 2) := dk_21 5 (dk_at dksX1_lostBy_3 0 rfl rfl)
theorem dX1_lostBy_71 : decode cX1_lostBy 71 = .ok (.iload 6, 2) := dk_21 6 (dk_at dksX1_lostBy_3 2 rfl rfl)
theorem dX1_lostBy_73 : decode cX1_lostBy 73 = .ok (.iload_n 3, 1) := dk_29 (dk_at dksX1_lostBy_3 4 rfl rfl)
theorem dX1_lostBy_74 : decode cX1_lostBy 74 = .ok (.if_icmp .ne 7, 3) := dk_160 0 7 (dk_at dksX1_lostBy_3 5 rfl rfl)
theorem dX1_lostBy_77 : decode cX1_lostBy 77 = .ok (.iconst 0, 1) := dk_3 (dk_at dksX1_lostBy_3 8 rfl rfl)
theorem dX1_lostBy_78 : decode cX1_lostBy 78 = .ok (.goto 8, 3) := dk_167 0 8 (dk_at dksX1_lostBy_3 9 rfl rfl)
theorem dX1_lostBy_81 : decode cX1_lostBy 81 = .ok (.aload 7, 2) := dk_25 7 (dk_at dksX1_lostBy_3 12 rfl rfl)
theorem dX1_lostBy_83 : decode cX1_lostBy 83 = .ok (.invokevirtual 136, 3) := dk_182 0 136 (dk_at dksX1_lostBy_3 14 rfl rfl)
theorem dX1_lostBy_86 : decode cX1_lostBy 86 = .ok (.iadd, 1) := dk_96 (dk_at dksX1_lostBy_3 17 rfl rfl)
theorem dX1_lostBy_87 : decode cX1_lostBy 87 = .ok (.istore 5, 2) := dk_54 5 (dk_at dksX1_lostBy_3 18 rfl rfl)
theorem dX1_lostBy_89 : decode cX1_lostBy 89 = .ok (.iinc 6 1, 3) := dk_132 6 1 (dk_at dksX1_lostBy_3 20 rfl rfl)
theorem dX1_lostBy_92 : decode cX1_lostBy 92 = .ok (.goto (-78), 3) := dk_167 255 178 (dk_at dksX1_lostBy_4 0 rfl rfl)
theorem dX1_lostBy_95 : decode cX1_lostBy 95 = .ok (.iload 5, 2) := dk_21 5 (dk_at dksX1_lostBy_4 3 rfl rfl)
theorem dX1_lostBy_97 : decode cX1_lostBy 97 = .ok (.ireturn, 1) := dk_172 (dk_at dksX1_lostBy_4 5 rfl rfl)
abbrev cX1_bridges : ByteArray := prog_1_method_94_code
def yX1_bridges : MethodName := ⟨RX1, "bridges", "(I)I"⟩
def dkwX1_bridges_2 : List UInt8 := [158, 0, 10, 4, 21, 5, 120, 167, 0, 4, 3, 128, 54, 4, 132, 5, 1, 167, 255, 220, 21, 4, 172]
abbrev dktX1_bridges_2 : List UInt8 := dkwX1_bridges_2 ++ []
def dkwX1_bridges_1 : List UInt8 := [54, 4, 3, 54, 5, 21, 5, 42, 180, 0, 68, 162, 0, 33, 21, 4, 42, 44, 45, 21, 5, 182, 2, 85]
abbrev dktX1_bridges_1 : List UInt8 := dkwX1_bridges_1 ++ dktX1_bridges_2
def dkwX1_bridges_0 : List UInt8 := [27, 184, 0, 129, 184, 0, 96, 42, 27, 182, 1, 98, 184, 1, 101, 77, 42, 44, 2, 182, 2, 72, 78, 3]
abbrev dktX1_bridges_0 : List UInt8 := dkwX1_bridges_0 ++ dktX1_bridges_1
theorem dksX1_bridges_0 : cX1_bridges.data.toList.drop 0 = dktX1_bridges_0 := by decide +kernel
theorem dksX1_bridges_1 : cX1_bridges.data.toList.drop 24 = dktX1_bridges_1 := dk_seg dksX1_bridges_0 24 rfl rfl
theorem dksX1_bridges_2 : cX1_bridges.data.toList.drop 48 = dktX1_bridges_2 := dk_seg dksX1_bridges_1 24 rfl rfl
theorem dX1_bridges_0 : decode cX1_bridges 0 = .ok (.iload_n 1, 1) := dk_27 (dk_at dksX1_bridges_0 0 rfl rfl)
theorem dX1_bridges_1 : decode cX1_bridges 1 = .ok (.invokestatic 129, 3) := dk_184 0 129 (dk_at dksX1_bridges_0 1 rfl rfl)
theorem dX1_bridges_4 : decode cX1_bridges 4 = .ok (.invokestatic 96, 3) := dk_184 0 96 (dk_at dksX1_bridges_0 4 rfl rfl)
theorem dX1_bridges_7 : decode cX1_bridges 7 = .ok (.aload_n 0, 1) := dk_42 (dk_at dksX1_bridges_0 7 rfl rfl)
theorem dX1_bridges_8 : decode cX1_bridges 8 = .ok (.iload_n 1, 1) := dk_27 (dk_at dksX1_bridges_0 8 rfl rfl)
theorem dX1_bridges_9 : decode cX1_bridges 9 = .ok (.invokevirtual 354, 3) := dk_182 1 98 (dk_at dksX1_bridges_0 9 rfl rfl)
theorem dX1_bridges_12 : decode cX1_bridges 12 = .ok (.invokestatic 357, 3) := dk_184 1 101 (dk_at dksX1_bridges_0 12 rfl rfl)
theorem dX1_bridges_15 : decode cX1_bridges 15 = .ok (.astore_n 2, 1) := dk_77 (dk_at dksX1_bridges_0 15 rfl rfl)
theorem dX1_bridges_16 : decode cX1_bridges 16 = .ok (.aload_n 0, 1) := dk_42 (dk_at dksX1_bridges_0 16 rfl rfl)
theorem dX1_bridges_17 : decode cX1_bridges 17 = .ok (.aload_n 2, 1) := dk_44 (dk_at dksX1_bridges_0 17 rfl rfl)
theorem dX1_bridges_18 : decode cX1_bridges 18 = .ok (.iconst (-1), 1) := dk_2 (dk_at dksX1_bridges_0 18 rfl rfl)
theorem dX1_bridges_19 : decode cX1_bridges 19 = .ok (.invokevirtual 584, 3) := dk_182 2 72 (dk_at dksX1_bridges_0 19 rfl rfl)
theorem dX1_bridges_22 : decode cX1_bridges 22 = .ok (.astore_n 3, 1) := dk_78 (dk_at dksX1_bridges_0 22 rfl rfl)
theorem dX1_bridges_23 : decode cX1_bridges 23 = .ok (.iconst 0, 1) := dk_3 (dk_at dksX1_bridges_0 23 rfl rfl)
theorem dX1_bridges_24 : decode cX1_bridges 24 = .ok (.istore 4, 2) := dk_54 4 (dk_at dksX1_bridges_1 0 rfl rfl)
theorem dX1_bridges_26 : decode cX1_bridges 26 = .ok (.iconst 0, 1) := dk_3 (dk_at dksX1_bridges_1 2 rfl rfl)
theorem dX1_bridges_27 : decode cX1_bridges 27 = .ok (.istore 5, 2) := dk_54 5 (dk_at dksX1_bridges_1 3 rfl rfl)
theorem dX1_bridges_29 : decode cX1_bridges 29 = .ok (.iload 5, 2) := dk_21 5 (dk_at dksX1_bridges_1 5 rfl rfl)
theorem dX1_bridges_31 : decode cX1_bridges 31 = .ok (.aload_n 0, 1) := dk_42 (dk_at dksX1_bridges_1 7 rfl rfl)
theorem dX1_bridges_32 : decode cX1_bridges 32 = .ok (.getfield 68, 3) := dk_180 0 68 (dk_at dksX1_bridges_1 8 rfl rfl)
theorem dX1_bridges_35 : decode cX1_bridges 35 = .ok (.if_icmp .ge 33, 3) := dk_162 0 33 (dk_at dksX1_bridges_1 11 rfl rfl)
theorem dX1_bridges_38 : decode cX1_bridges 38 = .ok (.iload 4, 2) := dk_21 4 (dk_at dksX1_bridges_1 14 rfl rfl)
theorem dX1_bridges_40 : decode cX1_bridges 40 = .ok (.aload_n 0, 1) := dk_42 (dk_at dksX1_bridges_1 16 rfl rfl)
theorem dX1_bridges_41 : decode cX1_bridges 41 = .ok (.aload_n 2, 1) := dk_44 (dk_at dksX1_bridges_1 17 rfl rfl)
theorem dX1_bridges_42 : decode cX1_bridges 42 = .ok (.aload_n 3, 1) := dk_45 (dk_at dksX1_bridges_1 18 rfl rfl)
theorem dX1_bridges_43 : decode cX1_bridges 43 = .ok (.iload 5, 2) := dk_21 5 (dk_at dksX1_bridges_1 19 rfl rfl)
theorem dX1_bridges_45 : decode cX1_bridges 45 = .ok (.invokevirtual 597, 3) := dk_182 2 85 (dk_at dksX1_bridges_1 21 rfl rfl)
theorem dX1_bridges_48 : decode cX1_bridges 48 = .ok (.ifCond .le 10, 3) := dk_158 0 10 (dk_at dksX1_bridges_2 0 rfl rfl)
theorem dX1_bridges_51 : decode cX1_bridges 51 = .ok (.iconst 1, 1) := dk_4 (dk_at dksX1_bridges_2 3 rfl rfl)
theorem dX1_bridges_52 : decode cX1_bridges 52 = .ok (.iload 5, 2) := dk_21 5 (dk_at dksX1_bridges_2 4 rfl rfl)
theorem dX1_bridges_54 : decode cX1_bridges 54 = .ok (.ishl, 1) := dk_120 (dk_at dksX1_bridges_2 6 rfl rfl)
theorem dX1_bridges_55 : decode cX1_bridges 55 = .ok (.goto 4, 3) := dk_167 0 4 (dk_at dksX1_bridges_2 7 rfl rfl)
theorem dX1_bridges_58 : decode cX1_bridges 58 = .ok (.iconst 0, 1) := dk_3 (dk_at dksX1_bridges_2 10 rfl rfl)
theorem dX1_bridges_59 : decode cX1_bridges 59 = .ok (.ior, 1) := dk_128 (dk_at dksX1_bridges_2 11 rfl rfl)
theorem dX1_bridges_60 : decode cX1_bridges 60 = .ok (.istore 4, 2) := dk_54 4 (dk_at dksX1_bridges_2 12 rfl rfl)
theorem dX1_bridges_62 : decode cX1_bridges 62 = .ok (.iinc 5 1, 3) := dk_132 5 1 (dk_at dksX1_bridges_2 14 rfl rfl)
theorem dX1_bridges_65 : decode cX1_bridges 65 = .ok (.goto (-36), 3) := dk_167 255 220 (dk_at dksX1_bridges_2 17 rfl rfl)
theorem dX1_bridges_68 : decode cX1_bridges 68 = .ok (.iload 4, 2) := dk_21 4 (dk_at dksX1_bridges_2 20 rfl rfl)
theorem dX1_bridges_70 : decode cX1_bridges 70 = .ok (.ireturn, 1) := dk_172 (dk_at dksX1_bridges_2 22 rfl rfl)
abbrev cX1_vehicles : ByteArray := prog_1_method_98_code
def yX1_vehicles : MethodName := ⟨RX1, "vehicles", "(I)I"⟩
def dkwX1_vehicles_9 : List UInt8 := [163, 0, 9, 132, 8, 1, 132, 3, 255, 132, 11, 1, 167, 255, 213, 132, 4, 1, 167, 255, 53, 29, 172]
abbrev dktX1_vehicles_9 : List UInt8 := dkwX1_vehicles_9 ++ []
def dkwX1_vehicles_8 : List UInt8 := [21, 11, 46, 54, 12, 21, 8, 25, 7, 190, 162, 0, 21, 25, 7, 21, 8, 46, 8, 96, 21, 12]
abbrev dktX1_vehicles_8 : List UInt8 := dkwX1_vehicles_8 ++ dktX1_vehicles_9
def dkwX1_vehicles_7 : List UInt8 := [25, 6, 184, 2, 99, 58, 9, 25, 9, 190, 54, 10, 3, 54, 11, 21, 11, 21, 10, 162, 0, 42, 25, 9]
abbrev dktX1_vehicles_7 : List UInt8 := dkwX1_vehicles_7 ++ dktX1_vehicles_8
def dkwX1_vehicles_6 : List UInt8 := [182, 0, 160, 184, 0, 236, 182, 0, 121, 87, 167, 255, 163, 25, 5, 184, 2, 99, 58, 7, 3, 54, 8]
abbrev dktX1_vehicles_6 : List UInt8 := dkwX1_vehicles_6 ++ dktX1_vehicles_7
def dkwX1_vehicles_5 : List UInt8 := [182, 0, 163, 21, 4, 160, 0, 27, 25, 6, 25, 8, 180, 0, 89, 3, 182, 0, 79, 192, 0, 92]
abbrev dktX1_vehicles_5 : List UInt8 := dkwX1_vehicles_5 ++ dktX1_vehicles_6
def dkwX1_vehicles_4 : List UInt8 := [184, 2, 95, 184, 0, 236, 182, 0, 121, 87, 25, 8, 180, 0, 89, 3, 182, 0, 79, 192, 0, 92]
abbrev dktX1_vehicles_4 : List UInt8 := dkwX1_vehicles_4 ++ dktX1_vehicles_5
def dkwX1_vehicles_3 : List UInt8 := [192, 0, 83, 58, 8, 25, 8, 182, 0, 156, 182, 0, 163, 21, 4, 160, 0, 17, 25, 5, 25, 8]
abbrev dktX1_vehicles_3 : List UInt8 := dkwX1_vehicles_3 ++ dktX1_vehicles_4
def dkwX1_vehicles_2 : List UInt8 := [44, 182, 1, 142, 58, 7, 25, 7, 185, 1, 39, 1, 0, 153, 0, 89, 25, 7, 185, 1, 44, 1, 0]
abbrev dktX1_vehicles_2 : List UInt8 := dkwX1_vehicles_2 ++ dktX1_vehicles_3
def dkwX1_vehicles_1 : List UInt8 := [180, 0, 68, 162, 0, 200, 187, 0, 18, 89, 183, 0, 20, 58, 5, 187, 0, 18, 89, 183, 0, 20, 58, 6]
abbrev dktX1_vehicles_1 : List UInt8 := dkwX1_vehicles_1 ++ dktX1_vehicles_2
def dkwX1_vehicles_0 : List UInt8 := [27, 184, 0, 129, 184, 0, 96, 42, 27, 182, 2, 92, 77, 44, 182, 0, 71, 62, 3, 54, 4, 21, 4, 42]
abbrev dktX1_vehicles_0 : List UInt8 := dkwX1_vehicles_0 ++ dktX1_vehicles_1
theorem dksX1_vehicles_0 : cX1_vehicles.data.toList.drop 0 = dktX1_vehicles_0 := by decide +kernel
theorem dksX1_vehicles_1 : cX1_vehicles.data.toList.drop 24 = dktX1_vehicles_1 := dk_seg dksX1_vehicles_0 24 rfl rfl
theorem dksX1_vehicles_2 : cX1_vehicles.data.toList.drop 48 = dktX1_vehicles_2 := dk_seg dksX1_vehicles_1 24 rfl rfl
theorem dksX1_vehicles_3 : cX1_vehicles.data.toList.drop 71 = dktX1_vehicles_3 := dk_seg dksX1_vehicles_2 23 rfl rfl
theorem dksX1_vehicles_4 : cX1_vehicles.data.toList.drop 93 = dktX1_vehicles_4 := dk_seg dksX1_vehicles_3 22 rfl rfl
theorem dksX1_vehicles_5 : cX1_vehicles.data.toList.drop 115 = dktX1_vehicles_5 := dk_seg dksX1_vehicles_4 22 rfl rfl
theorem dksX1_vehicles_6 : cX1_vehicles.data.toList.drop 137 = dktX1_vehicles_6 := dk_seg dksX1_vehicles_5 22 rfl rfl
theorem dksX1_vehicles_7 : cX1_vehicles.data.toList.drop 160 = dktX1_vehicles_7 := dk_seg dksX1_vehicles_6 23 rfl rfl
theorem dksX1_vehicles_8 : cX1_vehicles.data.toList.drop 184 = dktX1_vehicles_8 := dk_seg dksX1_vehicles_7 24 rfl rfl
theorem dksX1_vehicles_9 : cX1_vehicles.data.toList.drop 206 = dktX1_vehicles_9 := dk_seg dksX1_vehicles_8 22 rfl rfl
theorem dX1_vehicles_0 : decode cX1_vehicles 0 = .ok (.iload_n 1, 1) := dk_27 (dk_at dksX1_vehicles_0 0 rfl rfl)
theorem dX1_vehicles_1 : decode cX1_vehicles 1 = .ok (.invokestatic 129, 3) := dk_184 0 129 (dk_at dksX1_vehicles_0 1 rfl rfl)
theorem dX1_vehicles_4 : decode cX1_vehicles 4 = .ok (.invokestatic 96, 3) := dk_184 0 96 (dk_at dksX1_vehicles_0 4 rfl rfl)
theorem dX1_vehicles_7 : decode cX1_vehicles 7 = .ok (.aload_n 0, 1) := dk_42 (dk_at dksX1_vehicles_0 7 rfl rfl)
theorem dX1_vehicles_8 : decode cX1_vehicles 8 = .ok (.iload_n 1, 1) := dk_27 (dk_at dksX1_vehicles_0 8 rfl rfl)
theorem dX1_vehicles_9 : decode cX1_vehicles 9 = .ok (.invokevirtual 604, 3) := dk_182 2 92 (dk_at dksX1_vehicles_0 9 rfl rfl)
theorem dX1_vehicles_12 : decode cX1_vehicles 12 = .ok (.astore_n 2, 1) := dk_77 (dk_at dksX1_vehicles_0 12 rfl rfl)
theorem dX1_vehicles_13 : decode cX1_vehicles 13 = .ok (.aload_n 2, 1) := dk_44 (dk_at dksX1_vehicles_0 13 rfl rfl)
theorem dX1_vehicles_14 : decode cX1_vehicles 14 = .ok (.invokevirtual 71, 3) := dk_182 0 71 (dk_at dksX1_vehicles_0 14 rfl rfl)
theorem dX1_vehicles_17 : decode cX1_vehicles 17 = .ok (.istore_n 3, 1) := dk_62 (dk_at dksX1_vehicles_0 17 rfl rfl)
theorem dX1_vehicles_18 : decode cX1_vehicles 18 = .ok (.iconst 0, 1) := dk_3 (dk_at dksX1_vehicles_0 18 rfl rfl)
theorem dX1_vehicles_19 : decode cX1_vehicles 19 = .ok (.istore 4, 2) := dk_54 4 (dk_at dksX1_vehicles_0 19 rfl rfl)
theorem dX1_vehicles_21 : decode cX1_vehicles 21 = .ok (.iload 4, 2) := dk_21 4 (dk_at dksX1_vehicles_0 21 rfl rfl)
theorem dX1_vehicles_23 : decode cX1_vehicles 23 = .ok (.aload_n 0, 1) := dk_42 (dk_at dksX1_vehicles_0 23 rfl rfl)
theorem dX1_vehicles_24 : decode cX1_vehicles 24 = .ok (.getfield 68, 3) := dk_180 0 68 (dk_at dksX1_vehicles_1 0 rfl rfl)
theorem dX1_vehicles_27 : decode cX1_vehicles 27 = .ok (.if_icmp .ge 200, 3) := dk_162 0 200 (dk_at dksX1_vehicles_1 3 rfl rfl)
theorem dX1_vehicles_30 : decode cX1_vehicles 30 = .ok (.new 18, 3) := dk_187 0 18 (dk_at dksX1_vehicles_1 6 rfl rfl)
theorem dX1_vehicles_33 : decode cX1_vehicles 33 = .ok (.dup, 1) := dk_89 (dk_at dksX1_vehicles_1 9 rfl rfl)
theorem dX1_vehicles_34 : decode cX1_vehicles 34 = .ok (.invokespecial 20, 3) := dk_183 0 20 (dk_at dksX1_vehicles_1 10 rfl rfl)
theorem dX1_vehicles_37 : decode cX1_vehicles 37 = .ok (.astore 5, 2) := dk_58 5 (dk_at dksX1_vehicles_1 13 rfl rfl)
theorem dX1_vehicles_39 : decode cX1_vehicles 39 = .ok (.new 18, 3) := dk_187 0 18 (dk_at dksX1_vehicles_1 15 rfl rfl)
theorem dX1_vehicles_42 : decode cX1_vehicles 42 = .ok (.dup, 1) := dk_89 (dk_at dksX1_vehicles_1 18 rfl rfl)
theorem dX1_vehicles_43 : decode cX1_vehicles 43 = .ok (.invokespecial 20, 3) := dk_183 0 20 (dk_at dksX1_vehicles_1 19 rfl rfl)
theorem dX1_vehicles_46 : decode cX1_vehicles 46 = .ok (.astore 6, 2) := dk_58 6 (dk_at dksX1_vehicles_1 22 rfl rfl)
theorem dX1_vehicles_48 : decode cX1_vehicles 48 = .ok (.aload_n 2, 1) := dk_44 (dk_at dksX1_vehicles_2 0 rfl rfl)
theorem dX1_vehicles_49 : decode cX1_vehicles 49 = .ok (.invokevirtual 398, 3) := dk_182 1 142 (dk_at dksX1_vehicles_2 1 rfl rfl)
theorem dX1_vehicles_52 : decode cX1_vehicles 52 = .ok (.astore 7, 2) := dk_58 7 (dk_at dksX1_vehicles_2 4 rfl rfl)
theorem dX1_vehicles_54 : decode cX1_vehicles 54 = .ok (.aload 7, 2) := dk_25 7 (dk_at dksX1_vehicles_2 6 rfl rfl)
theorem dX1_vehicles_56 : decode cX1_vehicles 56 = .ok (.invokeinterface 295 1, 5) := by decide +kernel
theorem dX1_vehicles_61 : decode cX1_vehicles 61 = .ok (.ifCond .eq 89, 3) := dk_153 0 89 (dk_at dksX1_vehicles_2 13 rfl rfl)
theorem dX1_vehicles_64 : decode cX1_vehicles 64 = .ok (.aload 7, 2) := dk_25 7 (dk_at dksX1_vehicles_2 16 rfl rfl)
theorem dX1_vehicles_66 : decode cX1_vehicles 66 = .ok (.invokeinterface 300 1, 5) := by decide +kernel
theorem dX1_vehicles_71 : decode cX1_vehicles 71 = .ok (.checkcast 83, 3) := dk_192 0 83 (dk_at dksX1_vehicles_3 0 rfl rfl)
theorem dX1_vehicles_74 : decode cX1_vehicles 74 = .ok (.astore 8, 2) := dk_58 8 (dk_at dksX1_vehicles_3 3 rfl rfl)
theorem dX1_vehicles_76 : decode cX1_vehicles 76 = .ok (.aload 8, 2) := dk_25 8 (dk_at dksX1_vehicles_3 5 rfl rfl)
theorem dX1_vehicles_78 : decode cX1_vehicles 78 = .ok (.invokevirtual 156, 3) := dk_182 0 156 (dk_at dksX1_vehicles_3 7 rfl rfl)
theorem dX1_vehicles_81 : decode cX1_vehicles 81 = .ok (.invokevirtual 163, 3) := dk_182 0 163 (dk_at dksX1_vehicles_3 10 rfl rfl)
theorem dX1_vehicles_84 : decode cX1_vehicles 84 = .ok (.iload 4, 2) := dk_21 4 (dk_at dksX1_vehicles_3 13 rfl rfl)
theorem dX1_vehicles_86 : decode cX1_vehicles 86 = .ok (.if_icmp .ne 17, 3) := dk_160 0 17 (dk_at dksX1_vehicles_3 15 rfl rfl)
theorem dX1_vehicles_89 : decode cX1_vehicles 89 = .ok (.aload 5, 2) := dk_25 5 (dk_at dksX1_vehicles_3 18 rfl rfl)
theorem dX1_vehicles_91 : decode cX1_vehicles 91 = .ok (.aload 8, 2) := dk_25 8 (dk_at dksX1_vehicles_3 20 rfl rfl)
theorem dX1_vehicles_93 : decode cX1_vehicles 93 = .ok (.invokestatic 607, 3) := dk_184 2 95 (dk_at dksX1_vehicles_4 0 rfl rfl)
theorem dX1_vehicles_96 : decode cX1_vehicles 96 = .ok (.invokestatic 236, 3) := dk_184 0 236 (dk_at dksX1_vehicles_4 3 rfl rfl)
theorem dX1_vehicles_99 : decode cX1_vehicles 99 = .ok (.invokevirtual 121, 3) := dk_182 0 121 (dk_at dksX1_vehicles_4 6 rfl rfl)
theorem dX1_vehicles_102 : decode cX1_vehicles 102 = .ok (.pop, 1) := dk_87 (dk_at dksX1_vehicles_4 9 rfl rfl)
theorem dX1_vehicles_103 : decode cX1_vehicles 103 = .ok (.aload 8, 2) := dk_25 8 (dk_at dksX1_vehicles_4 10 rfl rfl)
theorem dX1_vehicles_105 : decode cX1_vehicles 105 = .ok (.getfield 89, 3) := dk_180 0 89 (dk_at dksX1_vehicles_4 12 rfl rfl)
theorem dX1_vehicles_108 : decode cX1_vehicles 108 = .ok (.iconst 0, 1) := dk_3 (dk_at dksX1_vehicles_4 15 rfl rfl)
theorem dX1_vehicles_109 : decode cX1_vehicles 109 = .ok (.invokevirtual 79, 3) := dk_182 0 79 (dk_at dksX1_vehicles_4 16 rfl rfl)
theorem dX1_vehicles_112 : decode cX1_vehicles 112 = .ok (.checkcast 92, 3) := dk_192 0 92 (dk_at dksX1_vehicles_4 19 rfl rfl)
theorem dX1_vehicles_115 : decode cX1_vehicles 115 = .ok (.invokevirtual 163, 3) := dk_182 0 163 (dk_at dksX1_vehicles_5 0 rfl rfl)
theorem dX1_vehicles_118 : decode cX1_vehicles 118 = .ok (.iload 4, 2) := dk_21 4 (dk_at dksX1_vehicles_5 3 rfl rfl)
theorem dX1_vehicles_120 : decode cX1_vehicles 120 = .ok (.if_icmp .ne 27, 3) := dk_160 0 27 (dk_at dksX1_vehicles_5 5 rfl rfl)
theorem dX1_vehicles_123 : decode cX1_vehicles 123 = .ok (.aload 6, 2) := dk_25 6 (dk_at dksX1_vehicles_5 8 rfl rfl)
theorem dX1_vehicles_125 : decode cX1_vehicles 125 = .ok (.aload 8, 2) := dk_25 8 (dk_at dksX1_vehicles_5 10 rfl rfl)
theorem dX1_vehicles_127 : decode cX1_vehicles 127 = .ok (.getfield 89, 3) := dk_180 0 89 (dk_at dksX1_vehicles_5 12 rfl rfl)
theorem dX1_vehicles_130 : decode cX1_vehicles 130 = .ok (.iconst 0, 1) := dk_3 (dk_at dksX1_vehicles_5 15 rfl rfl)
theorem dX1_vehicles_131 : decode cX1_vehicles 131 = .ok (.invokevirtual 79, 3) := dk_182 0 79 (dk_at dksX1_vehicles_5 16 rfl rfl)
theorem dX1_vehicles_134 : decode cX1_vehicles 134 = .ok (.checkcast 92, 3) := dk_192 0 92 (dk_at dksX1_vehicles_5 19 rfl rfl)
theorem dX1_vehicles_137 : decode cX1_vehicles 137 = .ok (.invokevirtual 160, 3) := dk_182 0 160 (dk_at dksX1_vehicles_6 0 rfl rfl)
theorem dX1_vehicles_140 : decode cX1_vehicles 140 = .ok (.invokestatic 236, 3) := dk_184 0 236 (dk_at dksX1_vehicles_6 3 rfl rfl)
theorem dX1_vehicles_143 : decode cX1_vehicles 143 = .ok (.invokevirtual 121, 3) := dk_182 0 121 (dk_at dksX1_vehicles_6 6 rfl rfl)
theorem dX1_vehicles_146 : decode cX1_vehicles 146 = .ok (.pop, 1) := dk_87 (dk_at dksX1_vehicles_6 9 rfl rfl)
theorem dX1_vehicles_147 : decode cX1_vehicles 147 = .ok (.goto (-93), 3) := dk_167 255 163 (dk_at dksX1_vehicles_6 10 rfl rfl)
theorem dX1_vehicles_150 : decode cX1_vehicles 150 = .ok (.aload 5, 2) := dk_25 5 (dk_at dksX1_vehicles_6 13 rfl rfl)
theorem dX1_vehicles_152 : decode cX1_vehicles 152 = .ok (.invokestatic 611, 3) := dk_184 2 99 (dk_at dksX1_vehicles_6 15 rfl rfl)
theorem dX1_vehicles_155 : decode cX1_vehicles 155 = .ok (.astore 7, 2) := dk_58 7 (dk_at dksX1_vehicles_6 18 rfl rfl)
theorem dX1_vehicles_157 : decode cX1_vehicles 157 = .ok (.iconst 0, 1) := dk_3 (dk_at dksX1_vehicles_6 20 rfl rfl)
theorem dX1_vehicles_158 : decode cX1_vehicles 158 = .ok (.istore 8, 2) := dk_54 8 (dk_at dksX1_vehicles_6 21 rfl rfl)
theorem dX1_vehicles_160 : decode cX1_vehicles 160 = .ok (.aload 6, 2) := dk_25 6 (dk_at dksX1_vehicles_7 0 rfl rfl)
theorem dX1_vehicles_162 : decode cX1_vehicles 162 = .ok (.invokestatic 611, 3) := dk_184 2 99 (dk_at dksX1_vehicles_7 2 rfl rfl)
theorem dX1_vehicles_165 : decode cX1_vehicles 165 = .ok (.astore 9, 2) := dk_58 9 (dk_at dksX1_vehicles_7 5 rfl rfl)
theorem dX1_vehicles_167 : decode cX1_vehicles 167 = .ok (.aload 9, 2) := dk_25 9 (dk_at dksX1_vehicles_7 7 rfl rfl)
theorem dX1_vehicles_169 : decode cX1_vehicles 169 = .ok (.arraylength, 1) := dk_190 (dk_at dksX1_vehicles_7 9 rfl rfl)
theorem dX1_vehicles_170 : decode cX1_vehicles 170 = .ok (.istore 10, 2) := dk_54 10 (dk_at dksX1_vehicles_7 10 rfl rfl)
theorem dX1_vehicles_172 : decode cX1_vehicles 172 = .ok (.iconst 0, 1) := dk_3 (dk_at dksX1_vehicles_7 12 rfl rfl)
theorem dX1_vehicles_173 : decode cX1_vehicles 173 = .ok (.istore 11, 2) := dk_54 11 (dk_at dksX1_vehicles_7 13 rfl rfl)
theorem dX1_vehicles_175 : decode cX1_vehicles 175 = .ok (.iload 11, 2) := dk_21 11 (dk_at dksX1_vehicles_7 15 rfl rfl)
theorem dX1_vehicles_177 : decode cX1_vehicles 177 = .ok (.iload 10, 2) := dk_21 10 (dk_at dksX1_vehicles_7 17 rfl rfl)
theorem dX1_vehicles_179 : decode cX1_vehicles 179 = .ok (.if_icmp .ge 42, 3) := dk_162 0 42 (dk_at dksX1_vehicles_7 19 rfl rfl)
theorem dX1_vehicles_182 : decode cX1_vehicles 182 = .ok (.aload 9, 2) := dk_25 9 (dk_at dksX1_vehicles_7 22 rfl rfl)
theorem dX1_vehicles_184 : decode cX1_vehicles 184 = .ok (.iload 11, 2) := dk_21 11 (dk_at dksX1_vehicles_8 0 rfl rfl)
theorem dX1_vehicles_186 : decode cX1_vehicles 186 = .ok (.iaload, 1) := dk_46 (dk_at dksX1_vehicles_8 2 rfl rfl)
theorem dX1_vehicles_187 : decode cX1_vehicles 187 = .ok (.istore 12, 2) := dk_54 12 (dk_at dksX1_vehicles_8 3 rfl rfl)
theorem dX1_vehicles_189 : decode cX1_vehicles 189 = .ok (.iload 8, 2) := dk_21 8 (dk_at dksX1_vehicles_8 5 rfl rfl)
theorem dX1_vehicles_191 : decode cX1_vehicles 191 = .ok (.aload 7, 2) := dk_25 7 (dk_at dksX1_vehicles_8 7 rfl rfl)
theorem dX1_vehicles_193 : decode cX1_vehicles 193 = .ok (.arraylength, 1) := dk_190 (dk_at dksX1_vehicles_8 9 rfl rfl)
theorem dX1_vehicles_194 : decode cX1_vehicles 194 = .ok (.if_icmp .ge 21, 3) := dk_162 0 21 (dk_at dksX1_vehicles_8 10 rfl rfl)
theorem dX1_vehicles_197 : decode cX1_vehicles 197 = .ok (.aload 7, 2) := dk_25 7 (dk_at dksX1_vehicles_8 13 rfl rfl)
theorem dX1_vehicles_199 : decode cX1_vehicles 199 = .ok (.iload 8, 2) := dk_21 8 (dk_at dksX1_vehicles_8 15 rfl rfl)
theorem dX1_vehicles_201 : decode cX1_vehicles 201 = .ok (.iaload, 1) := dk_46 (dk_at dksX1_vehicles_8 17 rfl rfl)
theorem dX1_vehicles_202 : decode cX1_vehicles 202 = .ok (.iconst 5, 1) := dk_8 (dk_at dksX1_vehicles_8 18 rfl rfl)
theorem dX1_vehicles_203 : decode cX1_vehicles 203 = .ok (.iadd, 1) := dk_96 (dk_at dksX1_vehicles_8 19 rfl rfl)
theorem dX1_vehicles_204 : decode cX1_vehicles 204 = .ok (.iload 12, 2) := dk_21 12 (dk_at dksX1_vehicles_8 20 rfl rfl)
theorem dX1_vehicles_206 : decode cX1_vehicles 206 = .ok (.if_icmp .gt 9, 3) := dk_163 0 9 (dk_at dksX1_vehicles_9 0 rfl rfl)
theorem dX1_vehicles_209 : decode cX1_vehicles 209 = .ok (.iinc 8 1, 3) := dk_132 8 1 (dk_at dksX1_vehicles_9 3 rfl rfl)
theorem dX1_vehicles_212 : decode cX1_vehicles 212 = .ok (.iinc 3 (-1), 3) := dk_132 3 255 (dk_at dksX1_vehicles_9 6 rfl rfl)
theorem dX1_vehicles_215 : decode cX1_vehicles 215 = .ok (.iinc 11 1, 3) := dk_132 11 1 (dk_at dksX1_vehicles_9 9 rfl rfl)
theorem dX1_vehicles_218 : decode cX1_vehicles 218 = .ok (.goto (-43), 3) := dk_167 255 213 (dk_at dksX1_vehicles_9 12 rfl rfl)
theorem dX1_vehicles_221 : decode cX1_vehicles 221 = .ok (.iinc 4 1, 3) := dk_132 4 1 (dk_at dksX1_vehicles_9 15 rfl rfl)
theorem dX1_vehicles_224 : decode cX1_vehicles 224 = .ok (.goto (-203), 3) := dk_167 255 53 (dk_at dksX1_vehicles_9 18 rfl rfl)
theorem dX1_vehicles_227 : decode cX1_vehicles 227 = .ok (.iload_n 3, 1) := dk_29 (dk_at dksX1_vehicles_9 21 rfl rfl)
theorem dX1_vehicles_228 : decode cX1_vehicles 228 = .ok (.ireturn, 1) := dk_172 (dk_at dksX1_vehicles_9 22 rfl rfl)
abbrev cX1_tripsOn : ByteArray := prog_1_method_95_code
def yX1_tripsOn : MethodName := ⟨RX1, "tripsOn", "(I)Ljava/util/ArrayList;"⟩
def dkwX1_tripsOn_2 : List UInt8 := [132, 3, 1, 167, 255, 217, 44, 176]
abbrev dktX1_tripsOn_2 : List UInt8 := dkwX1_tripsOn_2 ++ []
def dkwX1_tripsOn_1 : List UInt8 := [182, 1, 20, 153, 0, 19, 44, 42, 180, 0, 25, 29, 182, 0, 79, 192, 0, 83, 182, 0, 121, 87]
abbrev dktX1_tripsOn_1 : List UInt8 := dkwX1_tripsOn_1 ++ dktX1_tripsOn_2
def dkwX1_tripsOn_0 : List UInt8 := [187, 0, 18, 89, 183, 0, 20, 77, 3, 62, 29, 42, 180, 0, 25, 182, 0, 71, 162, 0, 34, 42, 29, 27]
abbrev dktX1_tripsOn_0 : List UInt8 := dkwX1_tripsOn_0 ++ dktX1_tripsOn_1
theorem dksX1_tripsOn_0 : cX1_tripsOn.data.toList.drop 0 = dktX1_tripsOn_0 := by decide +kernel
theorem dksX1_tripsOn_1 : cX1_tripsOn.data.toList.drop 24 = dktX1_tripsOn_1 := dk_seg dksX1_tripsOn_0 24 rfl rfl
theorem dksX1_tripsOn_2 : cX1_tripsOn.data.toList.drop 46 = dktX1_tripsOn_2 := dk_seg dksX1_tripsOn_1 22 rfl rfl
theorem dX1_tripsOn_0 : decode cX1_tripsOn 0 = .ok (.new 18, 3) := dk_187 0 18 (dk_at dksX1_tripsOn_0 0 rfl rfl)
theorem dX1_tripsOn_3 : decode cX1_tripsOn 3 = .ok (.dup, 1) := dk_89 (dk_at dksX1_tripsOn_0 3 rfl rfl)
theorem dX1_tripsOn_4 : decode cX1_tripsOn 4 = .ok (.invokespecial 20, 3) := dk_183 0 20 (dk_at dksX1_tripsOn_0 4 rfl rfl)
theorem dX1_tripsOn_7 : decode cX1_tripsOn 7 = .ok (.astore_n 2, 1) := dk_77 (dk_at dksX1_tripsOn_0 7 rfl rfl)
theorem dX1_tripsOn_8 : decode cX1_tripsOn 8 = .ok (.iconst 0, 1) := dk_3 (dk_at dksX1_tripsOn_0 8 rfl rfl)
theorem dX1_tripsOn_9 : decode cX1_tripsOn 9 = .ok (.istore_n 3, 1) := dk_62 (dk_at dksX1_tripsOn_0 9 rfl rfl)
theorem dX1_tripsOn_10 : decode cX1_tripsOn 10 = .ok (.iload_n 3, 1) := dk_29 (dk_at dksX1_tripsOn_0 10 rfl rfl)
theorem dX1_tripsOn_11 : decode cX1_tripsOn 11 = .ok (.aload_n 0, 1) := dk_42 (dk_at dksX1_tripsOn_0 11 rfl rfl)
theorem dX1_tripsOn_12 : decode cX1_tripsOn 12 = .ok (.getfield 25, 3) := dk_180 0 25 (dk_at dksX1_tripsOn_0 12 rfl rfl)
theorem dX1_tripsOn_15 : decode cX1_tripsOn 15 = .ok (.invokevirtual 71, 3) := dk_182 0 71 (dk_at dksX1_tripsOn_0 15 rfl rfl)
theorem dX1_tripsOn_18 : decode cX1_tripsOn 18 = .ok (.if_icmp .ge 34, 3) := dk_162 0 34 (dk_at dksX1_tripsOn_0 18 rfl rfl)
theorem dX1_tripsOn_21 : decode cX1_tripsOn 21 = .ok (.aload_n 0, 1) := dk_42 (dk_at dksX1_tripsOn_0 21 rfl rfl)
theorem dX1_tripsOn_22 : decode cX1_tripsOn 22 = .ok (.iload_n 3, 1) := dk_29 (dk_at dksX1_tripsOn_0 22 rfl rfl)
theorem dX1_tripsOn_23 : decode cX1_tripsOn 23 = .ok (.iload_n 1, 1) := dk_27 (dk_at dksX1_tripsOn_0 23 rfl rfl)
theorem dX1_tripsOn_24 : decode cX1_tripsOn 24 = .ok (.invokevirtual 276, 3) := dk_182 1 20 (dk_at dksX1_tripsOn_1 0 rfl rfl)
theorem dX1_tripsOn_27 : decode cX1_tripsOn 27 = .ok (.ifCond .eq 19, 3) := dk_153 0 19 (dk_at dksX1_tripsOn_1 3 rfl rfl)
theorem dX1_tripsOn_30 : decode cX1_tripsOn 30 = .ok (.aload_n 2, 1) := dk_44 (dk_at dksX1_tripsOn_1 6 rfl rfl)
theorem dX1_tripsOn_31 : decode cX1_tripsOn 31 = .ok (.aload_n 0, 1) := dk_42 (dk_at dksX1_tripsOn_1 7 rfl rfl)
theorem dX1_tripsOn_32 : decode cX1_tripsOn 32 = .ok (.getfield 25, 3) := dk_180 0 25 (dk_at dksX1_tripsOn_1 8 rfl rfl)
theorem dX1_tripsOn_35 : decode cX1_tripsOn 35 = .ok (.iload_n 3, 1) := dk_29 (dk_at dksX1_tripsOn_1 11 rfl rfl)
theorem dX1_tripsOn_36 : decode cX1_tripsOn 36 = .ok (.invokevirtual 79, 3) := dk_182 0 79 (dk_at dksX1_tripsOn_1 12 rfl rfl)
theorem dX1_tripsOn_39 : decode cX1_tripsOn 39 = .ok (.checkcast 83, 3) := dk_192 0 83 (dk_at dksX1_tripsOn_1 15 rfl rfl)
theorem dX1_tripsOn_42 : decode cX1_tripsOn 42 = .ok (.invokevirtual 121, 3) := dk_182 0 121 (dk_at dksX1_tripsOn_1 18 rfl rfl)
theorem dX1_tripsOn_45 : decode cX1_tripsOn 45 = .ok (.pop, 1) := dk_87 (dk_at dksX1_tripsOn_1 21 rfl rfl)
theorem dX1_tripsOn_46 : decode cX1_tripsOn 46 = .ok (.iinc 3 1, 3) := dk_132 3 1 (dk_at dksX1_tripsOn_2 0 rfl rfl)
theorem dX1_tripsOn_49 : decode cX1_tripsOn 49 = .ok (.goto (-39), 3) := dk_167 255 217 (dk_at dksX1_tripsOn_2 3 rfl rfl)
theorem dX1_tripsOn_52 : decode cX1_tripsOn 52 = .ok (.aload_n 2, 1) := dk_44 (dk_at dksX1_tripsOn_2 6 rfl rfl)
theorem dX1_tripsOn_53 : decode cX1_tripsOn 53 = .ok (.areturn, 1) := dk_176 (dk_at dksX1_tripsOn_2 7 rfl rfl)
abbrev cX1_endOf : ByteArray := prog_1_method_96_code
def yX1_endOf : MethodName := ⟨RX1, "endOf", "(LLastbus$Trip;)I"⟩
def dkwX1_endOf_1 : List UInt8 := [182, 0, 156, 182, 0, 174, 172]
abbrev dktX1_endOf_1 : List UInt8 := dkwX1_endOf_1 ++ []
def dkwX1_endOf_0 : List UInt8 := [42, 180, 0, 89, 182, 0, 71, 4, 160, 0, 13, 42, 182, 0, 156, 182, 0, 160, 167, 0, 10, 42]
abbrev dktX1_endOf_0 : List UInt8 := dkwX1_endOf_0 ++ dktX1_endOf_1
theorem dksX1_endOf_0 : cX1_endOf.data.toList.drop 0 = dktX1_endOf_0 := by decide +kernel
theorem dksX1_endOf_1 : cX1_endOf.data.toList.drop 22 = dktX1_endOf_1 := dk_seg dksX1_endOf_0 22 rfl rfl
theorem dX1_endOf_0 : decode cX1_endOf 0 = .ok (.aload_n 0, 1) := dk_42 (dk_at dksX1_endOf_0 0 rfl rfl)
theorem dX1_endOf_1 : decode cX1_endOf 1 = .ok (.getfield 89, 3) := dk_180 0 89 (dk_at dksX1_endOf_0 1 rfl rfl)
theorem dX1_endOf_4 : decode cX1_endOf 4 = .ok (.invokevirtual 71, 3) := dk_182 0 71 (dk_at dksX1_endOf_0 4 rfl rfl)
theorem dX1_endOf_7 : decode cX1_endOf 7 = .ok (.iconst 1, 1) := dk_4 (dk_at dksX1_endOf_0 7 rfl rfl)
theorem dX1_endOf_8 : decode cX1_endOf 8 = .ok (.if_icmp .ne 13, 3) := dk_160 0 13 (dk_at dksX1_endOf_0 8 rfl rfl)
theorem dX1_endOf_11 : decode cX1_endOf 11 = .ok (.aload_n 0, 1) := dk_42 (dk_at dksX1_endOf_0 11 rfl rfl)
theorem dX1_endOf_12 : decode cX1_endOf 12 = .ok (.invokevirtual 156, 3) := dk_182 0 156 (dk_at dksX1_endOf_0 12 rfl rfl)
theorem dX1_endOf_15 : decode cX1_endOf 15 = .ok (.invokevirtual 160, 3) := dk_182 0 160 (dk_at dksX1_endOf_0 15 rfl rfl)
theorem dX1_endOf_18 : decode cX1_endOf 18 = .ok (.goto 10, 3) := dk_167 0 10 (dk_at dksX1_endOf_0 18 rfl rfl)
theorem dX1_endOf_21 : decode cX1_endOf 21 = .ok (.aload_n 0, 1) := dk_42 (dk_at dksX1_endOf_0 21 rfl rfl)
theorem dX1_endOf_22 : decode cX1_endOf 22 = .ok (.invokevirtual 156, 3) := dk_182 0 156 (dk_at dksX1_endOf_1 0 rfl rfl)
theorem dX1_endOf_25 : decode cX1_endOf 25 = .ok (.invokevirtual 174, 3) := dk_182 0 174 (dk_at dksX1_endOf_1 3 rfl rfl)
theorem dX1_endOf_28 : decode cX1_endOf 28 = .ok (.ireturn, 1) := dk_172 (dk_at dksX1_endOf_1 6 rfl rfl)
abbrev cX1_sorted : ByteArray := prog_1_method_97_code
def yX1_sorted : MethodName := ⟨RX1, "sorted", "(Ljava/util/List;)[I"⟩
def dkwX1_sorted_1 : List UInt8 := [185, 2, 13, 2, 0, 192, 0, 223, 182, 0, 225, 79, 132, 2, 1, 167, 255, 231, 43, 184, 2, 89, 43, 176]
abbrev dktX1_sorted_1 : List UInt8 := dkwX1_sorted_1 ++ []
def dkwX1_sorted_0 : List UInt8 := [42, 185, 2, 12, 1, 0, 188, 10, 76, 3, 61, 28, 43, 190, 162, 0, 25, 43, 28, 42, 28]
abbrev dktX1_sorted_0 : List UInt8 := dkwX1_sorted_0 ++ dktX1_sorted_1
theorem dksX1_sorted_0 : cX1_sorted.data.toList.drop 0 = dktX1_sorted_0 := by decide +kernel
theorem dksX1_sorted_1 : cX1_sorted.data.toList.drop 21 = dktX1_sorted_1 := dk_seg dksX1_sorted_0 21 rfl rfl
theorem dX1_sorted_0 : decode cX1_sorted 0 = .ok (.aload_n 0, 1) := dk_42 (dk_at dksX1_sorted_0 0 rfl rfl)
theorem dX1_sorted_1 : decode cX1_sorted 1 = .ok (.invokeinterface 524 1, 5) := by decide +kernel
theorem dX1_sorted_6 : decode cX1_sorted 6 = .ok (.newarray .int, 2) := dk_188_10 (dk_at dksX1_sorted_0 6 rfl rfl)
theorem dX1_sorted_8 : decode cX1_sorted 8 = .ok (.astore_n 1, 1) := dk_76 (dk_at dksX1_sorted_0 8 rfl rfl)
theorem dX1_sorted_9 : decode cX1_sorted 9 = .ok (.iconst 0, 1) := dk_3 (dk_at dksX1_sorted_0 9 rfl rfl)
theorem dX1_sorted_10 : decode cX1_sorted 10 = .ok (.istore_n 2, 1) := dk_61 (dk_at dksX1_sorted_0 10 rfl rfl)
theorem dX1_sorted_11 : decode cX1_sorted 11 = .ok (.iload_n 2, 1) := dk_28 (dk_at dksX1_sorted_0 11 rfl rfl)
theorem dX1_sorted_12 : decode cX1_sorted 12 = .ok (.aload_n 1, 1) := dk_43 (dk_at dksX1_sorted_0 12 rfl rfl)
theorem dX1_sorted_13 : decode cX1_sorted 13 = .ok (.arraylength, 1) := dk_190 (dk_at dksX1_sorted_0 13 rfl rfl)
theorem dX1_sorted_14 : decode cX1_sorted 14 = .ok (.if_icmp .ge 25, 3) := dk_162 0 25 (dk_at dksX1_sorted_0 14 rfl rfl)
theorem dX1_sorted_17 : decode cX1_sorted 17 = .ok (.aload_n 1, 1) := dk_43 (dk_at dksX1_sorted_0 17 rfl rfl)
theorem dX1_sorted_18 : decode cX1_sorted 18 = .ok (.iload_n 2, 1) := dk_28 (dk_at dksX1_sorted_0 18 rfl rfl)
theorem dX1_sorted_19 : decode cX1_sorted 19 = .ok (.aload_n 0, 1) := dk_42 (dk_at dksX1_sorted_0 19 rfl rfl)
theorem dX1_sorted_20 : decode cX1_sorted 20 = .ok (.iload_n 2, 1) := dk_28 (dk_at dksX1_sorted_0 20 rfl rfl)
theorem dX1_sorted_21 : decode cX1_sorted 21 = .ok (.invokeinterface 525 2, 5) := by decide +kernel
theorem dX1_sorted_26 : decode cX1_sorted 26 = .ok (.checkcast 223, 3) := dk_192 0 223 (dk_at dksX1_sorted_1 5 rfl rfl)
theorem dX1_sorted_29 : decode cX1_sorted 29 = .ok (.invokevirtual 225, 3) := dk_182 0 225 (dk_at dksX1_sorted_1 8 rfl rfl)
theorem dX1_sorted_32 : decode cX1_sorted 32 = .ok (.iastore, 1) := dk_79 (dk_at dksX1_sorted_1 11 rfl rfl)
theorem dX1_sorted_33 : decode cX1_sorted 33 = .ok (.iinc 2 1, 3) := dk_132 2 1 (dk_at dksX1_sorted_1 12 rfl rfl)
theorem dX1_sorted_36 : decode cX1_sorted 36 = .ok (.goto (-25), 3) := dk_167 255 231 (dk_at dksX1_sorted_1 15 rfl rfl)
theorem dX1_sorted_39 : decode cX1_sorted 39 = .ok (.aload_n 1, 1) := dk_43 (dk_at dksX1_sorted_1 18 rfl rfl)
theorem dX1_sorted_40 : decode cX1_sorted 40 = .ok (.invokestatic 601, 3) := dk_184 2 89 (dk_at dksX1_sorted_1 19 rfl rfl)
theorem dX1_sorted_43 : decode cX1_sorted 43 = .ok (.aload_n 1, 1) := dk_43 (dk_at dksX1_sorted_1 22 rfl rfl)
theorem dX1_sorted_44 : decode cX1_sorted 44 = .ok (.areturn, 1) := dk_176 (dk_at dksX1_sorted_1 23 rfl rfl)
abbrev cX1_vehiclesByMatching : ByteArray := prog_1_method_101_code
def yX1_vehiclesByMatching : MethodName := ⟨RX1, "vehiclesByMatching", "(I)I"⟩
def dkwX1_vehiclesByMatching_3 : List UInt8 := [167, 255, 217, 21, 4, 172]
abbrev dktX1_vehiclesByMatching_3 : List UInt8 := dkwX1_vehiclesByMatching_3 ++ []
def dkwX1_vehiclesByMatching_2 : List UInt8 := [89, 183, 0, 120, 21, 5, 184, 2, 107, 153, 0, 7, 4, 167, 0, 4, 3, 100, 54, 4, 132, 5, 1]
abbrev dktX1_vehiclesByMatching_2 : List UInt8 := dkwX1_vehiclesByMatching_2 ++ dktX1_vehiclesByMatching_3
def dkwX1_vehiclesByMatching_1 : List UInt8 := [182, 0, 71, 54, 4, 3, 54, 5, 21, 5, 44, 182, 0, 71, 162, 0, 36, 21, 4, 44, 45, 187, 0, 94]
abbrev dktX1_vehiclesByMatching_1 : List UInt8 := dkwX1_vehiclesByMatching_1 ++ dktX1_vehiclesByMatching_2
def dkwX1_vehiclesByMatching_0 : List UInt8 := [27, 184, 0, 129, 184, 0, 96, 42, 27, 182, 2, 92, 77, 16, 24, 188, 10, 78, 45, 2, 184, 1, 120, 44]
abbrev dktX1_vehiclesByMatching_0 : List UInt8 := dkwX1_vehiclesByMatching_0 ++ dktX1_vehiclesByMatching_1
theorem dksX1_vehiclesByMatching_0 : cX1_vehiclesByMatching.data.toList.drop 0 = dktX1_vehiclesByMatching_0 := by decide +kernel
theorem dksX1_vehiclesByMatching_1 : cX1_vehiclesByMatching.data.toList.drop 24 = dktX1_vehiclesByMatching_1 := dk_seg dksX1_vehiclesByMatching_0 24 rfl rfl
theorem dksX1_vehiclesByMatching_2 : cX1_vehiclesByMatching.data.toList.drop 48 = dktX1_vehiclesByMatching_2 := dk_seg dksX1_vehiclesByMatching_1 24 rfl rfl
theorem dksX1_vehiclesByMatching_3 : cX1_vehiclesByMatching.data.toList.drop 71 = dktX1_vehiclesByMatching_3 := dk_seg dksX1_vehiclesByMatching_2 23 rfl rfl
theorem dX1_vehiclesByMatching_0 : decode cX1_vehiclesByMatching 0 = .ok (.iload_n 1, 1) := dk_27 (dk_at dksX1_vehiclesByMatching_0 0 rfl rfl)
theorem dX1_vehiclesByMatching_1 : decode cX1_vehiclesByMatching 1 = .ok (.invokestatic 129, 3) := dk_184 0 129 (dk_at dksX1_vehiclesByMatching_0 1 rfl rfl)
theorem dX1_vehiclesByMatching_4 : decode cX1_vehiclesByMatching 4 = .ok (.invokestatic 96, 3) := dk_184 0 96 (dk_at dksX1_vehiclesByMatching_0 4 rfl rfl)
theorem dX1_vehiclesByMatching_7 : decode cX1_vehiclesByMatching 7 = .ok (.aload_n 0, 1) := dk_42 (dk_at dksX1_vehiclesByMatching_0 7 rfl rfl)
theorem dX1_vehiclesByMatching_8 : decode cX1_vehiclesByMatching 8 = .ok (.iload_n 1, 1) := dk_27 (dk_at dksX1_vehiclesByMatching_0 8 rfl rfl)
theorem dX1_vehiclesByMatching_9 : decode cX1_vehiclesByMatching 9 = .ok (.invokevirtual 604, 3) := dk_182 2 92 (dk_at dksX1_vehiclesByMatching_0 9 rfl rfl)
theorem dX1_vehiclesByMatching_12 : decode cX1_vehiclesByMatching 12 = .ok (.astore_n 2, 1) := dk_77 (dk_at dksX1_vehiclesByMatching_0 12 rfl rfl)
theorem dX1_vehiclesByMatching_13 : decode cX1_vehiclesByMatching 13 = .ok (.bipush 24, 2) := dk_16 24 (dk_at dksX1_vehiclesByMatching_0 13 rfl rfl)
theorem dX1_vehiclesByMatching_15 : decode cX1_vehiclesByMatching 15 = .ok (.newarray .int, 2) := dk_188_10 (dk_at dksX1_vehiclesByMatching_0 15 rfl rfl)
theorem dX1_vehiclesByMatching_17 : decode cX1_vehiclesByMatching 17 = .ok (.astore_n 3, 1) := dk_78 (dk_at dksX1_vehiclesByMatching_0 17 rfl rfl)
theorem dX1_vehiclesByMatching_18 : decode cX1_vehiclesByMatching 18 = .ok (.aload_n 3, 1) := dk_45 (dk_at dksX1_vehiclesByMatching_0 18 rfl rfl)
theorem dX1_vehiclesByMatching_19 : decode cX1_vehiclesByMatching 19 = .ok (.iconst (-1), 1) := dk_2 (dk_at dksX1_vehiclesByMatching_0 19 rfl rfl)
theorem dX1_vehiclesByMatching_20 : decode cX1_vehiclesByMatching 20 = .ok (.invokestatic 376, 3) := dk_184 1 120 (dk_at dksX1_vehiclesByMatching_0 20 rfl rfl)
theorem dX1_vehiclesByMatching_23 : decode cX1_vehiclesByMatching 23 = .ok (.aload_n 2, 1) := dk_44 (dk_at dksX1_vehiclesByMatching_0 23 rfl rfl)
theorem dX1_vehiclesByMatching_24 : decode cX1_vehiclesByMatching 24 = .ok (.invokevirtual 71, 3) := dk_182 0 71 (dk_at dksX1_vehiclesByMatching_1 0 rfl rfl)
theorem dX1_vehiclesByMatching_27 : decode cX1_vehiclesByMatching 27 = .ok (.istore 4, 2) := dk_54 4 (dk_at dksX1_vehiclesByMatching_1 3 rfl rfl)
theorem dX1_vehiclesByMatching_29 : decode cX1_vehiclesByMatching 29 = .ok (.iconst 0, 1) := dk_3 (dk_at dksX1_vehiclesByMatching_1 5 rfl rfl)
theorem dX1_vehiclesByMatching_30 : decode cX1_vehiclesByMatching 30 = .ok (.istore 5, 2) := dk_54 5 (dk_at dksX1_vehiclesByMatching_1 6 rfl rfl)
theorem dX1_vehiclesByMatching_32 : decode cX1_vehiclesByMatching 32 = .ok (.iload 5, 2) := dk_21 5 (dk_at dksX1_vehiclesByMatching_1 8 rfl rfl)
theorem dX1_vehiclesByMatching_34 : decode cX1_vehiclesByMatching 34 = .ok (.aload_n 2, 1) := dk_44 (dk_at dksX1_vehiclesByMatching_1 10 rfl rfl)
theorem dX1_vehiclesByMatching_35 : decode cX1_vehiclesByMatching 35 = .ok (.invokevirtual 71, 3) := dk_182 0 71 (dk_at dksX1_vehiclesByMatching_1 11 rfl rfl)
theorem dX1_vehiclesByMatching_38 : decode cX1_vehiclesByMatching 38 = .ok (.if_icmp .ge 36, 3) := dk_162 0 36 (dk_at dksX1_vehiclesByMatching_1 14 rfl rfl)
theorem dX1_vehiclesByMatching_41 : decode cX1_vehiclesByMatching 41 = .ok (.iload 4, 2) := dk_21 4 (dk_at dksX1_vehiclesByMatching_1 17 rfl rfl)
theorem dX1_vehiclesByMatching_43 : decode cX1_vehiclesByMatching 43 = .ok (.aload_n 2, 1) := dk_44 (dk_at dksX1_vehiclesByMatching_1 19 rfl rfl)
theorem dX1_vehiclesByMatching_44 : decode cX1_vehiclesByMatching 44 = .ok (.aload_n 3, 1) := dk_45 (dk_at dksX1_vehiclesByMatching_1 20 rfl rfl)
theorem dX1_vehiclesByMatching_45 : decode cX1_vehiclesByMatching 45 = .ok (.new 94, 3) := dk_187 0 94 (dk_at dksX1_vehiclesByMatching_1 21 rfl rfl)
theorem dX1_vehiclesByMatching_48 : decode cX1_vehiclesByMatching 48 = .ok (.dup, 1) := dk_89 (dk_at dksX1_vehiclesByMatching_2 0 rfl rfl)
theorem dX1_vehiclesByMatching_49 : decode cX1_vehiclesByMatching 49 = .ok (.invokespecial 120, 3) := dk_183 0 120 (dk_at dksX1_vehiclesByMatching_2 1 rfl rfl)
theorem dX1_vehiclesByMatching_52 : decode cX1_vehiclesByMatching 52 = .ok (.iload 5, 2) := dk_21 5 (dk_at dksX1_vehiclesByMatching_2 4 rfl rfl)
theorem dX1_vehiclesByMatching_54 : decode cX1_vehiclesByMatching 54 = .ok (.invokestatic 619, 3) := dk_184 2 107 (dk_at dksX1_vehiclesByMatching_2 6 rfl rfl)
theorem dX1_vehiclesByMatching_57 : decode cX1_vehiclesByMatching 57 = .ok (.ifCond .eq 7, 3) := dk_153 0 7 (dk_at dksX1_vehiclesByMatching_2 9 rfl rfl)
theorem dX1_vehiclesByMatching_60 : decode cX1_vehiclesByMatching 60 = .ok (.iconst 1, 1) := dk_4 (dk_at dksX1_vehiclesByMatching_2 12 rfl rfl)
theorem dX1_vehiclesByMatching_61 : decode cX1_vehiclesByMatching 61 = .ok (.goto 4, 3) := dk_167 0 4 (dk_at dksX1_vehiclesByMatching_2 13 rfl rfl)
theorem dX1_vehiclesByMatching_64 : decode cX1_vehiclesByMatching 64 = .ok (.iconst 0, 1) := dk_3 (dk_at dksX1_vehiclesByMatching_2 16 rfl rfl)
theorem dX1_vehiclesByMatching_65 : decode cX1_vehiclesByMatching 65 = .ok (.isub, 1) := dk_100 (dk_at dksX1_vehiclesByMatching_2 17 rfl rfl)
theorem dX1_vehiclesByMatching_66 : decode cX1_vehiclesByMatching 66 = .ok (.istore 4, 2) := dk_54 4 (dk_at dksX1_vehiclesByMatching_2 18 rfl rfl)
theorem dX1_vehiclesByMatching_68 : decode cX1_vehiclesByMatching 68 = .ok (.iinc 5 1, 3) := dk_132 5 1 (dk_at dksX1_vehiclesByMatching_2 20 rfl rfl)
theorem dX1_vehiclesByMatching_71 : decode cX1_vehiclesByMatching 71 = .ok (.goto (-39), 3) := dk_167 255 217 (dk_at dksX1_vehiclesByMatching_3 0 rfl rfl)
theorem dX1_vehiclesByMatching_74 : decode cX1_vehiclesByMatching 74 = .ok (.iload 4, 2) := dk_21 4 (dk_at dksX1_vehiclesByMatching_3 3 rfl rfl)
theorem dX1_vehiclesByMatching_76 : decode cX1_vehiclesByMatching 76 = .ok (.ireturn, 1) := dk_172 (dk_at dksX1_vehiclesByMatching_3 5 rfl rfl)
abbrev cX1_improves : ByteArray := prog_1_method_100_code
def yX1_improves : MethodName := ⟨RX1, "improves", "(Ljava/util/List;[ILjava/util/BitSet;I)Z"⟩
def dkwX1_improves_3 : List UInt8 := [184, 2, 107, 153, 0, 10, 43, 21, 4, 29, 79, 4, 172, 132, 4, 1, 167, 255, 172, 3, 172]
abbrev dktX1_improves_3 : List UInt8 := dkwX1_improves_3 ++ []
def dkwX1_improves_2 : List UInt8 := [153, 0, 37, 44, 21, 4, 182, 0, 132, 43, 21, 4, 46, 2, 159, 0, 16, 42, 43, 44, 43, 21, 4, 46]
abbrev dktX1_improves_2 : List UInt8 := dkwX1_improves_2 ++ dktX1_improves_3
def dkwX1_improves_1 : List UInt8 := [29, 185, 2, 13, 2, 0, 192, 0, 83, 42, 21, 4, 185, 2, 13, 2, 0, 192, 0, 83, 184, 2, 103]
abbrev dktX1_improves_1 : List UInt8 := dkwX1_improves_1 ++ dktX1_improves_2
def dkwX1_improves_0 : List UInt8 := [3, 54, 4, 21, 4, 42, 185, 2, 12, 1, 0, 162, 0, 79, 44, 21, 4, 182, 0, 139, 154, 0, 64, 42]
abbrev dktX1_improves_0 : List UInt8 := dkwX1_improves_0 ++ dktX1_improves_1
theorem dksX1_improves_0 : cX1_improves.data.toList.drop 0 = dktX1_improves_0 := by decide +kernel
theorem dksX1_improves_1 : cX1_improves.data.toList.drop 24 = dktX1_improves_1 := dk_seg dksX1_improves_0 24 rfl rfl
theorem dksX1_improves_2 : cX1_improves.data.toList.drop 47 = dktX1_improves_2 := dk_seg dksX1_improves_1 23 rfl rfl
theorem dksX1_improves_3 : cX1_improves.data.toList.drop 71 = dktX1_improves_3 := dk_seg dksX1_improves_2 24 rfl rfl
theorem dX1_improves_0 : decode cX1_improves 0 = .ok (.iconst 0, 1) := dk_3 (dk_at dksX1_improves_0 0 rfl rfl)
theorem dX1_improves_1 : decode cX1_improves 1 = .ok (.istore 4, 2) := dk_54 4 (dk_at dksX1_improves_0 1 rfl rfl)
theorem dX1_improves_3 : decode cX1_improves 3 = .ok (.iload 4, 2) := dk_21 4 (dk_at dksX1_improves_0 3 rfl rfl)
theorem dX1_improves_5 : decode cX1_improves 5 = .ok (.aload_n 0, 1) := dk_42 (dk_at dksX1_improves_0 5 rfl rfl)
theorem dX1_improves_6 : decode cX1_improves 6 = .ok (.invokeinterface 524 1, 5) := by decide +kernel
theorem dX1_improves_11 : decode cX1_improves 11 = .ok (.if_icmp .ge 79, 3) := dk_162 0 79 (dk_at dksX1_improves_0 11 rfl rfl)
theorem dX1_improves_14 : decode cX1_improves 14 = .ok (.aload_n 2, 1) := dk_44 (dk_at dksX1_improves_0 14 rfl rfl)
theorem dX1_improves_15 : decode cX1_improves 15 = .ok (.iload 4, 2) := dk_21 4 (dk_at dksX1_improves_0 15 rfl rfl)
theorem dX1_improves_17 : decode cX1_improves 17 = .ok (.invokevirtual 139, 3) := dk_182 0 139 (dk_at dksX1_improves_0 17 rfl rfl)
theorem dX1_improves_20 : decode cX1_improves 20 = .ok (.ifCond .ne 64, 3) := dk_154 0 64 (dk_at dksX1_improves_0 20 rfl rfl)
theorem dX1_improves_23 : decode cX1_improves 23 = .ok (.aload_n 0, 1) := dk_42 (dk_at dksX1_improves_0 23 rfl rfl)
theorem dX1_improves_24 : decode cX1_improves 24 = .ok (.iload_n 3, 1) := dk_29 (dk_at dksX1_improves_1 0 rfl rfl)
theorem dX1_improves_25 : decode cX1_improves 25 = .ok (.invokeinterface 525 2, 5) := by decide +kernel
theorem dX1_improves_30 : decode cX1_improves 30 = .ok (.checkcast 83, 3) := dk_192 0 83 (dk_at dksX1_improves_1 6 rfl rfl)
theorem dX1_improves_33 : decode cX1_improves 33 = .ok (.aload_n 0, 1) := dk_42 (dk_at dksX1_improves_1 9 rfl rfl)
theorem dX1_improves_34 : decode cX1_improves 34 = .ok (.iload 4, 2) := dk_21 4 (dk_at dksX1_improves_1 10 rfl rfl)
theorem dX1_improves_36 : decode cX1_improves 36 = .ok (.invokeinterface 525 2, 5) := by decide +kernel
theorem dX1_improves_41 : decode cX1_improves 41 = .ok (.checkcast 83, 3) := dk_192 0 83 (dk_at dksX1_improves_1 17 rfl rfl)
theorem dX1_improves_44 : decode cX1_improves 44 = .ok (.invokestatic 615, 3) := dk_184 2 103 (dk_at dksX1_improves_1 20 rfl rfl)
theorem dX1_improves_47 : decode cX1_improves 47 = .ok (.ifCond .eq 37, 3) := dk_153 0 37 (dk_at dksX1_improves_2 0 rfl rfl)
theorem dX1_improves_50 : decode cX1_improves 50 = .ok (.aload_n 2, 1) := dk_44 (dk_at dksX1_improves_2 3 rfl rfl)
theorem dX1_improves_51 : decode cX1_improves 51 = .ok (.iload 4, 2) := dk_21 4 (dk_at dksX1_improves_2 4 rfl rfl)
theorem dX1_improves_53 : decode cX1_improves 53 = .ok (.invokevirtual 132, 3) := dk_182 0 132 (dk_at dksX1_improves_2 6 rfl rfl)
theorem dX1_improves_56 : decode cX1_improves 56 = .ok (.aload_n 1, 1) := dk_43 (dk_at dksX1_improves_2 9 rfl rfl)
theorem dX1_improves_57 : decode cX1_improves 57 = .ok (.iload 4, 2) := dk_21 4 (dk_at dksX1_improves_2 10 rfl rfl)
theorem dX1_improves_59 : decode cX1_improves 59 = .ok (.iaload, 1) := dk_46 (dk_at dksX1_improves_2 12 rfl rfl)
theorem dX1_improves_60 : decode cX1_improves 60 = .ok (.iconst (-1), 1) := dk_2 (dk_at dksX1_improves_2 13 rfl rfl)
theorem dX1_improves_61 : decode cX1_improves 61 = .ok (.if_icmp .eq 16, 3) := dk_159 0 16 (dk_at dksX1_improves_2 14 rfl rfl)
theorem dX1_improves_64 : decode cX1_improves 64 = .ok (.aload_n 0, 1) := dk_42 (dk_at dksX1_improves_2 17 rfl rfl)
theorem dX1_improves_65 : decode cX1_improves 65 = .ok (.aload_n 1, 1) := dk_43 (dk_at dksX1_improves_2 18 rfl rfl)
theorem dX1_improves_66 : decode cX1_improves 66 = .ok (.aload_n 2, 1) := dk_44 (dk_at dksX1_improves_2 19 rfl rfl)
theorem dX1_improves_67 : decode cX1_improves 67 = .ok (.aload_n 1, 1) := dk_43 (dk_at dksX1_improves_2 20 rfl rfl)
theorem dX1_improves_68 : decode cX1_improves 68 = .ok (.iload 4, 2) := dk_21 4 (dk_at dksX1_improves_2 21 rfl rfl)
theorem dX1_improves_70 : decode cX1_improves 70 = .ok (.iaload, 1) := dk_46 (dk_at dksX1_improves_2 23 rfl rfl)
theorem dX1_improves_71 : decode cX1_improves 71 = .ok (.invokestatic 619, 3) := dk_184 2 107 (dk_at dksX1_improves_3 0 rfl rfl)
theorem dX1_improves_74 : decode cX1_improves 74 = .ok (.ifCond .eq 10, 3) := dk_153 0 10 (dk_at dksX1_improves_3 3 rfl rfl)
theorem dX1_improves_77 : decode cX1_improves 77 = .ok (.aload_n 1, 1) := dk_43 (dk_at dksX1_improves_3 6 rfl rfl)
theorem dX1_improves_78 : decode cX1_improves 78 = .ok (.iload 4, 2) := dk_21 4 (dk_at dksX1_improves_3 7 rfl rfl)
theorem dX1_improves_80 : decode cX1_improves 80 = .ok (.iload_n 3, 1) := dk_29 (dk_at dksX1_improves_3 9 rfl rfl)
theorem dX1_improves_81 : decode cX1_improves 81 = .ok (.iastore, 1) := dk_79 (dk_at dksX1_improves_3 10 rfl rfl)
theorem dX1_improves_82 : decode cX1_improves 82 = .ok (.iconst 1, 1) := dk_4 (dk_at dksX1_improves_3 11 rfl rfl)
theorem dX1_improves_83 : decode cX1_improves 83 = .ok (.ireturn, 1) := dk_172 (dk_at dksX1_improves_3 12 rfl rfl)
theorem dX1_improves_84 : decode cX1_improves 84 = .ok (.iinc 4 1, 3) := dk_132 4 1 (dk_at dksX1_improves_3 13 rfl rfl)
theorem dX1_improves_87 : decode cX1_improves 87 = .ok (.goto (-84), 3) := dk_167 255 172 (dk_at dksX1_improves_3 16 rfl rfl)
theorem dX1_improves_90 : decode cX1_improves 90 = .ok (.iconst 0, 1) := dk_3 (dk_at dksX1_improves_3 19 rfl rfl)
theorem dX1_improves_91 : decode cX1_improves 91 = .ok (.ireturn, 1) := dk_172 (dk_at dksX1_improves_3 20 rfl rfl)
abbrev cX1_canFollow : ByteArray := prog_1_method_99_code
def yX1_canFollow : MethodName := ⟨RX1, "canFollow", "(LLastbus$Trip;LLastbus$Trip;)Z"⟩
def dkwX1_canFollow_2 : List UInt8 := [167, 0, 4, 3, 172]
abbrev dktX1_canFollow_2 : List UInt8 := dkwX1_canFollow_2 ++ []
def dkwX1_canFollow_1 : List UInt8 := [42, 184, 2, 95, 8, 96, 43, 180, 0, 89, 3, 182, 0, 79, 192, 0, 92, 182, 0, 160, 163, 0, 7, 4]
abbrev dktX1_canFollow_1 : List UInt8 := dkwX1_canFollow_1 ++ dktX1_canFollow_2
def dkwX1_canFollow_0 : List UInt8 := [42, 182, 0, 156, 182, 0, 163, 43, 180, 0, 89, 3, 182, 0, 79, 192, 0, 92, 182, 0, 163, 160, 0, 30]
abbrev dktX1_canFollow_0 : List UInt8 := dkwX1_canFollow_0 ++ dktX1_canFollow_1
theorem dksX1_canFollow_0 : cX1_canFollow.data.toList.drop 0 = dktX1_canFollow_0 := by decide +kernel
theorem dksX1_canFollow_1 : cX1_canFollow.data.toList.drop 24 = dktX1_canFollow_1 := dk_seg dksX1_canFollow_0 24 rfl rfl
theorem dksX1_canFollow_2 : cX1_canFollow.data.toList.drop 48 = dktX1_canFollow_2 := dk_seg dksX1_canFollow_1 24 rfl rfl
theorem dX1_canFollow_0 : decode cX1_canFollow 0 = .ok (.aload_n 0, 1) := dk_42 (dk_at dksX1_canFollow_0 0 rfl rfl)
theorem dX1_canFollow_1 : decode cX1_canFollow 1 = .ok (.invokevirtual 156, 3) := dk_182 0 156 (dk_at dksX1_canFollow_0 1 rfl rfl)
theorem dX1_canFollow_4 : decode cX1_canFollow 4 = .ok (.invokevirtual 163, 3) := dk_182 0 163 (dk_at dksX1_canFollow_0 4 rfl rfl)
theorem dX1_canFollow_7 : decode cX1_canFollow 7 = .ok (.aload_n 1, 1) := dk_43 (dk_at dksX1_canFollow_0 7 rfl rfl)
theorem dX1_canFollow_8 : decode cX1_canFollow 8 = .ok (.getfield 89, 3) := dk_180 0 89 (dk_at dksX1_canFollow_0 8 rfl rfl)
theorem dX1_canFollow_11 : decode cX1_canFollow 11 = .ok (.iconst 0, 1) := dk_3 (dk_at dksX1_canFollow_0 11 rfl rfl)
theorem dX1_canFollow_12 : decode cX1_canFollow 12 = .ok (.invokevirtual 79, 3) := dk_182 0 79 (dk_at dksX1_canFollow_0 12 rfl rfl)
theorem dX1_canFollow_15 : decode cX1_canFollow 15 = .ok (.checkcast 92, 3) := dk_192 0 92 (dk_at dksX1_canFollow_0 15 rfl rfl)
theorem dX1_canFollow_18 : decode cX1_canFollow 18 = .ok (.invokevirtual 163, 3) := dk_182 0 163 (dk_at dksX1_canFollow_0 18 rfl rfl)
theorem dX1_canFollow_21 : decode cX1_canFollow 21 = .ok (.if_icmp .ne 30, 3) := dk_160 0 30 (dk_at dksX1_canFollow_0 21 rfl rfl)
theorem dX1_canFollow_24 : decode cX1_canFollow 24 = .ok (.aload_n 0, 1) := dk_42 (dk_at dksX1_canFollow_1 0 rfl rfl)
theorem dX1_canFollow_25 : decode cX1_canFollow 25 = .ok (.invokestatic 607, 3) := dk_184 2 95 (dk_at dksX1_canFollow_1 1 rfl rfl)
theorem dX1_canFollow_28 : decode cX1_canFollow 28 = .ok (.iconst 5, 1) := dk_8 (dk_at dksX1_canFollow_1 4 rfl rfl)
theorem dX1_canFollow_29 : decode cX1_canFollow 29 = .ok (.iadd, 1) := dk_96 (dk_at dksX1_canFollow_1 5 rfl rfl)
theorem dX1_canFollow_30 : decode cX1_canFollow 30 = .ok (.aload_n 1, 1) := dk_43 (dk_at dksX1_canFollow_1 6 rfl rfl)
theorem dX1_canFollow_31 : decode cX1_canFollow 31 = .ok (.getfield 89, 3) := dk_180 0 89 (dk_at dksX1_canFollow_1 7 rfl rfl)
theorem dX1_canFollow_34 : decode cX1_canFollow 34 = .ok (.iconst 0, 1) := dk_3 (dk_at dksX1_canFollow_1 10 rfl rfl)
theorem dX1_canFollow_35 : decode cX1_canFollow 35 = .ok (.invokevirtual 79, 3) := dk_182 0 79 (dk_at dksX1_canFollow_1 11 rfl rfl)
theorem dX1_canFollow_38 : decode cX1_canFollow 38 = .ok (.checkcast 92, 3) := dk_192 0 92 (dk_at dksX1_canFollow_1 14 rfl rfl)
theorem dX1_canFollow_41 : decode cX1_canFollow 41 = .ok (.invokevirtual 160, 3) := dk_182 0 160 (dk_at dksX1_canFollow_1 17 rfl rfl)
theorem dX1_canFollow_44 : decode cX1_canFollow 44 = .ok (.if_icmp .gt 7, 3) := dk_163 0 7 (dk_at dksX1_canFollow_1 20 rfl rfl)
theorem dX1_canFollow_47 : decode cX1_canFollow 47 = .ok (.iconst 1, 1) := dk_4 (dk_at dksX1_canFollow_1 23 rfl rfl)
theorem dX1_canFollow_48 : decode cX1_canFollow 48 = .ok (.goto 4, 3) := dk_167 0 4 (dk_at dksX1_canFollow_2 0 rfl rfl)
theorem dX1_canFollow_51 : decode cX1_canFollow 51 = .ok (.iconst 0, 1) := dk_3 (dk_at dksX1_canFollow_2 3 rfl rfl)
theorem dX1_canFollow_52 : decode cX1_canFollow 52 = .ok (.ireturn, 1) := dk_172 (dk_at dksX1_canFollow_2 4 rfl rfl)
abbrev cX1_gains : ByteArray := prog_1_method_104_code
def yX1_gains : MethodName := ⟨RX1, "gains", "(IIII)I"⟩
def dkwX1_gains_0 : List UInt8 := [42, 42, 27, 28, 29, 21, 4, 182, 2, 111, 42, 29, 182, 1, 98, 21, 4, 182, 2, 114, 172]
abbrev dktX1_gains_0 : List UInt8 := dkwX1_gains_0 ++ []
theorem dksX1_gains_0 : cX1_gains.data.toList.drop 0 = dktX1_gains_0 := by decide +kernel
theorem dX1_gains_0 : decode cX1_gains 0 = .ok (.aload_n 0, 1) := dk_42 (dk_at dksX1_gains_0 0 rfl rfl)
theorem dX1_gains_1 : decode cX1_gains 1 = .ok (.aload_n 0, 1) := dk_42 (dk_at dksX1_gains_0 1 rfl rfl)
theorem dX1_gains_2 : decode cX1_gains 2 = .ok (.iload_n 1, 1) := dk_27 (dk_at dksX1_gains_0 2 rfl rfl)
theorem dX1_gains_3 : decode cX1_gains 3 = .ok (.iload_n 2, 1) := dk_28 (dk_at dksX1_gains_0 3 rfl rfl)
theorem dX1_gains_4 : decode cX1_gains 4 = .ok (.iload_n 3, 1) := dk_29 (dk_at dksX1_gains_0 4 rfl rfl)
theorem dX1_gains_5 : decode cX1_gains 5 = .ok (.iload 4, 2) := dk_21 4 (dk_at dksX1_gains_0 5 rfl rfl)
theorem dX1_gains_7 : decode cX1_gains 7 = .ok (.invokevirtual 623, 3) := dk_182 2 111 (dk_at dksX1_gains_0 7 rfl rfl)
theorem dX1_gains_10 : decode cX1_gains 10 = .ok (.aload_n 0, 1) := dk_42 (dk_at dksX1_gains_0 10 rfl rfl)
theorem dX1_gains_11 : decode cX1_gains 11 = .ok (.iload_n 3, 1) := dk_29 (dk_at dksX1_gains_0 11 rfl rfl)
theorem dX1_gains_12 : decode cX1_gains 12 = .ok (.invokevirtual 354, 3) := dk_182 1 98 (dk_at dksX1_gains_0 12 rfl rfl)
theorem dX1_gains_15 : decode cX1_gains 15 = .ok (.iload 4, 2) := dk_21 4 (dk_at dksX1_gains_0 15 rfl rfl)
theorem dX1_gains_17 : decode cX1_gains 17 = .ok (.invokevirtual 626, 3) := dk_182 2 114 (dk_at dksX1_gains_0 17 rfl rfl)
theorem dX1_gains_20 : decode cX1_gains 20 = .ok (.ireturn, 1) := dk_172 (dk_at dksX1_gains_0 20 rfl rfl)
abbrev cX1_shiftedRuns : ByteArray := prog_1_method_103_code
def yX1_shiftedRuns : MethodName := ⟨RX1, "shiftedRuns", "(IIII)Ljava/util/ArrayList;"⟩
def dkwX1_shiftedRuns_2 : List UInt8 := [4, 167, 0, 4, 3, 184, 0, 96, 42, 29, 27, 25, 5, 28, 182, 0, 180, 182, 1, 29, 176]
abbrev dktX1_shiftedRuns_2 : List UInt8 := dkwX1_shiftedRuns_2 ++ []
def dkwX1_shiftedRuns_1 : List UInt8 := [153, 0, 28, 21, 4, 3, 17, 5, 159, 184, 0, 64, 153, 0, 16, 25, 5, 28, 182, 0, 177, 153, 0, 7]
abbrev dktX1_shiftedRuns_1 : List UInt8 := dkwX1_shiftedRuns_1 ++ dktX1_shiftedRuns_2
def dkwX1_shiftedRuns_0 : List UInt8 := [42, 27, 182, 0, 85, 58, 5, 28, 16, 196, 16, 60, 184, 0, 64, 153, 0, 35, 29, 184, 0, 129]
abbrev dktX1_shiftedRuns_0 : List UInt8 := dkwX1_shiftedRuns_0 ++ dktX1_shiftedRuns_1
theorem dksX1_shiftedRuns_0 : cX1_shiftedRuns.data.toList.drop 0 = dktX1_shiftedRuns_0 := by decide +kernel
theorem dksX1_shiftedRuns_1 : cX1_shiftedRuns.data.toList.drop 22 = dktX1_shiftedRuns_1 := dk_seg dksX1_shiftedRuns_0 22 rfl rfl
theorem dksX1_shiftedRuns_2 : cX1_shiftedRuns.data.toList.drop 46 = dktX1_shiftedRuns_2 := dk_seg dksX1_shiftedRuns_1 24 rfl rfl
theorem dX1_shiftedRuns_0 : decode cX1_shiftedRuns 0 = .ok (.aload_n 0, 1) := dk_42 (dk_at dksX1_shiftedRuns_0 0 rfl rfl)
theorem dX1_shiftedRuns_1 : decode cX1_shiftedRuns 1 = .ok (.iload_n 1, 1) := dk_27 (dk_at dksX1_shiftedRuns_0 1 rfl rfl)
theorem dX1_shiftedRuns_2 : decode cX1_shiftedRuns 2 = .ok (.invokevirtual 85, 3) := dk_182 0 85 (dk_at dksX1_shiftedRuns_0 2 rfl rfl)
theorem dX1_shiftedRuns_5 : decode cX1_shiftedRuns 5 = .ok (.astore 5, 2) := dk_58 5 (dk_at dksX1_shiftedRuns_0 5 rfl rfl)
theorem dX1_shiftedRuns_7 : decode cX1_shiftedRuns 7 = .ok (.iload_n 2, 1) := dk_28 (dk_at dksX1_shiftedRuns_0 7 rfl rfl)
theorem dX1_shiftedRuns_8 : decode cX1_shiftedRuns 8 = .ok (.bipush (-60), 2) := dk_16 196 (dk_at dksX1_shiftedRuns_0 8 rfl rfl)
theorem dX1_shiftedRuns_10 : decode cX1_shiftedRuns 10 = .ok (.bipush 60, 2) := dk_16 60 (dk_at dksX1_shiftedRuns_0 10 rfl rfl)
theorem dX1_shiftedRuns_12 : decode cX1_shiftedRuns 12 = .ok (.invokestatic 64, 3) := dk_184 0 64 (dk_at dksX1_shiftedRuns_0 12 rfl rfl)
theorem dX1_shiftedRuns_15 : decode cX1_shiftedRuns 15 = .ok (.ifCond .eq 35, 3) := dk_153 0 35 (dk_at dksX1_shiftedRuns_0 15 rfl rfl)
theorem dX1_shiftedRuns_18 : decode cX1_shiftedRuns 18 = .ok (.iload_n 3, 1) := dk_29 (dk_at dksX1_shiftedRuns_0 18 rfl rfl)
theorem dX1_shiftedRuns_19 : decode cX1_shiftedRuns 19 = .ok (.invokestatic 129, 3) := dk_184 0 129 (dk_at dksX1_shiftedRuns_0 19 rfl rfl)
theorem dX1_shiftedRuns_22 : decode cX1_shiftedRuns 22 = .ok (.ifCond .eq 28, 3) := dk_153 0 28 (dk_at dksX1_shiftedRuns_1 0 rfl rfl)
theorem dX1_shiftedRuns_25 : decode cX1_shiftedRuns 25 = .ok (.iload 4, 2) := dk_21 4 (dk_at dksX1_shiftedRuns_1 3 rfl rfl)
theorem dX1_shiftedRuns_27 : decode cX1_shiftedRuns 27 = .ok (.iconst 0, 1) := dk_3 (dk_at dksX1_shiftedRuns_1 5 rfl rfl)
theorem dX1_shiftedRuns_28 : decode cX1_shiftedRuns 28 = .ok (.sipush 1439, 3) := dk_17 5 159 (dk_at dksX1_shiftedRuns_1 6 rfl rfl)
theorem dX1_shiftedRuns_31 : decode cX1_shiftedRuns 31 = .ok (.invokestatic 64, 3) := dk_184 0 64 (dk_at dksX1_shiftedRuns_1 9 rfl rfl)
theorem dX1_shiftedRuns_34 : decode cX1_shiftedRuns 34 = .ok (.ifCond .eq 16, 3) := dk_153 0 16 (dk_at dksX1_shiftedRuns_1 12 rfl rfl)
theorem dX1_shiftedRuns_37 : decode cX1_shiftedRuns 37 = .ok (.aload 5, 2) := dk_25 5 (dk_at dksX1_shiftedRuns_1 15 rfl rfl)
theorem dX1_shiftedRuns_39 : decode cX1_shiftedRuns 39 = .ok (.iload_n 2, 1) := dk_28 (dk_at dksX1_shiftedRuns_1 17 rfl rfl)
theorem dX1_shiftedRuns_40 : decode cX1_shiftedRuns 40 = .ok (.invokevirtual 177, 3) := dk_182 0 177 (dk_at dksX1_shiftedRuns_1 18 rfl rfl)
theorem dX1_shiftedRuns_43 : decode cX1_shiftedRuns 43 = .ok (.ifCond .eq 7, 3) := dk_153 0 7 (dk_at dksX1_shiftedRuns_1 21 rfl rfl)
theorem dX1_shiftedRuns_46 : decode cX1_shiftedRuns 46 = .ok (.iconst 1, 1) := dk_4 (dk_at dksX1_shiftedRuns_2 0 rfl rfl)
theorem dX1_shiftedRuns_47 : decode cX1_shiftedRuns 47 = .ok (.goto 4, 3) := dk_167 0 4 (dk_at dksX1_shiftedRuns_2 1 rfl rfl)
theorem dX1_shiftedRuns_50 : decode cX1_shiftedRuns 50 = .ok (.iconst 0, 1) := dk_3 (dk_at dksX1_shiftedRuns_2 4 rfl rfl)
theorem dX1_shiftedRuns_51 : decode cX1_shiftedRuns 51 = .ok (.invokestatic 96, 3) := dk_184 0 96 (dk_at dksX1_shiftedRuns_2 5 rfl rfl)
theorem dX1_shiftedRuns_54 : decode cX1_shiftedRuns 54 = .ok (.aload_n 0, 1) := dk_42 (dk_at dksX1_shiftedRuns_2 8 rfl rfl)
theorem dX1_shiftedRuns_55 : decode cX1_shiftedRuns 55 = .ok (.iload_n 3, 1) := dk_29 (dk_at dksX1_shiftedRuns_2 9 rfl rfl)
theorem dX1_shiftedRuns_56 : decode cX1_shiftedRuns 56 = .ok (.iload_n 1, 1) := dk_27 (dk_at dksX1_shiftedRuns_2 10 rfl rfl)
theorem dX1_shiftedRuns_57 : decode cX1_shiftedRuns 57 = .ok (.aload 5, 2) := dk_25 5 (dk_at dksX1_shiftedRuns_2 11 rfl rfl)
theorem dX1_shiftedRuns_59 : decode cX1_shiftedRuns 59 = .ok (.iload_n 2, 1) := dk_28 (dk_at dksX1_shiftedRuns_2 13 rfl rfl)
theorem dX1_shiftedRuns_60 : decode cX1_shiftedRuns 60 = .ok (.invokevirtual 180, 3) := dk_182 0 180 (dk_at dksX1_shiftedRuns_2 14 rfl rfl)
theorem dX1_shiftedRuns_63 : decode cX1_shiftedRuns 63 = .ok (.invokevirtual 285, 3) := dk_182 1 29 (dk_at dksX1_shiftedRuns_2 17 rfl rfl)
theorem dX1_shiftedRuns_66 : decode cX1_shiftedRuns 66 = .ok (.areturn, 1) := dk_176 (dk_at dksX1_shiftedRuns_2 20 rfl rfl)
abbrev cX1_less : ByteArray := prog_1_method_102_code
def yX1_less : MethodName := ⟨RX1, "less", "(Ljava/util/List;Ljava/util/List;I)I"⟩
def dkwX1_less_5 : List UInt8 := [21, 7, 172]
abbrev dktX1_less_5 : List UInt8 := dkwX1_less_5 ++ []
def dkwX1_less_4 : List UInt8 := [162, 0, 7, 4, 167, 0, 4, 3, 96, 54, 7, 132, 11, 1, 167, 255, 215, 132, 8, 1, 167, 255, 169]
abbrev dktX1_less_4 : List UInt8 := dkwX1_less_4 ++ dktX1_less_5
def dkwX1_less_3 : List UInt8 := [180, 0, 68, 162, 0, 38, 21, 7, 25, 9, 180, 1, 116, 21, 11, 46, 25, 10, 180, 1, 116, 21, 11, 46]
abbrev dktX1_less_3 : List UInt8 := dkwX1_less_3 ++ dktX1_less_4
def dkwX1_less_2 : List UInt8 := [58, 9, 42, 25, 5, 21, 8, 29, 2, 25, 6, 182, 1, 105, 58, 10, 3, 54, 11, 21, 11, 42]
abbrev dktX1_less_2 : List UInt8 := dkwX1_less_2 ++ dktX1_less_3
def dkwX1_less_1 : List UInt8 := [54, 8, 21, 8, 42, 180, 0, 68, 162, 0, 84, 42, 25, 4, 21, 8, 29, 2, 25, 6, 182, 1, 105]
abbrev dktX1_less_1 : List UInt8 := dkwX1_less_1 ++ dktX1_less_2
def dkwX1_less_0 : List UInt8 := [43, 184, 1, 101, 58, 4, 44, 184, 1, 101, 58, 5, 42, 2, 182, 0, 113, 58, 6, 3, 54, 7, 3]
abbrev dktX1_less_0 : List UInt8 := dkwX1_less_0 ++ dktX1_less_1
theorem dksX1_less_0 : cX1_less.data.toList.drop 0 = dktX1_less_0 := by decide +kernel
theorem dksX1_less_1 : cX1_less.data.toList.drop 23 = dktX1_less_1 := dk_seg dksX1_less_0 23 rfl rfl
theorem dksX1_less_2 : cX1_less.data.toList.drop 46 = dktX1_less_2 := dk_seg dksX1_less_1 23 rfl rfl
theorem dksX1_less_3 : cX1_less.data.toList.drop 68 = dktX1_less_3 := dk_seg dksX1_less_2 22 rfl rfl
theorem dksX1_less_4 : cX1_less.data.toList.drop 92 = dktX1_less_4 := dk_seg dksX1_less_3 24 rfl rfl
theorem dksX1_less_5 : cX1_less.data.toList.drop 115 = dktX1_less_5 := dk_seg dksX1_less_4 23 rfl rfl
theorem dX1_less_0 : decode cX1_less 0 = .ok (.aload_n 1, 1) := dk_43 (dk_at dksX1_less_0 0 rfl rfl)
theorem dX1_less_1 : decode cX1_less 1 = .ok (.invokestatic 357, 3) := dk_184 1 101 (dk_at dksX1_less_0 1 rfl rfl)
theorem dX1_less_4 : decode cX1_less 4 = .ok (.astore 4, 2) := dk_58 4 (dk_at dksX1_less_0 4 rfl rfl)
theorem dX1_less_6 : decode cX1_less 6 = .ok (.aload_n 2, 1) := dk_44 (dk_at dksX1_less_0 6 rfl rfl)
theorem dX1_less_7 : decode cX1_less 7 = .ok (.invokestatic 357, 3) := dk_184 1 101 (dk_at dksX1_less_0 7 rfl rfl)
theorem dX1_less_10 : decode cX1_less 10 = .ok (.astore 5, 2) := dk_58 5 (dk_at dksX1_less_0 10 rfl rfl)
theorem dX1_less_12 : decode cX1_less 12 = .ok (.aload_n 0, 1) := dk_42 (dk_at dksX1_less_0 12 rfl rfl)
theorem dX1_less_13 : decode cX1_less 13 = .ok (.iconst (-1), 1) := dk_2 (dk_at dksX1_less_0 13 rfl rfl)
theorem dX1_less_14 : decode cX1_less 14 = .ok (.invokevirtual 113, 3) := dk_182 0 113 (dk_at dksX1_less_0 14 rfl rfl)
theorem dX1_less_17 : decode cX1_less 17 = .ok (.astore 6, 2) := dk_58 6 (dk_at dksX1_less_0 17 rfl rfl)
theorem dX1_less_19 : decode cX1_less 19 = .ok (.iconst 0, 1) := dk_3 (dk_at dksX1_less_0 19 rfl rfl)
theorem dX1_less_20 : decode cX1_less 20 = .ok (.istore 7, 2) := dk_54 7 (dk_at dksX1_less_0 20 rfl rfl)
theorem dX1_less_22 : decode cX1_less 22 = .ok (.iconst 0, 1) := dk_3 (dk_at dksX1_less_0 22 rfl rfl)
theorem dX1_less_23 : decode cX1_less 23 = .ok (.istore 8, 2) := dk_54 8 (dk_at dksX1_less_1 0 rfl rfl)
theorem dX1_less_25 : decode cX1_less 25 = .ok (.iload 8, 2) := dk_21 8 (dk_at dksX1_less_1 2 rfl rfl)
theorem dX1_less_27 : decode cX1_less 27 = .ok (.aload_n 0, 1) := dk_42 (dk_at dksX1_less_1 4 rfl rfl)
theorem dX1_less_28 : decode cX1_less 28 = .ok (.getfield 68, 3) := dk_180 0 68 (dk_at dksX1_less_1 5 rfl rfl)
theorem dX1_less_31 : decode cX1_less 31 = .ok (.if_icmp .ge 84, 3) := dk_162 0 84 (dk_at dksX1_less_1 8 rfl rfl)
theorem dX1_less_34 : decode cX1_less 34 = .ok (.aload_n 0, 1) := dk_42 (dk_at dksX1_less_1 11 rfl rfl)
theorem dX1_less_35 : decode cX1_less 35 = .ok (.aload 4, 2) := dk_25 4 (dk_at dksX1_less_1 12 rfl rfl)
theorem dX1_less_37 : decode cX1_less 37 = .ok (.iload 8, 2) := dk_21 8 (dk_at dksX1_less_1 14 rfl rfl)
theorem dX1_less_39 : decode cX1_less 39 = .ok (.iload_n 3, 1) := dk_29 (dk_at dksX1_less_1 16 rfl rfl)
theorem dX1_less_40 : decode cX1_less 40 = .ok (.iconst (-1), 1) := dk_2 (dk_at dksX1_less_1 17 rfl rfl)
theorem dX1_less_41 : decode cX1_less 41 = .ok (.aload 6, 2) := dk_25 6 (dk_at dksX1_less_1 18 rfl rfl)
theorem dX1_less_43 : decode cX1_less 43 = .ok (.invokevirtual 361, 3) := dk_182 1 105 (dk_at dksX1_less_1 20 rfl rfl)
theorem dX1_less_46 : decode cX1_less 46 = .ok (.astore 9, 2) := dk_58 9 (dk_at dksX1_less_2 0 rfl rfl)
theorem dX1_less_48 : decode cX1_less 48 = .ok (.aload_n 0, 1) := dk_42 (dk_at dksX1_less_2 2 rfl rfl)
theorem dX1_less_49 : decode cX1_less 49 = .ok (.aload 5, 2) := dk_25 5 (dk_at dksX1_less_2 3 rfl rfl)
theorem dX1_less_51 : decode cX1_less 51 = .ok (.iload 8, 2) := dk_21 8 (dk_at dksX1_less_2 5 rfl rfl)
theorem dX1_less_53 : decode cX1_less 53 = .ok (.iload_n 3, 1) := dk_29 (dk_at dksX1_less_2 7 rfl rfl)
theorem dX1_less_54 : decode cX1_less 54 = .ok (.iconst (-1), 1) := dk_2 (dk_at dksX1_less_2 8 rfl rfl)
theorem dX1_less_55 : decode cX1_less 55 = .ok (.aload 6, 2) := dk_25 6 (dk_at dksX1_less_2 9 rfl rfl)
theorem dX1_less_57 : decode cX1_less 57 = .ok (.invokevirtual 361, 3) := dk_182 1 105 (dk_at dksX1_less_2 11 rfl rfl)
theorem dX1_less_60 : decode cX1_less 60 = .ok (.astore 10, 2) := dk_58 10 (dk_at dksX1_less_2 14 rfl rfl)
theorem dX1_less_62 : decode cX1_less 62 = .ok (.iconst 0, 1) := dk_3 (dk_at dksX1_less_2 16 rfl rfl)
theorem dX1_less_63 : decode cX1_less 63 = .ok (.istore 11, 2) := dk_54 11 (dk_at dksX1_less_2 17 rfl rfl)
theorem dX1_less_65 : decode cX1_less 65 = .ok (.iload 11, 2) := dk_21 11 (dk_at dksX1_less_2 19 rfl rfl)
theorem dX1_less_67 : decode cX1_less 67 = .ok (.aload_n 0, 1) := dk_42 (dk_at dksX1_less_2 21 rfl rfl)
theorem dX1_less_68 : decode cX1_less 68 = .ok (.getfield 68, 3) := dk_180 0 68 (dk_at dksX1_less_3 0 rfl rfl)
theorem dX1_less_71 : decode cX1_less 71 = .ok (.if_icmp .ge 38, 3) := dk_162 0 38 (dk_at dksX1_less_3 3 rfl rfl)
theorem dX1_less_74 : decode cX1_less 74 = .ok (.iload 7, 2) := dk_21 7 (dk_at dksX1_less_3 6 rfl rfl)
theorem dX1_less_76 : decode cX1_less 76 = .ok (.aload 9, 2) := dk_25 9 (dk_at dksX1_less_3 8 rfl rfl)
theorem dX1_less_78 : decode cX1_less 78 = .ok (.getfield 372, 3) := dk_180 1 116 (dk_at dksX1_less_3 10 rfl rfl)
theorem dX1_less_81 : decode cX1_less 81 = .ok (.iload 11, 2) := dk_21 11 (dk_at dksX1_less_3 13 rfl rfl)
theorem dX1_less_83 : decode cX1_less 83 = .ok (.iaload, 1) := dk_46 (dk_at dksX1_less_3 15 rfl rfl)
theorem dX1_less_84 : decode cX1_less 84 = .ok (.aload 10, 2) := dk_25 10 (dk_at dksX1_less_3 16 rfl rfl)
theorem dX1_less_86 : decode cX1_less 86 = .ok (.getfield 372, 3) := dk_180 1 116 (dk_at dksX1_less_3 18 rfl rfl)
theorem dX1_less_89 : decode cX1_less 89 = .ok (.iload 11, 2) := dk_21 11 (dk_at dksX1_less_3 21 rfl rfl)
theorem dX1_less_91 : decode cX1_less 91 = .ok (.iaload, 1) := dk_46 (dk_at dksX1_less_3 23 rfl rfl)
theorem dX1_less_92 : decode cX1_less 92 = .ok (.if_icmp .ge 7, 3) := dk_162 0 7 (dk_at dksX1_less_4 0 rfl rfl)
theorem dX1_less_95 : decode cX1_less 95 = .ok (.iconst 1, 1) := dk_4 (dk_at dksX1_less_4 3 rfl rfl)
theorem dX1_less_96 : decode cX1_less 96 = .ok (.goto 4, 3) := dk_167 0 4 (dk_at dksX1_less_4 4 rfl rfl)
theorem dX1_less_99 : decode cX1_less 99 = .ok (.iconst 0, 1) := dk_3 (dk_at dksX1_less_4 7 rfl rfl)
theorem dX1_less_100 : decode cX1_less 100 = .ok (.iadd, 1) := dk_96 (dk_at dksX1_less_4 8 rfl rfl)
theorem dX1_less_101 : decode cX1_less 101 = .ok (.istore 7, 2) := dk_54 7 (dk_at dksX1_less_4 9 rfl rfl)
theorem dX1_less_103 : decode cX1_less 103 = .ok (.iinc 11 1, 3) := dk_132 11 1 (dk_at dksX1_less_4 11 rfl rfl)
theorem dX1_less_106 : decode cX1_less 106 = .ok (.goto (-41), 3) := dk_167 255 215 (dk_at dksX1_less_4 14 rfl rfl)
theorem dX1_less_109 : decode cX1_less 109 = .ok (.iinc 8 1, 3) := dk_132 8 1 (dk_at dksX1_less_4 17 rfl rfl)
theorem dX1_less_112 : decode cX1_less 112 = .ok (.goto (-87), 3) := dk_167 255 169 (dk_at dksX1_less_4 20 rfl rfl)
theorem dX1_less_115 : decode cX1_less 115 = .ok (.iload 7, 2) := dk_21 7 (dk_at dksX1_less_5 0 rfl rfl)
theorem dX1_less_117 : decode cX1_less 117 = .ok (.ireturn, 1) := dk_172 (dk_at dksX1_less_5 2 rfl rfl)
abbrev cX1_loses : ByteArray := prog_1_method_105_code
def yX1_loses : MethodName := ⟨RX1, "loses", "(IIII)I"⟩
def dkwX1_loses_1 : List UInt8 := [172]
abbrev dktX1_loses_1 : List UInt8 := dkwX1_loses_1 ++ []
def dkwX1_loses_0 : List UInt8 := [42, 27, 28, 29, 21, 4, 182, 2, 111, 58, 5, 42, 42, 29, 182, 1, 98, 25, 5, 21, 4, 182, 2, 114]
abbrev dktX1_loses_0 : List UInt8 := dkwX1_loses_0 ++ dktX1_loses_1
theorem dksX1_loses_0 : cX1_loses.data.toList.drop 0 = dktX1_loses_0 := by decide +kernel
theorem dksX1_loses_1 : cX1_loses.data.toList.drop 24 = dktX1_loses_1 := dk_seg dksX1_loses_0 24 rfl rfl
theorem dX1_loses_0 : decode cX1_loses 0 = .ok (.aload_n 0, 1) := dk_42 (dk_at dksX1_loses_0 0 rfl rfl)
theorem dX1_loses_1 : decode cX1_loses 1 = .ok (.iload_n 1, 1) := dk_27 (dk_at dksX1_loses_0 1 rfl rfl)
theorem dX1_loses_2 : decode cX1_loses 2 = .ok (.iload_n 2, 1) := dk_28 (dk_at dksX1_loses_0 2 rfl rfl)
theorem dX1_loses_3 : decode cX1_loses 3 = .ok (.iload_n 3, 1) := dk_29 (dk_at dksX1_loses_0 3 rfl rfl)
theorem dX1_loses_4 : decode cX1_loses 4 = .ok (.iload 4, 2) := dk_21 4 (dk_at dksX1_loses_0 4 rfl rfl)
theorem dX1_loses_6 : decode cX1_loses 6 = .ok (.invokevirtual 623, 3) := dk_182 2 111 (dk_at dksX1_loses_0 6 rfl rfl)
theorem dX1_loses_9 : decode cX1_loses 9 = .ok (.astore 5, 2) := dk_58 5 (dk_at dksX1_loses_0 9 rfl rfl)
theorem dX1_loses_11 : decode cX1_loses 11 = .ok (.aload_n 0, 1) := dk_42 (dk_at dksX1_loses_0 11 rfl rfl)
theorem dX1_loses_12 : decode cX1_loses 12 = .ok (.aload_n 0, 1) := dk_42 (dk_at dksX1_loses_0 12 rfl rfl)
theorem dX1_loses_13 : decode cX1_loses 13 = .ok (.iload_n 3, 1) := dk_29 (dk_at dksX1_loses_0 13 rfl rfl)
theorem dX1_loses_14 : decode cX1_loses 14 = .ok (.invokevirtual 354, 3) := dk_182 1 98 (dk_at dksX1_loses_0 14 rfl rfl)
theorem dX1_loses_17 : decode cX1_loses 17 = .ok (.aload 5, 2) := dk_25 5 (dk_at dksX1_loses_0 17 rfl rfl)
theorem dX1_loses_19 : decode cX1_loses 19 = .ok (.iload 4, 2) := dk_21 4 (dk_at dksX1_loses_0 19 rfl rfl)
theorem dX1_loses_21 : decode cX1_loses 21 = .ok (.invokevirtual 626, 3) := dk_182 2 114 (dk_at dksX1_loses_0 21 rfl rfl)
theorem dX1_loses_24 : decode cX1_loses 24 = .ok (.ireturn, 1) := dk_172 (dk_at dksX1_loses_1 0 rfl rfl)
abbrev cX1_reachShare : ByteArray := prog_1_method_106_code
def yX1_reachShare : MethodName := ⟨RX1, "reachShare", "(I)F"⟩
def dkwX1_reachShare_3 : List UInt8 := [167, 255, 228, 28, 134, 42, 180, 0, 68, 42, 180, 0, 68, 4, 100, 104, 134, 110, 174]
abbrev dktX1_reachShare_3 : List UInt8 := dkwX1_reachShare_3 ++ []
def dkwX1_reachShare_2 : List UInt8 := [153, 0, 25, 45, 185, 1, 44, 1, 0, 192, 0, 94, 58, 4, 28, 25, 4, 182, 0, 136, 96, 61]
abbrev dktX1_reachShare_2 : List UInt8 := dkwX1_reachShare_2 ++ dktX1_reachShare_3
def dkwX1_reachShare_1 : List UInt8 := [61, 42, 42, 27, 182, 1, 98, 184, 1, 101, 2, 182, 2, 72, 182, 1, 142, 78, 45, 185, 1, 39, 1, 0]
abbrev dktX1_reachShare_1 : List UInt8 := dkwX1_reachShare_1 ++ dktX1_reachShare_2
def dkwX1_reachShare_0 : List UInt8 := [27, 184, 0, 129, 184, 0, 96, 42, 180, 0, 68, 5, 162, 0, 11, 187, 2, 117, 89, 183, 2, 119, 191, 3]
abbrev dktX1_reachShare_0 : List UInt8 := dkwX1_reachShare_0 ++ dktX1_reachShare_1
theorem dksX1_reachShare_0 : cX1_reachShare.data.toList.drop 0 = dktX1_reachShare_0 := by decide +kernel
theorem dksX1_reachShare_1 : cX1_reachShare.data.toList.drop 24 = dktX1_reachShare_1 := dk_seg dksX1_reachShare_0 24 rfl rfl
theorem dksX1_reachShare_2 : cX1_reachShare.data.toList.drop 48 = dktX1_reachShare_2 := dk_seg dksX1_reachShare_1 24 rfl rfl
theorem dksX1_reachShare_3 : cX1_reachShare.data.toList.drop 70 = dktX1_reachShare_3 := dk_seg dksX1_reachShare_2 22 rfl rfl
theorem dX1_reachShare_0 : decode cX1_reachShare 0 = .ok (.iload_n 1, 1) := dk_27 (dk_at dksX1_reachShare_0 0 rfl rfl)
theorem dX1_reachShare_1 : decode cX1_reachShare 1 = .ok (.invokestatic 129, 3) := dk_184 0 129 (dk_at dksX1_reachShare_0 1 rfl rfl)
theorem dX1_reachShare_4 : decode cX1_reachShare 4 = .ok (.invokestatic 96, 3) := dk_184 0 96 (dk_at dksX1_reachShare_0 4 rfl rfl)
theorem dX1_reachShare_7 : decode cX1_reachShare 7 = .ok (.aload_n 0, 1) := dk_42 (dk_at dksX1_reachShare_0 7 rfl rfl)
theorem dX1_reachShare_8 : decode cX1_reachShare 8 = .ok (.getfield 68, 3) := dk_180 0 68 (dk_at dksX1_reachShare_0 8 rfl rfl)
theorem dX1_reachShare_11 : decode cX1_reachShare 11 = .ok (.iconst 2, 1) := dk_5 (dk_at dksX1_reachShare_0 11 rfl rfl)
theorem dX1_reachShare_12 : decode cX1_reachShare 12 = .ok (.if_icmp .ge 11, 3) := dk_162 0 11 (dk_at dksX1_reachShare_0 12 rfl rfl)
theorem dX1_reachShare_15 : decode cX1_reachShare 15 = .ok (.new 629, 3) := dk_187 2 117 (dk_at dksX1_reachShare_0 15 rfl rfl)
theorem dX1_reachShare_18 : decode cX1_reachShare 18 = .ok (.dup, 1) := dk_89 (dk_at dksX1_reachShare_0 18 rfl rfl)
theorem dX1_reachShare_19 : decode cX1_reachShare 19 = .ok (.invokespecial 631, 3) := dk_183 2 119 (dk_at dksX1_reachShare_0 19 rfl rfl)
theorem dX1_reachShare_22 : decode cX1_reachShare 22 = .ok (.athrow, 1) := dk_191 (dk_at dksX1_reachShare_0 22 rfl rfl)
theorem dX1_reachShare_23 : decode cX1_reachShare 23 = .ok (.iconst 0, 1) := dk_3 (dk_at dksX1_reachShare_0 23 rfl rfl)
theorem dX1_reachShare_24 : decode cX1_reachShare 24 = .ok (.istore_n 2, 1) := dk_61 (dk_at dksX1_reachShare_1 0 rfl rfl)
theorem dX1_reachShare_25 : decode cX1_reachShare 25 = .ok (.aload_n 0, 1) := dk_42 (dk_at dksX1_reachShare_1 1 rfl rfl)
theorem dX1_reachShare_26 : decode cX1_reachShare 26 = .ok (.aload_n 0, 1) := dk_42 (dk_at dksX1_reachShare_1 2 rfl rfl)
theorem dX1_reachShare_27 : decode cX1_reachShare 27 = .ok (.iload_n 1, 1) := dk_27 (dk_at dksX1_reachShare_1 3 rfl rfl)
theorem dX1_reachShare_28 : decode cX1_reachShare 28 = .ok (.invokevirtual 354, 3) := dk_182 1 98 (dk_at dksX1_reachShare_1 4 rfl rfl)
theorem dX1_reachShare_31 : decode cX1_reachShare 31 = .ok (.invokestatic 357, 3) := dk_184 1 101 (dk_at dksX1_reachShare_1 7 rfl rfl)
theorem dX1_reachShare_34 : decode cX1_reachShare 34 = .ok (.iconst (-1), 1) := dk_2 (dk_at dksX1_reachShare_1 10 rfl rfl)
theorem dX1_reachShare_35 : decode cX1_reachShare 35 = .ok (.invokevirtual 584, 3) := dk_182 2 72 (dk_at dksX1_reachShare_1 11 rfl rfl)
theorem dX1_reachShare_38 : decode cX1_reachShare 38 = .ok (.invokevirtual 398, 3) := dk_182 1 142 (dk_at dksX1_reachShare_1 14 rfl rfl)
theorem dX1_reachShare_41 : decode cX1_reachShare 41 = .ok (.astore_n 3, 1) := dk_78 (dk_at dksX1_reachShare_1 17 rfl rfl)
theorem dX1_reachShare_42 : decode cX1_reachShare 42 = .ok (.aload_n 3, 1) := dk_45 (dk_at dksX1_reachShare_1 18 rfl rfl)
theorem dX1_reachShare_43 : decode cX1_reachShare 43 = .ok (.invokeinterface 295 1, 5) := by decide +kernel
theorem dX1_reachShare_48 : decode cX1_reachShare 48 = .ok (.ifCond .eq 25, 3) := dk_153 0 25 (dk_at dksX1_reachShare_2 0 rfl rfl)
theorem dX1_reachShare_51 : decode cX1_reachShare 51 = .ok (.aload_n 3, 1) := dk_45 (dk_at dksX1_reachShare_2 3 rfl rfl)
theorem dX1_reachShare_52 : decode cX1_reachShare 52 = .ok (.invokeinterface 300 1, 5) := by decide +kernel
theorem dX1_reachShare_57 : decode cX1_reachShare 57 = .ok (.checkcast 94, 3) := dk_192 0 94 (dk_at dksX1_reachShare_2 9 rfl rfl)
theorem dX1_reachShare_60 : decode cX1_reachShare 60 = .ok (.astore 4, 2) := dk_58 4 (dk_at dksX1_reachShare_2 12 rfl rfl)
theorem dX1_reachShare_62 : decode cX1_reachShare 62 = .ok (.iload_n 2, 1) := dk_28 (dk_at dksX1_reachShare_2 14 rfl rfl)
theorem dX1_reachShare_63 : decode cX1_reachShare 63 = .ok (.aload 4, 2) := dk_25 4 (dk_at dksX1_reachShare_2 15 rfl rfl)
theorem dX1_reachShare_65 : decode cX1_reachShare 65 = .ok (.invokevirtual 136, 3) := dk_182 0 136 (dk_at dksX1_reachShare_2 17 rfl rfl)
theorem dX1_reachShare_68 : decode cX1_reachShare 68 = .ok (.iadd, 1) := dk_96 (dk_at dksX1_reachShare_2 20 rfl rfl)
theorem dX1_reachShare_69 : decode cX1_reachShare 69 = .ok (.istore_n 2, 1) := dk_61 (dk_at dksX1_reachShare_2 21 rfl rfl)
theorem dX1_reachShare_70 : decode cX1_reachShare 70 = .ok (.goto (-28), 3) := dk_167 255 228 (dk_at dksX1_reachShare_3 0 rfl rfl)
theorem dX1_reachShare_73 : decode cX1_reachShare 73 = .ok (.iload_n 2, 1) := dk_28 (dk_at dksX1_reachShare_3 3 rfl rfl)
theorem dX1_reachShare_74 : decode cX1_reachShare 74 = .ok (.i2f, 1) := dk_134 (dk_at dksX1_reachShare_3 4 rfl rfl)
theorem dX1_reachShare_75 : decode cX1_reachShare 75 = .ok (.aload_n 0, 1) := dk_42 (dk_at dksX1_reachShare_3 5 rfl rfl)
theorem dX1_reachShare_76 : decode cX1_reachShare 76 = .ok (.getfield 68, 3) := dk_180 0 68 (dk_at dksX1_reachShare_3 6 rfl rfl)
theorem dX1_reachShare_79 : decode cX1_reachShare 79 = .ok (.aload_n 0, 1) := dk_42 (dk_at dksX1_reachShare_3 9 rfl rfl)
theorem dX1_reachShare_80 : decode cX1_reachShare 80 = .ok (.getfield 68, 3) := dk_180 0 68 (dk_at dksX1_reachShare_3 10 rfl rfl)
theorem dX1_reachShare_83 : decode cX1_reachShare 83 = .ok (.iconst 1, 1) := dk_4 (dk_at dksX1_reachShare_3 13 rfl rfl)
theorem dX1_reachShare_84 : decode cX1_reachShare 84 = .ok (.isub, 1) := dk_100 (dk_at dksX1_reachShare_3 14 rfl rfl)
theorem dX1_reachShare_85 : decode cX1_reachShare 85 = .ok (.imul, 1) := dk_104 (dk_at dksX1_reachShare_3 15 rfl rfl)
theorem dX1_reachShare_86 : decode cX1_reachShare 86 = .ok (.i2f, 1) := dk_134 (dk_at dksX1_reachShare_3 16 rfl rfl)
theorem dX1_reachShare_87 : decode cX1_reachShare 87 = .ok (.fdiv, 1) := dk_110 (dk_at dksX1_reachShare_3 17 rfl rfl)
theorem dX1_reachShare_88 : decode cX1_reachShare 88 = .ok (.freturn, 1) := dk_174 (dk_at dksX1_reachShare_3 18 rfl rfl)
abbrev cX1_meanBetween : ByteArray := prog_1_method_107_code
def yX1_meanBetween : MethodName := ⟨RX1, "meanBetween", "()D"⟩
def dkwX1_meanBetween_5 : List UInt8 := [135, 111, 175]
abbrev dktX1_meanBetween_5 : List UInt8 := dkwX1_meanBetween_5 ++ []
def dkwX1_meanBetween_4 : List UInt8 := [132, 5, 1, 167, 255, 199, 167, 255, 173, 28, 154, 0, 11, 187, 2, 117, 89, 183, 2, 119, 191, 27, 135, 28]
abbrev dktX1_meanBetween_4 : List UInt8 := dkwX1_meanBetween_4 ++ dktX1_meanBetween_5
def dkwX1_meanBetween_3 : List UInt8 := [180, 0, 89, 21, 5, 4, 100, 182, 0, 79, 192, 0, 92, 182, 0, 160, 100, 96, 60, 132, 2, 1]
abbrev dktX1_meanBetween_3 : List UInt8 := dkwX1_meanBetween_3 ++ dktX1_meanBetween_4
def dkwX1_meanBetween_2 : List UInt8 := [162, 0, 50, 27, 25, 4, 180, 0, 89, 21, 5, 182, 0, 79, 192, 0, 92, 182, 0, 174, 25, 4]
abbrev dktX1_meanBetween_2 : List UInt8 := dkwX1_meanBetween_2 ++ dktX1_meanBetween_3
def dkwX1_meanBetween_1 : List UInt8 := [185, 1, 44, 1, 0, 192, 0, 83, 58, 4, 4, 54, 5, 21, 5, 25, 4, 180, 0, 89, 182, 0, 71]
abbrev dktX1_meanBetween_1 : List UInt8 := dkwX1_meanBetween_1 ++ dktX1_meanBetween_2
def dkwX1_meanBetween_0 : List UInt8 := [3, 60, 3, 61, 42, 180, 0, 25, 182, 1, 142, 78, 45, 185, 1, 39, 1, 0, 153, 0, 80, 45]
abbrev dktX1_meanBetween_0 : List UInt8 := dkwX1_meanBetween_0 ++ dktX1_meanBetween_1
theorem dksX1_meanBetween_0 : cX1_meanBetween.data.toList.drop 0 = dktX1_meanBetween_0 := by decide +kernel
theorem dksX1_meanBetween_1 : cX1_meanBetween.data.toList.drop 22 = dktX1_meanBetween_1 := dk_seg dksX1_meanBetween_0 22 rfl rfl
theorem dksX1_meanBetween_2 : cX1_meanBetween.data.toList.drop 45 = dktX1_meanBetween_2 := dk_seg dksX1_meanBetween_1 23 rfl rfl
theorem dksX1_meanBetween_3 : cX1_meanBetween.data.toList.drop 67 = dktX1_meanBetween_3 := dk_seg dksX1_meanBetween_2 22 rfl rfl
theorem dksX1_meanBetween_4 : cX1_meanBetween.data.toList.drop 89 = dktX1_meanBetween_4 := dk_seg dksX1_meanBetween_3 22 rfl rfl
theorem dksX1_meanBetween_5 : cX1_meanBetween.data.toList.drop 113 = dktX1_meanBetween_5 := dk_seg dksX1_meanBetween_4 24 rfl rfl
theorem dX1_meanBetween_0 : decode cX1_meanBetween 0 = .ok (.iconst 0, 1) := dk_3 (dk_at dksX1_meanBetween_0 0 rfl rfl)
theorem dX1_meanBetween_1 : decode cX1_meanBetween 1 = .ok (.istore_n 1, 1) := dk_60 (dk_at dksX1_meanBetween_0 1 rfl rfl)
theorem dX1_meanBetween_2 : decode cX1_meanBetween 2 = .ok (.iconst 0, 1) := dk_3 (dk_at dksX1_meanBetween_0 2 rfl rfl)
theorem dX1_meanBetween_3 : decode cX1_meanBetween 3 = .ok (.istore_n 2, 1) := dk_61 (dk_at dksX1_meanBetween_0 3 rfl rfl)
theorem dX1_meanBetween_4 : decode cX1_meanBetween 4 = .ok (.aload_n 0, 1) := dk_42 (dk_at dksX1_meanBetween_0 4 rfl rfl)
theorem dX1_meanBetween_5 : decode cX1_meanBetween 5 = .ok (.getfield 25, 3) := dk_180 0 25 (dk_at dksX1_meanBetween_0 5 rfl rfl)
theorem dX1_meanBetween_8 : decode cX1_meanBetween 8 = .ok (.invokevirtual 398, 3) := dk_182 1 142 (dk_at dksX1_meanBetween_0 8 rfl rfl)
theorem dX1_meanBetween_11 : decode cX1_meanBetween 11 = .ok (.astore_n 3, 1) := dk_78 (dk_at dksX1_meanBetween_0 11 rfl rfl)
theorem dX1_meanBetween_12 : decode cX1_meanBetween 12 = .ok (.aload_n 3, 1) := dk_45 (dk_at dksX1_meanBetween_0 12 rfl rfl)
theorem dX1_meanBetween_13 : decode cX1_meanBetween 13 = .ok (.invokeinterface 295 1, 5) := by decide +kernel
theorem dX1_meanBetween_18 : decode cX1_meanBetween 18 = .ok (.ifCond .eq 80, 3) := dk_153 0 80 (dk_at dksX1_meanBetween_0 18 rfl rfl)
theorem dX1_meanBetween_21 : decode cX1_meanBetween 21 = .ok (.aload_n 3, 1) := dk_45 (dk_at dksX1_meanBetween_0 21 rfl rfl)
theorem dX1_meanBetween_22 : decode cX1_meanBetween 22 = .ok (.invokeinterface 300 1, 5) := by decide +kernel
theorem dX1_meanBetween_27 : decode cX1_meanBetween 27 = .ok (.checkcast 83, 3) := dk_192 0 83 (dk_at dksX1_meanBetween_1 5 rfl rfl)
theorem dX1_meanBetween_30 : decode cX1_meanBetween 30 = .ok (.astore 4, 2) := dk_58 4 (dk_at dksX1_meanBetween_1 8 rfl rfl)
theorem dX1_meanBetween_32 : decode cX1_meanBetween 32 = .ok (.iconst 1, 1) := dk_4 (dk_at dksX1_meanBetween_1 10 rfl rfl)
theorem dX1_meanBetween_33 : decode cX1_meanBetween 33 = .ok (.istore 5, 2) := dk_54 5 (dk_at dksX1_meanBetween_1 11 rfl rfl)
theorem dX1_meanBetween_35 : decode cX1_meanBetween 35 = .ok (.iload 5, 2) := dk_21 5 (dk_at dksX1_meanBetween_1 13 rfl rfl)
theorem dX1_meanBetween_37 : decode cX1_meanBetween 37 = .ok (.aload 4, 2) := dk_25 4 (dk_at dksX1_meanBetween_1 15 rfl rfl)
theorem dX1_meanBetween_39 : decode cX1_meanBetween 39 = .ok (.getfield 89, 3) := dk_180 0 89 (dk_at dksX1_meanBetween_1 17 rfl rfl)
theorem dX1_meanBetween_42 : decode cX1_meanBetween 42 = .ok (.invokevirtual 71, 3) := dk_182 0 71 (dk_at dksX1_meanBetween_1 20 rfl rfl)
theorem dX1_meanBetween_45 : decode cX1_meanBetween 45 = .ok (.if_icmp .ge 50, 3) := dk_162 0 50 (dk_at dksX1_meanBetween_2 0 rfl rfl)
theorem dX1_meanBetween_48 : decode cX1_meanBetween 48 = .ok (.iload_n 1, 1) := dk_27 (dk_at dksX1_meanBetween_2 3 rfl rfl)
theorem dX1_meanBetween_49 : decode cX1_meanBetween 49 = .ok (.aload 4, 2) := dk_25 4 (dk_at dksX1_meanBetween_2 4 rfl rfl)
theorem dX1_meanBetween_51 : decode cX1_meanBetween 51 = .ok (.getfield 89, 3) := dk_180 0 89 (dk_at dksX1_meanBetween_2 6 rfl rfl)
theorem dX1_meanBetween_54 : decode cX1_meanBetween 54 = .ok (.iload 5, 2) := dk_21 5 (dk_at dksX1_meanBetween_2 9 rfl rfl)
theorem dX1_meanBetween_56 : decode cX1_meanBetween 56 = .ok (.invokevirtual 79, 3) := dk_182 0 79 (dk_at dksX1_meanBetween_2 11 rfl rfl)
theorem dX1_meanBetween_59 : decode cX1_meanBetween 59 = .ok (.checkcast 92, 3) := dk_192 0 92 (dk_at dksX1_meanBetween_2 14 rfl rfl)
theorem dX1_meanBetween_62 : decode cX1_meanBetween 62 = .ok (.invokevirtual 174, 3) := dk_182 0 174 (dk_at dksX1_meanBetween_2 17 rfl rfl)
theorem dX1_meanBetween_65 : decode cX1_meanBetween 65 = .ok (.aload 4, 2) := dk_25 4 (dk_at dksX1_meanBetween_2 20 rfl rfl)
theorem dX1_meanBetween_67 : decode cX1_meanBetween 67 = .ok (.getfield 89, 3) := dk_180 0 89 (dk_at dksX1_meanBetween_3 0 rfl rfl)
theorem dX1_meanBetween_70 : decode cX1_meanBetween 70 = .ok (.iload 5, 2) := dk_21 5 (dk_at dksX1_meanBetween_3 3 rfl rfl)
theorem dX1_meanBetween_72 : decode cX1_meanBetween 72 = .ok (.iconst 1, 1) := dk_4 (dk_at dksX1_meanBetween_3 5 rfl rfl)
theorem dX1_meanBetween_73 : decode cX1_meanBetween 73 = .ok (.isub, 1) := dk_100 (dk_at dksX1_meanBetween_3 6 rfl rfl)
theorem dX1_meanBetween_74 : decode cX1_meanBetween 74 = .ok (.invokevirtual 79, 3) := dk_182 0 79 (dk_at dksX1_meanBetween_3 7 rfl rfl)
theorem dX1_meanBetween_77 : decode cX1_meanBetween 77 = .ok (.checkcast 92, 3) := dk_192 0 92 (dk_at dksX1_meanBetween_3 10 rfl rfl)
theorem dX1_meanBetween_80 : decode cX1_meanBetween 80 = .ok (.invokevirtual 160, 3) := dk_182 0 160 (dk_at dksX1_meanBetween_3 13 rfl rfl)
theorem dX1_meanBetween_83 : decode cX1_meanBetween 83 = .ok (.isub, 1) := dk_100 (dk_at dksX1_meanBetween_3 16 rfl rfl)
theorem dX1_meanBetween_84 : decode cX1_meanBetween 84 = .ok (.iadd, 1) := dk_96 (dk_at dksX1_meanBetween_3 17 rfl rfl)
theorem dX1_meanBetween_85 : decode cX1_meanBetween 85 = .ok (.istore_n 1, 1) := dk_60 (dk_at dksX1_meanBetween_3 18 rfl rfl)
theorem dX1_meanBetween_86 : decode cX1_meanBetween 86 = .ok (.iinc 2 1, 3) := dk_132 2 1 (dk_at dksX1_meanBetween_3 19 rfl rfl)
theorem dX1_meanBetween_89 : decode cX1_meanBetween 89 = .ok (.iinc 5 1, 3) := dk_132 5 1 (dk_at dksX1_meanBetween_4 0 rfl rfl)
theorem dX1_meanBetween_92 : decode cX1_meanBetween 92 = .ok (.goto (-57), 3) := dk_167 255 199 (dk_at dksX1_meanBetween_4 3 rfl rfl)
theorem dX1_meanBetween_95 : decode cX1_meanBetween 95 = .ok (.goto (-83), 3) := dk_167 255 173 (dk_at dksX1_meanBetween_4 6 rfl rfl)
theorem dX1_meanBetween_98 : decode cX1_meanBetween 98 = .ok (.iload_n 2, 1) := dk_28 (dk_at dksX1_meanBetween_4 9 rfl rfl)
theorem dX1_meanBetween_99 : decode cX1_meanBetween 99 = .ok (.ifCond .ne 11, 3) := dk_154 0 11 (dk_at dksX1_meanBetween_4 10 rfl rfl)
theorem dX1_meanBetween_102 : decode cX1_meanBetween 102 = .ok (.new 629, 3) := dk_187 2 117 (dk_at dksX1_meanBetween_4 13 rfl rfl)
theorem dX1_meanBetween_105 : decode cX1_meanBetween 105 = .ok (.dup, 1) := dk_89 (dk_at dksX1_meanBetween_4 16 rfl rfl)
theorem dX1_meanBetween_106 : decode cX1_meanBetween 106 = .ok (.invokespecial 631, 3) := dk_183 2 119 (dk_at dksX1_meanBetween_4 17 rfl rfl)
theorem dX1_meanBetween_109 : decode cX1_meanBetween 109 = .ok (.athrow, 1) := dk_191 (dk_at dksX1_meanBetween_4 20 rfl rfl)
theorem dX1_meanBetween_110 : decode cX1_meanBetween 110 = .ok (.iload_n 1, 1) := dk_27 (dk_at dksX1_meanBetween_4 21 rfl rfl)
theorem dX1_meanBetween_111 : decode cX1_meanBetween 111 = .ok (.i2d, 1) := dk_135 (dk_at dksX1_meanBetween_4 22 rfl rfl)
theorem dX1_meanBetween_112 : decode cX1_meanBetween 112 = .ok (.iload_n 2, 1) := dk_28 (dk_at dksX1_meanBetween_4 23 rfl rfl)
theorem dX1_meanBetween_113 : decode cX1_meanBetween 113 = .ok (.i2d, 1) := dk_135 (dk_at dksX1_meanBetween_5 0 rfl rfl)
theorem dX1_meanBetween_114 : decode cX1_meanBetween 114 = .ok (.ddiv, 1) := dk_111 (dk_at dksX1_meanBetween_5 1 rfl rfl)
theorem dX1_meanBetween_115 : decode cX1_meanBetween 115 = .ok (.dreturn, 1) := dk_175 (dk_at dksX1_meanBetween_5 2 rfl rfl)
abbrev cX1_isSound : ByteArray := prog_1_method_112_code
def yX1_isSound : MethodName := ⟨RX1, "isSound", "(I)Z"⟩
def dkwX1_isSound_7 : List UInt8 := [167, 255, 145, 21, 6, 172]
abbrev dktX1_isSound_7 : List UInt8 := dkwX1_isSound_7 ++ []
def dkwX1_isSound_6 : List UInt8 := [4, 100, 25, 8, 180, 1, 116, 42, 180, 0, 68, 4, 100, 46, 182, 2, 138, 54, 6, 132, 7, 1]
abbrev dktX1_isSound_6 : List UInt8 := dkwX1_isSound_6 ++ dktX1_isSound_7
def dkwX1_isSound_5 : List UInt8 := [21, 6, 153, 0, 41, 21, 7, 154, 0, 36, 42, 180, 0, 68, 4, 164, 0, 28, 42, 27, 42, 180, 0, 68]
abbrev dktX1_isSound_5 : List UInt8 := dkwX1_isSound_5 ++ dktX1_isSound_6
def dkwX1_isSound_4 : List UInt8 := [42, 21, 7, 25, 8, 45, 25, 4, 25, 5, 182, 2, 134, 153, 0, 7, 4, 167, 0, 4, 3, 54, 6]
abbrev dktX1_isSound_4 : List UInt8 := dkwX1_isSound_4 ++ dktX1_isSound_5
def dkwX1_isSound_3 : List UInt8 := [17, 1, 224, 2, 25, 5, 182, 1, 105, 58, 8, 42, 27, 21, 7, 25, 8, 44, 182, 2, 130, 153, 0, 23]
abbrev dktX1_isSound_3 : List UInt8 := dkwX1_isSound_3 ++ dktX1_isSound_4
def dkwX1_isSound_2 : List UInt8 := [3, 54, 6, 3, 54, 7, 21, 7, 42, 180, 0, 68, 162, 0, 108, 21, 6, 153, 0, 103, 42, 45, 21, 7]
abbrev dktX1_isSound_2 : List UInt8 := dkwX1_isSound_2 ++ dktX1_isSound_3
def dkwX1_isSound_1 : List UInt8 := [42, 2, 182, 0, 113, 58, 5, 42, 27, 182, 2, 124, 42, 27, 182, 2, 127, 160, 0, 7, 4, 167, 0, 4]
abbrev dktX1_isSound_1 : List UInt8 := dkwX1_isSound_1 ++ dktX1_isSound_2
def dkwX1_isSound_0 : List UInt8 := [27, 184, 0, 129, 184, 0, 96, 42, 27, 182, 1, 98, 77, 44, 184, 1, 101, 78, 44, 184, 1, 183, 58, 4]
abbrev dktX1_isSound_0 : List UInt8 := dkwX1_isSound_0 ++ dktX1_isSound_1
theorem dksX1_isSound_0 : cX1_isSound.data.toList.drop 0 = dktX1_isSound_0 := by decide +kernel
theorem dksX1_isSound_1 : cX1_isSound.data.toList.drop 24 = dktX1_isSound_1 := dk_seg dksX1_isSound_0 24 rfl rfl
theorem dksX1_isSound_2 : cX1_isSound.data.toList.drop 48 = dktX1_isSound_2 := dk_seg dksX1_isSound_1 24 rfl rfl
theorem dksX1_isSound_3 : cX1_isSound.data.toList.drop 72 = dktX1_isSound_3 := dk_seg dksX1_isSound_2 24 rfl rfl
theorem dksX1_isSound_4 : cX1_isSound.data.toList.drop 96 = dktX1_isSound_4 := dk_seg dksX1_isSound_3 24 rfl rfl
theorem dksX1_isSound_5 : cX1_isSound.data.toList.drop 119 = dktX1_isSound_5 := dk_seg dksX1_isSound_4 23 rfl rfl
theorem dksX1_isSound_6 : cX1_isSound.data.toList.drop 143 = dktX1_isSound_6 := dk_seg dksX1_isSound_5 24 rfl rfl
theorem dksX1_isSound_7 : cX1_isSound.data.toList.drop 165 = dktX1_isSound_7 := dk_seg dksX1_isSound_6 22 rfl rfl
theorem dX1_isSound_0 : decode cX1_isSound 0 = .ok (.iload_n 1, 1) := dk_27 (dk_at dksX1_isSound_0 0 rfl rfl)
theorem dX1_isSound_1 : decode cX1_isSound 1 = .ok (.invokestatic 129, 3) := dk_184 0 129 (dk_at dksX1_isSound_0 1 rfl rfl)
theorem dX1_isSound_4 : decode cX1_isSound 4 = .ok (.invokestatic 96, 3) := dk_184 0 96 (dk_at dksX1_isSound_0 4 rfl rfl)
theorem dX1_isSound_7 : decode cX1_isSound 7 = .ok (.aload_n 0, 1) := dk_42 (dk_at dksX1_isSound_0 7 rfl rfl)
theorem dX1_isSound_8 : decode cX1_isSound 8 = .ok (.iload_n 1, 1) := dk_27 (dk_at dksX1_isSound_0 8 rfl rfl)
theorem dX1_isSound_9 : decode cX1_isSound 9 = .ok (.invokevirtual 354, 3) := dk_182 1 98 (dk_at dksX1_isSound_0 9 rfl rfl)
theorem dX1_isSound_12 : decode cX1_isSound 12 = .ok (.astore_n 2, 1) := dk_77 (dk_at dksX1_isSound_0 12 rfl rfl)
theorem dX1_isSound_13 : decode cX1_isSound 13 = .ok (.aload_n 2, 1) := dk_44 (dk_at dksX1_isSound_0 13 rfl rfl)
theorem dX1_isSound_14 : decode cX1_isSound 14 = .ok (.invokestatic 357, 3) := dk_184 1 101 (dk_at dksX1_isSound_0 14 rfl rfl)
theorem dX1_isSound_17 : decode cX1_isSound 17 = .ok (.astore_n 3, 1) := dk_78 (dk_at dksX1_isSound_0 17 rfl rfl)
theorem dX1_isSound_18 : decode cX1_isSound 18 = .ok (.aload_n 2, 1) := dk_44 (dk_at dksX1_isSound_0 18 rfl rfl)
theorem dX1_isSound_19 : decode cX1_isSound 19 = .ok (.invokestatic 439, 3) := dk_184 1 183 (dk_at dksX1_isSound_0 19 rfl rfl)
theorem dX1_isSound_22 : decode cX1_isSound 22 = .ok (.astore 4, 2) := dk_58 4 (dk_at dksX1_isSound_0 22 rfl rfl)
theorem dX1_isSound_24 : decode cX1_isSound 24 = .ok (.aload_n 0, 1) := dk_42 (dk_at dksX1_isSound_1 0 rfl rfl)
theorem dX1_isSound_25 : decode cX1_isSound 25 = .ok (.iconst (-1), 1) := dk_2 (dk_at dksX1_isSound_1 1 rfl rfl)
theorem dX1_isSound_26 : decode cX1_isSound 26 = .ok (.invokevirtual 113, 3) := dk_182 0 113 (dk_at dksX1_isSound_1 2 rfl rfl)
theorem dX1_isSound_29 : decode cX1_isSound 29 = .ok (.astore 5, 2) := dk_58 5 (dk_at dksX1_isSound_1 5 rfl rfl)
theorem dX1_isSound_31 : decode cX1_isSound 31 = .ok (.aload_n 0, 1) := dk_42 (dk_at dksX1_isSound_1 7 rfl rfl)
theorem dX1_isSound_32 : decode cX1_isSound 32 = .ok (.iload_n 1, 1) := dk_27 (dk_at dksX1_isSound_1 8 rfl rfl)
theorem dX1_isSound_33 : decode cX1_isSound 33 = .ok (.invokevirtual 636, 3) := dk_182 2 124 (dk_at dksX1_isSound_1 9 rfl rfl)
theorem dX1_isSound_36 : decode cX1_isSound 36 = .ok (.aload_n 0, 1) := dk_42 (dk_at dksX1_isSound_1 12 rfl rfl)
theorem dX1_isSound_37 : decode cX1_isSound 37 = .ok (.iload_n 1, 1) := dk_27 (dk_at dksX1_isSound_1 13 rfl rfl)
theorem dX1_isSound_38 : decode cX1_isSound 38 = .ok (.invokevirtual 639, 3) := dk_182 2 127 (dk_at dksX1_isSound_1 14 rfl rfl)
theorem dX1_isSound_41 : decode cX1_isSound 41 = .ok (.if_icmp .ne 7, 3) := dk_160 0 7 (dk_at dksX1_isSound_1 17 rfl rfl)
theorem dX1_isSound_44 : decode cX1_isSound 44 = .ok (.iconst 1, 1) := dk_4 (dk_at dksX1_isSound_1 20 rfl rfl)
theorem dX1_isSound_45 : decode cX1_isSound 45 = .ok (.goto 4, 3) := dk_167 0 4 (dk_at dksX1_isSound_1 21 rfl rfl)
theorem dX1_isSound_48 : decode cX1_isSound 48 = .ok (.iconst 0, 1) := dk_3 (dk_at dksX1_isSound_2 0 rfl rfl)
theorem dX1_isSound_49 : decode cX1_isSound 49 = .ok (.istore 6, 2) := dk_54 6 (dk_at dksX1_isSound_2 1 rfl rfl)
theorem dX1_isSound_51 : decode cX1_isSound 51 = .ok (.iconst 0, 1) := dk_3 (dk_at dksX1_isSound_2 3 rfl rfl)
theorem dX1_isSound_52 : decode cX1_isSound 52 = .ok (.istore 7, 2) := dk_54 7 (dk_at dksX1_isSound_2 4 rfl rfl)
theorem dX1_isSound_54 : decode cX1_isSound 54 = .ok (.iload 7, 2) := dk_21 7 (dk_at dksX1_isSound_2 6 rfl rfl)
theorem dX1_isSound_56 : decode cX1_isSound 56 = .ok (.aload_n 0, 1) := dk_42 (dk_at dksX1_isSound_2 8 rfl rfl)
theorem dX1_isSound_57 : decode cX1_isSound 57 = .ok (.getfield 68, 3) := dk_180 0 68 (dk_at dksX1_isSound_2 9 rfl rfl)
theorem dX1_isSound_60 : decode cX1_isSound 60 = .ok (.if_icmp .ge 108, 3) := dk_162 0 108 (dk_at dksX1_isSound_2 12 rfl rfl)
theorem dX1_isSound_63 : decode cX1_isSound 63 = .ok (.iload 6, 2) := dk_21 6 (dk_at dksX1_isSound_2 15 rfl rfl)
theorem dX1_isSound_65 : decode cX1_isSound 65 = .ok (.ifCond .eq 103, 3) := dk_153 0 103 (dk_at dksX1_isSound_2 17 rfl rfl)
theorem dX1_isSound_68 : decode cX1_isSound 68 = .ok (.aload_n 0, 1) := dk_42 (dk_at dksX1_isSound_2 20 rfl rfl)
theorem dX1_isSound_69 : decode cX1_isSound 69 = .ok (.aload_n 3, 1) := dk_45 (dk_at dksX1_isSound_2 21 rfl rfl)
theorem dX1_isSound_70 : decode cX1_isSound 70 = .ok (.iload 7, 2) := dk_21 7 (dk_at dksX1_isSound_2 22 rfl rfl)
theorem dX1_isSound_72 : decode cX1_isSound 72 = .ok (.sipush 480, 3) := dk_17 1 224 (dk_at dksX1_isSound_3 0 rfl rfl)
theorem dX1_isSound_75 : decode cX1_isSound 75 = .ok (.iconst (-1), 1) := dk_2 (dk_at dksX1_isSound_3 3 rfl rfl)
theorem dX1_isSound_76 : decode cX1_isSound 76 = .ok (.aload 5, 2) := dk_25 5 (dk_at dksX1_isSound_3 4 rfl rfl)
theorem dX1_isSound_78 : decode cX1_isSound 78 = .ok (.invokevirtual 361, 3) := dk_182 1 105 (dk_at dksX1_isSound_3 6 rfl rfl)
theorem dX1_isSound_81 : decode cX1_isSound 81 = .ok (.astore 8, 2) := dk_58 8 (dk_at dksX1_isSound_3 9 rfl rfl)
theorem dX1_isSound_83 : decode cX1_isSound 83 = .ok (.aload_n 0, 1) := dk_42 (dk_at dksX1_isSound_3 11 rfl rfl)
theorem dX1_isSound_84 : decode cX1_isSound 84 = .ok (.iload_n 1, 1) := dk_27 (dk_at dksX1_isSound_3 12 rfl rfl)
theorem dX1_isSound_85 : decode cX1_isSound 85 = .ok (.iload 7, 2) := dk_21 7 (dk_at dksX1_isSound_3 13 rfl rfl)
theorem dX1_isSound_87 : decode cX1_isSound 87 = .ok (.aload 8, 2) := dk_25 8 (dk_at dksX1_isSound_3 15 rfl rfl)
theorem dX1_isSound_89 : decode cX1_isSound 89 = .ok (.aload_n 2, 1) := dk_44 (dk_at dksX1_isSound_3 17 rfl rfl)
theorem dX1_isSound_90 : decode cX1_isSound 90 = .ok (.invokevirtual 642, 3) := dk_182 2 130 (dk_at dksX1_isSound_3 18 rfl rfl)
theorem dX1_isSound_93 : decode cX1_isSound 93 = .ok (.ifCond .eq 23, 3) := dk_153 0 23 (dk_at dksX1_isSound_3 21 rfl rfl)
theorem dX1_isSound_96 : decode cX1_isSound 96 = .ok (.aload_n 0, 1) := dk_42 (dk_at dksX1_isSound_4 0 rfl rfl)
theorem dX1_isSound_97 : decode cX1_isSound 97 = .ok (.iload 7, 2) := dk_21 7 (dk_at dksX1_isSound_4 1 rfl rfl)
theorem dX1_isSound_99 : decode cX1_isSound 99 = .ok (.aload 8, 2) := dk_25 8 (dk_at dksX1_isSound_4 3 rfl rfl)
theorem dX1_isSound_101 : decode cX1_isSound 101 = .ok (.aload_n 3, 1) := dk_45 (dk_at dksX1_isSound_4 5 rfl rfl)
theorem dX1_isSound_102 : decode cX1_isSound 102 = .ok (.aload 4, 2) := dk_25 4 (dk_at dksX1_isSound_4 6 rfl rfl)
theorem dX1_isSound_104 : decode cX1_isSound 104 = .ok (.aload 5, 2) := dk_25 5 (dk_at dksX1_isSound_4 8 rfl rfl)
theorem dX1_isSound_106 : decode cX1_isSound 106 = .ok (.invokevirtual 646, 3) := dk_182 2 134 (dk_at dksX1_isSound_4 10 rfl rfl)
theorem dX1_isSound_109 : decode cX1_isSound 109 = .ok (.ifCond .eq 7, 3) := dk_153 0 7 (dk_at dksX1_isSound_4 13 rfl rfl)
theorem dX1_isSound_112 : decode cX1_isSound 112 = .ok (.iconst 1, 1) := dk_4 (dk_at dksX1_isSound_4 16 rfl rfl)
theorem dX1_isSound_113 : decode cX1_isSound 113 = .ok (.goto 4, 3) := dk_167 0 4 (dk_at dksX1_isSound_4 17 rfl rfl)
theorem dX1_isSound_116 : decode cX1_isSound 116 = .ok (.iconst 0, 1) := dk_3 (dk_at dksX1_isSound_4 20 rfl rfl)
theorem dX1_isSound_117 : decode cX1_isSound 117 = .ok (.istore 6, 2) := dk_54 6 (dk_at dksX1_isSound_4 21 rfl rfl)
theorem dX1_isSound_119 : decode cX1_isSound 119 = .ok (.iload 6, 2) := dk_21 6 (dk_at dksX1_isSound_5 0 rfl rfl)
theorem dX1_isSound_121 : decode cX1_isSound 121 = .ok (.ifCond .eq 41, 3) := dk_153 0 41 (dk_at dksX1_isSound_5 2 rfl rfl)
theorem dX1_isSound_124 : decode cX1_isSound 124 = .ok (.iload 7, 2) := dk_21 7 (dk_at dksX1_isSound_5 5 rfl rfl)
theorem dX1_isSound_126 : decode cX1_isSound 126 = .ok (.ifCond .ne 36, 3) := dk_154 0 36 (dk_at dksX1_isSound_5 7 rfl rfl)
theorem dX1_isSound_129 : decode cX1_isSound 129 = .ok (.aload_n 0, 1) := dk_42 (dk_at dksX1_isSound_5 10 rfl rfl)
theorem dX1_isSound_130 : decode cX1_isSound 130 = .ok (.getfield 68, 3) := dk_180 0 68 (dk_at dksX1_isSound_5 11 rfl rfl)
theorem dX1_isSound_133 : decode cX1_isSound 133 = .ok (.iconst 1, 1) := dk_4 (dk_at dksX1_isSound_5 14 rfl rfl)
theorem dX1_isSound_134 : decode cX1_isSound 134 = .ok (.if_icmp .le 28, 3) := dk_164 0 28 (dk_at dksX1_isSound_5 15 rfl rfl)
theorem dX1_isSound_137 : decode cX1_isSound 137 = .ok (.aload_n 0, 1) := dk_42 (dk_at dksX1_isSound_5 18 rfl rfl)
theorem dX1_isSound_138 : decode cX1_isSound 138 = .ok (.iload_n 1, 1) := dk_27 (dk_at dksX1_isSound_5 19 rfl rfl)
theorem dX1_isSound_139 : decode cX1_isSound 139 = .ok (.aload_n 0, 1) := dk_42 (dk_at dksX1_isSound_5 20 rfl rfl)
theorem dX1_isSound_140 : decode cX1_isSound 140 = .ok (.getfield 68, 3) := dk_180 0 68 (dk_at dksX1_isSound_5 21 rfl rfl)
theorem dX1_isSound_143 : decode cX1_isSound 143 = .ok (.iconst 1, 1) := dk_4 (dk_at dksX1_isSound_6 0 rfl rfl)
theorem dX1_isSound_144 : decode cX1_isSound 144 = .ok (.isub, 1) := dk_100 (dk_at dksX1_isSound_6 1 rfl rfl)
theorem dX1_isSound_145 : decode cX1_isSound 145 = .ok (.aload 8, 2) := dk_25 8 (dk_at dksX1_isSound_6 2 rfl rfl)
theorem dX1_isSound_147 : decode cX1_isSound 147 = .ok (.getfield 372, 3) := dk_180 1 116 (dk_at dksX1_isSound_6 4 rfl rfl)
theorem dX1_isSound_150 : decode cX1_isSound 150 = .ok (.aload_n 0, 1) := dk_42 (dk_at dksX1_isSound_6 7 rfl rfl)
theorem dX1_isSound_151 : decode cX1_isSound 151 = .ok (.getfield 68, 3) := dk_180 0 68 (dk_at dksX1_isSound_6 8 rfl rfl)
theorem dX1_isSound_154 : decode cX1_isSound 154 = .ok (.iconst 1, 1) := dk_4 (dk_at dksX1_isSound_6 11 rfl rfl)
theorem dX1_isSound_155 : decode cX1_isSound 155 = .ok (.isub, 1) := dk_100 (dk_at dksX1_isSound_6 12 rfl rfl)
theorem dX1_isSound_156 : decode cX1_isSound 156 = .ok (.iaload, 1) := dk_46 (dk_at dksX1_isSound_6 13 rfl rfl)
theorem dX1_isSound_157 : decode cX1_isSound 157 = .ok (.invokevirtual 650, 3) := dk_182 2 138 (dk_at dksX1_isSound_6 14 rfl rfl)
theorem dX1_isSound_160 : decode cX1_isSound 160 = .ok (.istore 6, 2) := dk_54 6 (dk_at dksX1_isSound_6 17 rfl rfl)
theorem dX1_isSound_162 : decode cX1_isSound 162 = .ok (.iinc 7 1, 3) := dk_132 7 1 (dk_at dksX1_isSound_6 19 rfl rfl)
theorem dX1_isSound_165 : decode cX1_isSound 165 = .ok (.goto (-111), 3) := dk_167 255 145 (dk_at dksX1_isSound_7 0 rfl rfl)
theorem dX1_isSound_168 : decode cX1_isSound 168 = .ok (.iload 6, 2) := dk_21 6 (dk_at dksX1_isSound_7 3 rfl rfl)
theorem dX1_isSound_170 : decode cX1_isSound 170 = .ok (.ireturn, 1) := dk_172 (dk_at dksX1_isSound_7 5 rfl rfl)
abbrev cX1_areAlike : ByteArray := prog_1_method_109_code
def yX1_areAlike : MethodName := ⟨RX1, "areAlike", "(IILLastbus$Labels;Ljava/util/List;)Z"⟩
def dkwX1_areAlike_4 : List UInt8 := [4, 172]
abbrev dktX1_areAlike_4 : List UInt8 := dkwX1_areAlike_4 ++ []
def dkwX1_areAlike_3 : List UInt8 := [180, 1, 116, 21, 8, 46, 45, 180, 1, 116, 21, 8, 46, 159, 0, 5, 3, 172, 132, 8, 1, 167, 255, 209]
abbrev dktX1_areAlike_3 : List UInt8 := dkwX1_areAlike_3 ++ dktX1_areAlike_4
def dkwX1_areAlike_2 : List UInt8 := [180, 0, 68, 162, 0, 44, 25, 5, 21, 8, 46, 45, 180, 1, 116, 21, 8, 46, 160, 0, 21, 25, 7]
abbrev dktX1_areAlike_2 : List UInt8 := dkwX1_areAlike_2 ++ dktX1_areAlike_3
def dkwX1_areAlike_1 : List UInt8 := [25, 6, 25, 6, 182, 0, 71, 4, 100, 182, 0, 79, 192, 1, 80, 58, 7, 3, 54, 8, 21, 8, 42]
abbrev dktX1_areAlike_1 : List UInt8 := dkwX1_areAlike_1 ++ dktX1_areAlike_2
def dkwX1_areAlike_0 : List UInt8 := [42, 28, 27, 17, 1, 224, 182, 1, 151, 58, 5, 42, 25, 4, 28, 17, 1, 224, 182, 1, 163, 58, 6]
abbrev dktX1_areAlike_0 : List UInt8 := dkwX1_areAlike_0 ++ dktX1_areAlike_1
theorem dksX1_areAlike_0 : cX1_areAlike.data.toList.drop 0 = dktX1_areAlike_0 := by decide +kernel
theorem dksX1_areAlike_1 : cX1_areAlike.data.toList.drop 23 = dktX1_areAlike_1 := dk_seg dksX1_areAlike_0 23 rfl rfl
theorem dksX1_areAlike_2 : cX1_areAlike.data.toList.drop 46 = dktX1_areAlike_2 := dk_seg dksX1_areAlike_1 23 rfl rfl
theorem dksX1_areAlike_3 : cX1_areAlike.data.toList.drop 69 = dktX1_areAlike_3 := dk_seg dksX1_areAlike_2 23 rfl rfl
theorem dksX1_areAlike_4 : cX1_areAlike.data.toList.drop 93 = dktX1_areAlike_4 := dk_seg dksX1_areAlike_3 24 rfl rfl
theorem dX1_areAlike_0 : decode cX1_areAlike 0 = .ok (.aload_n 0, 1) := dk_42 (dk_at dksX1_areAlike_0 0 rfl rfl)
theorem dX1_areAlike_1 : decode cX1_areAlike 1 = .ok (.iload_n 2, 1) := dk_28 (dk_at dksX1_areAlike_0 1 rfl rfl)
theorem dX1_areAlike_2 : decode cX1_areAlike 2 = .ok (.iload_n 1, 1) := dk_27 (dk_at dksX1_areAlike_0 2 rfl rfl)
theorem dX1_areAlike_3 : decode cX1_areAlike 3 = .ok (.sipush 480, 3) := dk_17 1 224 (dk_at dksX1_areAlike_0 3 rfl rfl)
theorem dX1_areAlike_6 : decode cX1_areAlike 6 = .ok (.invokevirtual 407, 3) := dk_182 1 151 (dk_at dksX1_areAlike_0 6 rfl rfl)
theorem dX1_areAlike_9 : decode cX1_areAlike 9 = .ok (.astore 5, 2) := dk_58 5 (dk_at dksX1_areAlike_0 9 rfl rfl)
theorem dX1_areAlike_11 : decode cX1_areAlike 11 = .ok (.aload_n 0, 1) := dk_42 (dk_at dksX1_areAlike_0 11 rfl rfl)
theorem dX1_areAlike_12 : decode cX1_areAlike 12 = .ok (.aload 4, 2) := dk_25 4 (dk_at dksX1_areAlike_0 12 rfl rfl)
theorem dX1_areAlike_14 : decode cX1_areAlike 14 = .ok (.iload_n 2, 1) := dk_28 (dk_at dksX1_areAlike_0 14 rfl rfl)
theorem dX1_areAlike_15 : decode cX1_areAlike 15 = .ok (.sipush 480, 3) := dk_17 1 224 (dk_at dksX1_areAlike_0 15 rfl rfl)
theorem dX1_areAlike_18 : decode cX1_areAlike 18 = .ok (.invokevirtual 419, 3) := dk_182 1 163 (dk_at dksX1_areAlike_0 18 rfl rfl)
theorem dX1_areAlike_21 : decode cX1_areAlike 21 = .ok (.astore 6, 2) := dk_58 6 (dk_at dksX1_areAlike_0 21 rfl rfl)
theorem dX1_areAlike_23 : decode cX1_areAlike 23 = .ok (.aload 6, 2) := dk_25 6 (dk_at dksX1_areAlike_1 0 rfl rfl)
theorem dX1_areAlike_25 : decode cX1_areAlike 25 = .ok (.aload 6, 2) := dk_25 6 (dk_at dksX1_areAlike_1 2 rfl rfl)
theorem dX1_areAlike_27 : decode cX1_areAlike 27 = .ok (.invokevirtual 71, 3) := dk_182 0 71 (dk_at dksX1_areAlike_1 4 rfl rfl)
theorem dX1_areAlike_30 : decode cX1_areAlike 30 = .ok (.iconst 1, 1) := dk_4 (dk_at dksX1_areAlike_1 7 rfl rfl)
theorem dX1_areAlike_31 : decode cX1_areAlike 31 = .ok (.isub, 1) := dk_100 (dk_at dksX1_areAlike_1 8 rfl rfl)
theorem dX1_areAlike_32 : decode cX1_areAlike 32 = .ok (.invokevirtual 79, 3) := dk_182 0 79 (dk_at dksX1_areAlike_1 9 rfl rfl)
theorem dX1_areAlike_35 : decode cX1_areAlike 35 = .ok (.checkcast 336, 3) := dk_192 1 80 (dk_at dksX1_areAlike_1 12 rfl rfl)
theorem dX1_areAlike_38 : decode cX1_areAlike 38 = .ok (.astore 7, 2) := dk_58 7 (dk_at dksX1_areAlike_1 15 rfl rfl)
theorem dX1_areAlike_40 : decode cX1_areAlike 40 = .ok (.iconst 0, 1) := dk_3 (dk_at dksX1_areAlike_1 17 rfl rfl)
theorem dX1_areAlike_41 : decode cX1_areAlike 41 = .ok (.istore 8, 2) := dk_54 8 (dk_at dksX1_areAlike_1 18 rfl rfl)
theorem dX1_areAlike_43 : decode cX1_areAlike 43 = .ok (.iload 8, 2) := dk_21 8 (dk_at dksX1_areAlike_1 20 rfl rfl)
theorem dX1_areAlike_45 : decode cX1_areAlike 45 = .ok (.aload_n 0, 1) := dk_42 (dk_at dksX1_areAlike_1 22 rfl rfl)
theorem dX1_areAlike_46 : decode cX1_areAlike 46 = .ok (.getfield 68, 3) := dk_180 0 68 (dk_at dksX1_areAlike_2 0 rfl rfl)
theorem dX1_areAlike_49 : decode cX1_areAlike 49 = .ok (.if_icmp .ge 44, 3) := dk_162 0 44 (dk_at dksX1_areAlike_2 3 rfl rfl)
theorem dX1_areAlike_52 : decode cX1_areAlike 52 = .ok (.aload 5, 2) := dk_25 5 (dk_at dksX1_areAlike_2 6 rfl rfl)
theorem dX1_areAlike_54 : decode cX1_areAlike 54 = .ok (.iload 8, 2) := dk_21 8 (dk_at dksX1_areAlike_2 8 rfl rfl)
theorem dX1_areAlike_56 : decode cX1_areAlike 56 = .ok (.iaload, 1) := dk_46 (dk_at dksX1_areAlike_2 10 rfl rfl)
theorem dX1_areAlike_57 : decode cX1_areAlike 57 = .ok (.aload_n 3, 1) := dk_45 (dk_at dksX1_areAlike_2 11 rfl rfl)
theorem dX1_areAlike_58 : decode cX1_areAlike 58 = .ok (.getfield 372, 3) := dk_180 1 116 (dk_at dksX1_areAlike_2 12 rfl rfl)
theorem dX1_areAlike_61 : decode cX1_areAlike 61 = .ok (.iload 8, 2) := dk_21 8 (dk_at dksX1_areAlike_2 15 rfl rfl)
theorem dX1_areAlike_63 : decode cX1_areAlike 63 = .ok (.iaload, 1) := dk_46 (dk_at dksX1_areAlike_2 17 rfl rfl)
theorem dX1_areAlike_64 : decode cX1_areAlike 64 = .ok (.if_icmp .ne 21, 3) := dk_160 0 21 (dk_at dksX1_areAlike_2 18 rfl rfl)
theorem dX1_areAlike_67 : decode cX1_areAlike 67 = .ok (.aload 7, 2) := dk_25 7 (dk_at dksX1_areAlike_2 21 rfl rfl)
theorem dX1_areAlike_69 : decode cX1_areAlike 69 = .ok (.getfield 372, 3) := dk_180 1 116 (dk_at dksX1_areAlike_3 0 rfl rfl)
theorem dX1_areAlike_72 : decode cX1_areAlike 72 = .ok (.iload 8, 2) := dk_21 8 (dk_at dksX1_areAlike_3 3 rfl rfl)
theorem dX1_areAlike_74 : decode cX1_areAlike 74 = .ok (.iaload, 1) := dk_46 (dk_at dksX1_areAlike_3 5 rfl rfl)
theorem dX1_areAlike_75 : decode cX1_areAlike 75 = .ok (.aload_n 3, 1) := dk_45 (dk_at dksX1_areAlike_3 6 rfl rfl)
theorem dX1_areAlike_76 : decode cX1_areAlike 76 = .ok (.getfield 372, 3) := dk_180 1 116 (dk_at dksX1_areAlike_3 7 rfl rfl)
theorem dX1_areAlike_79 : decode cX1_areAlike 79 = .ok (.iload 8, 2) := dk_21 8 (dk_at dksX1_areAlike_3 10 rfl rfl)
theorem dX1_areAlike_81 : decode cX1_areAlike 81 = .ok (.iaload, 1) := dk_46 (dk_at dksX1_areAlike_3 12 rfl rfl)
theorem dX1_areAlike_82 : decode cX1_areAlike 82 = .ok (.if_icmp .eq 5, 3) := dk_159 0 5 (dk_at dksX1_areAlike_3 13 rfl rfl)
theorem dX1_areAlike_85 : decode cX1_areAlike 85 = .ok (.iconst 0, 1) := dk_3 (dk_at dksX1_areAlike_3 16 rfl rfl)
theorem dX1_areAlike_86 : decode cX1_areAlike 86 = .ok (.ireturn, 1) := dk_172 (dk_at dksX1_areAlike_3 17 rfl rfl)
theorem dX1_areAlike_87 : decode cX1_areAlike 87 = .ok (.iinc 8 1, 3) := dk_132 8 1 (dk_at dksX1_areAlike_3 18 rfl rfl)
theorem dX1_areAlike_90 : decode cX1_areAlike 90 = .ok (.goto (-47), 3) := dk_167 255 209 (dk_at dksX1_areAlike_3 21 rfl rfl)
theorem dX1_areAlike_93 : decode cX1_areAlike 93 = .ok (.iconst 1, 1) := dk_4 (dk_at dksX1_areAlike_4 0 rfl rfl)
theorem dX1_areAlike_94 : decode cX1_areAlike 94 = .ok (.ireturn, 1) := dk_172 (dk_at dksX1_areAlike_4 1 rfl rfl)
abbrev cX1_isLastChance : ByteArray := prog_1_method_110_code
def yX1_isLastChance : MethodName := ⟨RX1, "isLastChance", "(ILLastbus$Labels;Ljava/util/List;Ljava/util/List;[[I)Z"⟩
def dkwX1_isLastChance_6 : List UInt8 := [4, 172]
abbrev dktX1_isLastChance_6 : List UInt8 := dkwX1_isLastChance_6 ++ []
def dkwX1_isLastChance_5 : List UInt8 := [17, 1, 224, 161, 0, 13, 21, 8, 153, 0, 8, 21, 9, 154, 0, 5, 3, 172, 132, 6, 1, 167, 255, 122]
abbrev dktX1_isLastChance_5 : List UInt8 := dkwX1_isLastChance_5 ++ dktX1_isLastChance_6
def dkwX1_isLastChance_4 : List UInt8 := [21, 6, 46, 44, 180, 1, 116, 21, 6, 46, 164, 0, 7, 4, 167, 0, 4, 3, 54, 9, 21, 7]
abbrev dktX1_isLastChance_4 : List UInt8 := dkwX1_isLastChance_4 ++ dktX1_isLastChance_5
def dkwX1_isLastChance_3 : List UInt8 := [4, 167, 0, 4, 3, 54, 8, 42, 45, 27, 21, 7, 4, 96, 2, 25, 5, 182, 1, 105, 180, 1, 116]
abbrev dktX1_isLastChance_3 : List UInt8 := dkwX1_isLastChance_3 ++ dktX1_isLastChance_4
def dkwX1_isLastChance_2 : List UInt8 := [21, 7, 2, 25, 5, 182, 1, 105, 180, 1, 116, 21, 6, 46, 44, 180, 1, 116, 21, 6, 46, 163, 0, 7]
abbrev dktX1_isLastChance_2 : List UInt8 := dkwX1_isLastChance_2 ++ dktX1_isLastChance_3
def dkwX1_isLastChance_1 : List UInt8 := [42, 25, 4, 25, 5, 27, 21, 6, 44, 180, 1, 116, 21, 6, 46, 182, 1, 186, 54, 7, 42, 45, 27]
abbrev dktX1_isLastChance_1 : List UInt8 := dkwX1_isLastChance_1 ++ dktX1_isLastChance_2
def dkwX1_isLastChance_0 : List UInt8 := [3, 54, 6, 21, 6, 42, 180, 0, 68, 162, 0, 131, 44, 180, 1, 116, 21, 6, 46, 18, 106, 162, 0, 113]
abbrev dktX1_isLastChance_0 : List UInt8 := dkwX1_isLastChance_0 ++ dktX1_isLastChance_1
theorem dksX1_isLastChance_0 : cX1_isLastChance.data.toList.drop 0 = dktX1_isLastChance_0 := by decide +kernel
theorem dksX1_isLastChance_1 : cX1_isLastChance.data.toList.drop 24 = dktX1_isLastChance_1 := dk_seg dksX1_isLastChance_0 24 rfl rfl
theorem dksX1_isLastChance_2 : cX1_isLastChance.data.toList.drop 47 = dktX1_isLastChance_2 := dk_seg dksX1_isLastChance_1 23 rfl rfl
theorem dksX1_isLastChance_3 : cX1_isLastChance.data.toList.drop 71 = dktX1_isLastChance_3 := dk_seg dksX1_isLastChance_2 24 rfl rfl
theorem dksX1_isLastChance_4 : cX1_isLastChance.data.toList.drop 94 = dktX1_isLastChance_4 := dk_seg dksX1_isLastChance_3 23 rfl rfl
theorem dksX1_isLastChance_5 : cX1_isLastChance.data.toList.drop 116 = dktX1_isLastChance_5 := dk_seg dksX1_isLastChance_4 22 rfl rfl
theorem dksX1_isLastChance_6 : cX1_isLastChance.data.toList.drop 140 = dktX1_isLastChance_6 := dk_seg dksX1_isLastChance_5 24 rfl rfl
theorem dX1_isLastChance_0 : decode cX1_isLastChance 0 = .ok (.iconst 0, 1) := dk_3 (dk_at dksX1_isLastChance_0 0 rfl rfl)
theorem dX1_isLastChance_1 : decode cX1_isLastChance 1 = .ok (.istore 6, 2) := dk_54 6 (dk_at dksX1_isLastChance_0 1 rfl rfl)
theorem dX1_isLastChance_3 : decode cX1_isLastChance 3 = .ok (.iload 6, 2) := dk_21 6 (dk_at dksX1_isLastChance_0 3 rfl rfl)
theorem dX1_isLastChance_5 : decode cX1_isLastChance 5 = .ok (.aload_n 0, 1) := dk_42 (dk_at dksX1_isLastChance_0 5 rfl rfl)
theorem dX1_isLastChance_6 : decode cX1_isLastChance 6 = .ok (.getfield 68, 3) := dk_180 0 68 (dk_at dksX1_isLastChance_0 6 rfl rfl)
theorem dX1_isLastChance_9 : decode cX1_isLastChance 9 = .ok (.if_icmp .ge 131, 3) := dk_162 0 131 (dk_at dksX1_isLastChance_0 9 rfl rfl)
theorem dX1_isLastChance_12 : decode cX1_isLastChance 12 = .ok (.aload_n 2, 1) := dk_44 (dk_at dksX1_isLastChance_0 12 rfl rfl)
theorem dX1_isLastChance_13 : decode cX1_isLastChance 13 = .ok (.getfield 372, 3) := dk_180 1 116 (dk_at dksX1_isLastChance_0 13 rfl rfl)
theorem dX1_isLastChance_16 : decode cX1_isLastChance 16 = .ok (.iload 6, 2) := dk_21 6 (dk_at dksX1_isLastChance_0 16 rfl rfl)
theorem dX1_isLastChance_18 : decode cX1_isLastChance 18 = .ok (.iaload, 1) := dk_46 (dk_at dksX1_isLastChance_0 18 rfl rfl)
theorem dX1_isLastChance_19 : decode cX1_isLastChance 19 = .ok (.ldc 106, 2) := dk_18 106 (dk_at dksX1_isLastChance_0 19 rfl rfl)
theorem dX1_isLastChance_21 : decode cX1_isLastChance 21 = .ok (.if_icmp .ge 113, 3) := dk_162 0 113 (dk_at dksX1_isLastChance_0 21 rfl rfl)
theorem dX1_isLastChance_24 : decode cX1_isLastChance 24 = .ok (.aload_n 0, 1) := dk_42 (dk_at dksX1_isLastChance_1 0 rfl rfl)
theorem dX1_isLastChance_25 : decode cX1_isLastChance 25 = .ok (.aload 4, 2) := dk_25 4 (dk_at dksX1_isLastChance_1 1 rfl rfl)
theorem dX1_isLastChance_27 : decode cX1_isLastChance 27 = .ok (.aload 5, 2) := dk_25 5 (dk_at dksX1_isLastChance_1 3 rfl rfl)
theorem dX1_isLastChance_29 : decode cX1_isLastChance 29 = .ok (.iload_n 1, 1) := dk_27 (dk_at dksX1_isLastChance_1 5 rfl rfl)
theorem dX1_isLastChance_30 : decode cX1_isLastChance 30 = .ok (.iload 6, 2) := dk_21 6 (dk_at dksX1_isLastChance_1 6 rfl rfl)
theorem dX1_isLastChance_32 : decode cX1_isLastChance 32 = .ok (.aload_n 2, 1) := dk_44 (dk_at dksX1_isLastChance_1 8 rfl rfl)
theorem dX1_isLastChance_33 : decode cX1_isLastChance 33 = .ok (.getfield 372, 3) := dk_180 1 116 (dk_at dksX1_isLastChance_1 9 rfl rfl)
theorem dX1_isLastChance_36 : decode cX1_isLastChance 36 = .ok (.iload 6, 2) := dk_21 6 (dk_at dksX1_isLastChance_1 12 rfl rfl)
theorem dX1_isLastChance_38 : decode cX1_isLastChance 38 = .ok (.iaload, 1) := dk_46 (dk_at dksX1_isLastChance_1 14 rfl rfl)
theorem dX1_isLastChance_39 : decode cX1_isLastChance 39 = .ok (.invokevirtual 442, 3) := dk_182 1 186 (dk_at dksX1_isLastChance_1 15 rfl rfl)
theorem dX1_isLastChance_42 : decode cX1_isLastChance 42 = .ok (.istore 7, 2) := dk_54 7 (dk_at dksX1_isLastChance_1 18 rfl rfl)
theorem dX1_isLastChance_44 : decode cX1_isLastChance 44 = .ok (.aload_n 0, 1) := dk_42 (dk_at dksX1_isLastChance_1 20 rfl rfl)
theorem dX1_isLastChance_45 : decode cX1_isLastChance 45 = .ok (.aload_n 3, 1) := dk_45 (dk_at dksX1_isLastChance_1 21 rfl rfl)
theorem dX1_isLastChance_46 : decode cX1_isLastChance 46 = .ok (.iload_n 1, 1) := dk_27 (dk_at dksX1_isLastChance_1 22 rfl rfl)
theorem dX1_isLastChance_47 : decode cX1_isLastChance 47 = .ok (.iload 7, 2) := dk_21 7 (dk_at dksX1_isLastChance_2 0 rfl rfl)
theorem dX1_isLastChance_49 : decode cX1_isLastChance 49 = .ok (.iconst (-1), 1) := dk_2 (dk_at dksX1_isLastChance_2 2 rfl rfl)
theorem dX1_isLastChance_50 : decode cX1_isLastChance 50 = .ok (.aload 5, 2) := dk_25 5 (dk_at dksX1_isLastChance_2 3 rfl rfl)
theorem dX1_isLastChance_52 : decode cX1_isLastChance 52 = .ok (.invokevirtual 361, 3) := dk_182 1 105 (dk_at dksX1_isLastChance_2 5 rfl rfl)
theorem dX1_isLastChance_55 : decode cX1_isLastChance 55 = .ok (.getfield 372, 3) := dk_180 1 116 (dk_at dksX1_isLastChance_2 8 rfl rfl)
theorem dX1_isLastChance_58 : decode cX1_isLastChance 58 = .ok (.iload 6, 2) := dk_21 6 (dk_at dksX1_isLastChance_2 11 rfl rfl)
theorem dX1_isLastChance_60 : decode cX1_isLastChance 60 = .ok (.iaload, 1) := dk_46 (dk_at dksX1_isLastChance_2 13 rfl rfl)
theorem dX1_isLastChance_61 : decode cX1_isLastChance 61 = .ok (.aload_n 2, 1) := dk_44 (dk_at dksX1_isLastChance_2 14 rfl rfl)
theorem dX1_isLastChance_62 : decode cX1_isLastChance 62 = .ok (.getfield 372, 3) := dk_180 1 116 (dk_at dksX1_isLastChance_2 15 rfl rfl)
theorem dX1_isLastChance_65 : decode cX1_isLastChance 65 = .ok (.iload 6, 2) := dk_21 6 (dk_at dksX1_isLastChance_2 18 rfl rfl)
theorem dX1_isLastChance_67 : decode cX1_isLastChance 67 = .ok (.iaload, 1) := dk_46 (dk_at dksX1_isLastChance_2 20 rfl rfl)
theorem dX1_isLastChance_68 : decode cX1_isLastChance 68 = .ok (.if_icmp .gt 7, 3) := dk_163 0 7 (dk_at dksX1_isLastChance_2 21 rfl rfl)
theorem dX1_isLastChance_71 : decode cX1_isLastChance 71 = .ok (.iconst 1, 1) := dk_4 (dk_at dksX1_isLastChance_3 0 rfl rfl)
theorem dX1_isLastChance_72 : decode cX1_isLastChance 72 = .ok (.goto 4, 3) := dk_167 0 4 (dk_at dksX1_isLastChance_3 1 rfl rfl)
theorem dX1_isLastChance_75 : decode cX1_isLastChance 75 = .ok (.iconst 0, 1) := dk_3 (dk_at dksX1_isLastChance_3 4 rfl rfl)
theorem dX1_isLastChance_76 : decode cX1_isLastChance 76 = .ok (.istore 8, 2) := dk_54 8 (dk_at dksX1_isLastChance_3 5 rfl rfl)
theorem dX1_isLastChance_78 : decode cX1_isLastChance 78 = .ok (.aload_n 0, 1) := dk_42 (dk_at dksX1_isLastChance_3 7 rfl rfl)
theorem dX1_isLastChance_79 : decode cX1_isLastChance 79 = .ok (.aload_n 3, 1) := dk_45 (dk_at dksX1_isLastChance_3 8 rfl rfl)
theorem dX1_isLastChance_80 : decode cX1_isLastChance 80 = .ok (.iload_n 1, 1) := dk_27 (dk_at dksX1_isLastChance_3 9 rfl rfl)
theorem dX1_isLastChance_81 : decode cX1_isLastChance 81 = .ok (.iload 7, 2) := dk_21 7 (dk_at dksX1_isLastChance_3 10 rfl rfl)
theorem dX1_isLastChance_83 : decode cX1_isLastChance 83 = .ok (.iconst 1, 1) := dk_4 (dk_at dksX1_isLastChance_3 12 rfl rfl)
theorem dX1_isLastChance_84 : decode cX1_isLastChance 84 = .ok (.iadd, 1) := dk_96 (dk_at dksX1_isLastChance_3 13 rfl rfl)
theorem dX1_isLastChance_85 : decode cX1_isLastChance 85 = .ok (.iconst (-1), 1) := dk_2 (dk_at dksX1_isLastChance_3 14 rfl rfl)
theorem dX1_isLastChance_86 : decode cX1_isLastChance 86 = .ok (.aload 5, 2) := dk_25 5 (dk_at dksX1_isLastChance_3 15 rfl rfl)
theorem dX1_isLastChance_88 : decode cX1_isLastChance 88 = .ok (.invokevirtual 361, 3) := dk_182 1 105 (dk_at dksX1_isLastChance_3 17 rfl rfl)
theorem dX1_isLastChance_91 : decode cX1_isLastChance 91 = .ok (.getfield 372, 3) := dk_180 1 116 (dk_at dksX1_isLastChance_3 20 rfl rfl)
theorem dX1_isLastChance_94 : decode cX1_isLastChance 94 = .ok (.iload 6, 2) := dk_21 6 (dk_at dksX1_isLastChance_4 0 rfl rfl)
theorem dX1_isLastChance_96 : decode cX1_isLastChance 96 = .ok (.iaload, 1) := dk_46 (dk_at dksX1_isLastChance_4 2 rfl rfl)
theorem dX1_isLastChance_97 : decode cX1_isLastChance 97 = .ok (.aload_n 2, 1) := dk_44 (dk_at dksX1_isLastChance_4 3 rfl rfl)
theorem dX1_isLastChance_98 : decode cX1_isLastChance 98 = .ok (.getfield 372, 3) := dk_180 1 116 (dk_at dksX1_isLastChance_4 4 rfl rfl)
theorem dX1_isLastChance_101 : decode cX1_isLastChance 101 = .ok (.iload 6, 2) := dk_21 6 (dk_at dksX1_isLastChance_4 7 rfl rfl)
theorem dX1_isLastChance_103 : decode cX1_isLastChance 103 = .ok (.iaload, 1) := dk_46 (dk_at dksX1_isLastChance_4 9 rfl rfl)
theorem dX1_isLastChance_104 : decode cX1_isLastChance 104 = .ok (.if_icmp .le 7, 3) := dk_164 0 7 (dk_at dksX1_isLastChance_4 10 rfl rfl)
theorem dX1_isLastChance_107 : decode cX1_isLastChance 107 = .ok (.iconst 1, 1) := dk_4 (dk_at dksX1_isLastChance_4 13 rfl rfl)
theorem dX1_isLastChance_108 : decode cX1_isLastChance 108 = .ok (.goto 4, 3) := dk_167 0 4 (dk_at dksX1_isLastChance_4 14 rfl rfl)
theorem dX1_isLastChance_111 : decode cX1_isLastChance 111 = .ok (.iconst 0, 1) := dk_3 (dk_at dksX1_isLastChance_4 17 rfl rfl)
theorem dX1_isLastChance_112 : decode cX1_isLastChance 112 = .ok (.istore 9, 2) := dk_54 9 (dk_at dksX1_isLastChance_4 18 rfl rfl)
theorem dX1_isLastChance_114 : decode cX1_isLastChance 114 = .ok (.iload 7, 2) := dk_21 7 (dk_at dksX1_isLastChance_4 20 rfl rfl)
theorem dX1_isLastChance_116 : decode cX1_isLastChance 116 = .ok (.sipush 480, 3) := dk_17 1 224 (dk_at dksX1_isLastChance_5 0 rfl rfl)
theorem dX1_isLastChance_119 : decode cX1_isLastChance 119 = .ok (.if_icmp .lt 13, 3) := dk_161 0 13 (dk_at dksX1_isLastChance_5 3 rfl rfl)
theorem dX1_isLastChance_122 : decode cX1_isLastChance 122 = .ok (.iload 8, 2) := dk_21 8 (dk_at dksX1_isLastChance_5 6 rfl rfl)
theorem dX1_isLastChance_124 : decode cX1_isLastChance 124 = .ok (.ifCond .eq 8, 3) := dk_153 0 8 (dk_at dksX1_isLastChance_5 8 rfl rfl)
theorem dX1_isLastChance_127 : decode cX1_isLastChance 127 = .ok (.iload 9, 2) := dk_21 9 (dk_at dksX1_isLastChance_5 11 rfl rfl)
theorem dX1_isLastChance_129 : decode cX1_isLastChance 129 = .ok (.ifCond .ne 5, 3) := dk_154 0 5 (dk_at dksX1_isLastChance_5 13 rfl rfl)
theorem dX1_isLastChance_132 : decode cX1_isLastChance 132 = .ok (.iconst 0, 1) := dk_3 (dk_at dksX1_isLastChance_5 16 rfl rfl)
theorem dX1_isLastChance_133 : decode cX1_isLastChance 133 = .ok (.ireturn, 1) := dk_172 (dk_at dksX1_isLastChance_5 17 rfl rfl)
theorem dX1_isLastChance_134 : decode cX1_isLastChance 134 = .ok (.iinc 6 1, 3) := dk_132 6 1 (dk_at dksX1_isLastChance_5 18 rfl rfl)
theorem dX1_isLastChance_137 : decode cX1_isLastChance 137 = .ok (.goto (-134), 3) := dk_167 255 122 (dk_at dksX1_isLastChance_5 21 rfl rfl)
theorem dX1_isLastChance_140 : decode cX1_isLastChance 140 = .ok (.iconst 1, 1) := dk_4 (dk_at dksX1_isLastChance_6 0 rfl rfl)
theorem dX1_isLastChance_141 : decode cX1_isLastChance 141 = .ok (.ireturn, 1) := dk_172 (dk_at dksX1_isLastChance_6 1 rfl rfl)
abbrev cX1_areRising : ByteArray := prog_1_method_111_code
def yX1_areRising : MethodName := ⟨RX1, "areRising", "(III)Z"⟩
def dkwX1_areRising_4 : List UInt8 := [3, 28, 17, 1, 224, 182, 2, 18, 29, 160, 0, 7, 4, 167, 0, 4, 3, 172]
abbrev dktX1_areRising_4 : List UInt8 := dkwX1_areRising_4 ++ []
def dkwX1_areRising_3 : List UInt8 := [100, 182, 0, 79, 192, 1, 250, 182, 2, 7, 163, 0, 5, 3, 172, 132, 5, 1, 167, 255, 179, 42, 25, 4]
abbrev dktX1_areRising_3 : List UInt8 := dkwX1_areRising_3 ++ dktX1_areRising_4
def dkwX1_areRising_2 : List UInt8 := [182, 2, 9, 164, 0, 34, 25, 4, 21, 5, 182, 0, 79, 192, 1, 250, 182, 2, 7, 25, 4, 21, 5, 4]
abbrev dktX1_areRising_2 : List UInt8 := dkwX1_areRising_2 ++ dktX1_areRising_3
def dkwX1_areRising_1 : List UInt8 := [21, 5, 182, 0, 79, 192, 1, 250, 182, 2, 9, 25, 4, 21, 5, 4, 100, 182, 0, 79, 192, 1, 250]
abbrev dktX1_areRising_1 : List UInt8 := dkwX1_areRising_1 ++ dktX1_areRising_2
def dkwX1_areRising_0 : List UInt8 := [42, 3, 28, 27, 182, 2, 3, 58, 4, 4, 54, 5, 21, 5, 25, 4, 182, 0, 71, 162, 0, 73, 25, 4]
abbrev dktX1_areRising_0 : List UInt8 := dkwX1_areRising_0 ++ dktX1_areRising_1
theorem dksX1_areRising_0 : cX1_areRising.data.toList.drop 0 = dktX1_areRising_0 := by decide +kernel
theorem dksX1_areRising_1 : cX1_areRising.data.toList.drop 24 = dktX1_areRising_1 := dk_seg dksX1_areRising_0 24 rfl rfl
theorem dksX1_areRising_2 : cX1_areRising.data.toList.drop 47 = dktX1_areRising_2 := dk_seg dksX1_areRising_1 23 rfl rfl
theorem dksX1_areRising_3 : cX1_areRising.data.toList.drop 71 = dktX1_areRising_3 := dk_seg dksX1_areRising_2 24 rfl rfl
theorem dksX1_areRising_4 : cX1_areRising.data.toList.drop 95 = dktX1_areRising_4 := dk_seg dksX1_areRising_3 24 rfl rfl
theorem dX1_areRising_0 : decode cX1_areRising 0 = .ok (.aload_n 0, 1) := dk_42 (dk_at dksX1_areRising_0 0 rfl rfl)
theorem dX1_areRising_1 : decode cX1_areRising 1 = .ok (.iconst 0, 1) := dk_3 (dk_at dksX1_areRising_0 1 rfl rfl)
theorem dX1_areRising_2 : decode cX1_areRising 2 = .ok (.iload_n 2, 1) := dk_28 (dk_at dksX1_areRising_0 2 rfl rfl)
theorem dX1_areRising_3 : decode cX1_areRising 3 = .ok (.iload_n 1, 1) := dk_27 (dk_at dksX1_areRising_0 3 rfl rfl)
theorem dX1_areRising_4 : decode cX1_areRising 4 = .ok (.invokevirtual 515, 3) := dk_182 2 3 (dk_at dksX1_areRising_0 4 rfl rfl)
theorem dX1_areRising_7 : decode cX1_areRising 7 = .ok (.astore 4, 2) := dk_58 4 (dk_at dksX1_areRising_0 7 rfl rfl)
theorem dX1_areRising_9 : decode cX1_areRising 9 = .ok (.iconst 1, 1) := dk_4 (dk_at dksX1_areRising_0 9 rfl rfl)
theorem dX1_areRising_10 : decode cX1_areRising 10 = .ok (.istore 5, 2) := dk_54 5 (dk_at dksX1_areRising_0 10 rfl rfl)
theorem dX1_areRising_12 : decode cX1_areRising 12 = .ok (.iload 5, 2) := dk_21 5 (dk_at dksX1_areRising_0 12 rfl rfl)
theorem dX1_areRising_14 : decode cX1_areRising 14 = .ok (.aload 4, 2) := dk_25 4 (dk_at dksX1_areRising_0 14 rfl rfl)
theorem dX1_areRising_16 : decode cX1_areRising 16 = .ok (.invokevirtual 71, 3) := dk_182 0 71 (dk_at dksX1_areRising_0 16 rfl rfl)
theorem dX1_areRising_19 : decode cX1_areRising 19 = .ok (.if_icmp .ge 73, 3) := dk_162 0 73 (dk_at dksX1_areRising_0 19 rfl rfl)
theorem dX1_areRising_22 : decode cX1_areRising 22 = .ok (.aload 4, 2) := dk_25 4 (dk_at dksX1_areRising_0 22 rfl rfl)
theorem dX1_areRising_24 : decode cX1_areRising 24 = .ok (.iload 5, 2) := dk_21 5 (dk_at dksX1_areRising_1 0 rfl rfl)
theorem dX1_areRising_26 : decode cX1_areRising 26 = .ok (.invokevirtual 79, 3) := dk_182 0 79 (dk_at dksX1_areRising_1 2 rfl rfl)
theorem dX1_areRising_29 : decode cX1_areRising 29 = .ok (.checkcast 506, 3) := dk_192 1 250 (dk_at dksX1_areRising_1 5 rfl rfl)
theorem dX1_areRising_32 : decode cX1_areRising 32 = .ok (.invokevirtual 521, 3) := dk_182 2 9 (dk_at dksX1_areRising_1 8 rfl rfl)
theorem dX1_areRising_35 : decode cX1_areRising 35 = .ok (.aload 4, 2) := dk_25 4 (dk_at dksX1_areRising_1 11 rfl rfl)
theorem dX1_areRising_37 : decode cX1_areRising 37 = .ok (.iload 5, 2) := dk_21 5 (dk_at dksX1_areRising_1 13 rfl rfl)
theorem dX1_areRising_39 : decode cX1_areRising 39 = .ok (.iconst 1, 1) := dk_4 (dk_at dksX1_areRising_1 15 rfl rfl)
theorem dX1_areRising_40 : decode cX1_areRising 40 = .ok (.isub, 1) := dk_100 (dk_at dksX1_areRising_1 16 rfl rfl)
theorem dX1_areRising_41 : decode cX1_areRising 41 = .ok (.invokevirtual 79, 3) := dk_182 0 79 (dk_at dksX1_areRising_1 17 rfl rfl)
theorem dX1_areRising_44 : decode cX1_areRising 44 = .ok (.checkcast 506, 3) := dk_192 1 250 (dk_at dksX1_areRising_1 20 rfl rfl)
theorem dX1_areRising_47 : decode cX1_areRising 47 = .ok (.invokevirtual 521, 3) := dk_182 2 9 (dk_at dksX1_areRising_2 0 rfl rfl)
theorem dX1_areRising_50 : decode cX1_areRising 50 = .ok (.if_icmp .le 34, 3) := dk_164 0 34 (dk_at dksX1_areRising_2 3 rfl rfl)
theorem dX1_areRising_53 : decode cX1_areRising 53 = .ok (.aload 4, 2) := dk_25 4 (dk_at dksX1_areRising_2 6 rfl rfl)
theorem dX1_areRising_55 : decode cX1_areRising 55 = .ok (.iload 5, 2) := dk_21 5 (dk_at dksX1_areRising_2 8 rfl rfl)
theorem dX1_areRising_57 : decode cX1_areRising 57 = .ok (.invokevirtual 79, 3) := dk_182 0 79 (dk_at dksX1_areRising_2 10 rfl rfl)
theorem dX1_areRising_60 : decode cX1_areRising 60 = .ok (.checkcast 506, 3) := dk_192 1 250 (dk_at dksX1_areRising_2 13 rfl rfl)
theorem dX1_areRising_63 : decode cX1_areRising 63 = .ok (.invokevirtual 519, 3) := dk_182 2 7 (dk_at dksX1_areRising_2 16 rfl rfl)
theorem dX1_areRising_66 : decode cX1_areRising 66 = .ok (.aload 4, 2) := dk_25 4 (dk_at dksX1_areRising_2 19 rfl rfl)
theorem dX1_areRising_68 : decode cX1_areRising 68 = .ok (.iload 5, 2) := dk_21 5 (dk_at dksX1_areRising_2 21 rfl rfl)
theorem dX1_areRising_70 : decode cX1_areRising 70 = .ok (.iconst 1, 1) := dk_4 (dk_at dksX1_areRising_2 23 rfl rfl)
theorem dX1_areRising_71 : decode cX1_areRising 71 = .ok (.isub, 1) := dk_100 (dk_at dksX1_areRising_3 0 rfl rfl)
theorem dX1_areRising_72 : decode cX1_areRising 72 = .ok (.invokevirtual 79, 3) := dk_182 0 79 (dk_at dksX1_areRising_3 1 rfl rfl)
theorem dX1_areRising_75 : decode cX1_areRising 75 = .ok (.checkcast 506, 3) := dk_192 1 250 (dk_at dksX1_areRising_3 4 rfl rfl)
theorem dX1_areRising_78 : decode cX1_areRising 78 = .ok (.invokevirtual 519, 3) := dk_182 2 7 (dk_at dksX1_areRising_3 7 rfl rfl)
theorem dX1_areRising_81 : decode cX1_areRising 81 = .ok (.if_icmp .gt 5, 3) := dk_163 0 5 (dk_at dksX1_areRising_3 10 rfl rfl)
theorem dX1_areRising_84 : decode cX1_areRising 84 = .ok (.iconst 0, 1) := dk_3 (dk_at dksX1_areRising_3 13 rfl rfl)
theorem dX1_areRising_85 : decode cX1_areRising 85 = .ok (.ireturn, 1) := dk_172 (dk_at dksX1_areRising_3 14 rfl rfl)
theorem dX1_areRising_86 : decode cX1_areRising 86 = .ok (.iinc 5 1, 3) := dk_132 5 1 (dk_at dksX1_areRising_3 15 rfl rfl)
theorem dX1_areRising_89 : decode cX1_areRising 89 = .ok (.goto (-77), 3) := dk_167 255 179 (dk_at dksX1_areRising_3 18 rfl rfl)
theorem dX1_areRising_92 : decode cX1_areRising 92 = .ok (.aload_n 0, 1) := dk_42 (dk_at dksX1_areRising_3 21 rfl rfl)
theorem dX1_areRising_93 : decode cX1_areRising 93 = .ok (.aload 4, 2) := dk_25 4 (dk_at dksX1_areRising_3 22 rfl rfl)
theorem dX1_areRising_95 : decode cX1_areRising 95 = .ok (.iconst 0, 1) := dk_3 (dk_at dksX1_areRising_4 0 rfl rfl)
theorem dX1_areRising_96 : decode cX1_areRising 96 = .ok (.iload_n 2, 1) := dk_28 (dk_at dksX1_areRising_4 1 rfl rfl)
theorem dX1_areRising_97 : decode cX1_areRising 97 = .ok (.sipush 480, 3) := dk_17 1 224 (dk_at dksX1_areRising_4 2 rfl rfl)
theorem dX1_areRising_100 : decode cX1_areRising 100 = .ok (.invokevirtual 530, 3) := dk_182 2 18 (dk_at dksX1_areRising_4 5 rfl rfl)
theorem dX1_areRising_103 : decode cX1_areRising 103 = .ok (.iload_n 3, 1) := dk_29 (dk_at dksX1_areRising_4 8 rfl rfl)
theorem dX1_areRising_104 : decode cX1_areRising 104 = .ok (.if_icmp .ne 7, 3) := dk_160 0 7 (dk_at dksX1_areRising_4 9 rfl rfl)
theorem dX1_areRising_107 : decode cX1_areRising 107 = .ok (.iconst 1, 1) := dk_4 (dk_at dksX1_areRising_4 12 rfl rfl)
theorem dX1_areRising_108 : decode cX1_areRising 108 = .ok (.goto 4, 3) := dk_167 0 4 (dk_at dksX1_areRising_4 13 rfl rfl)
theorem dX1_areRising_111 : decode cX1_areRising 111 = .ok (.iconst 0, 1) := dk_3 (dk_at dksX1_areRising_4 16 rfl rfl)
theorem dX1_areRising_112 : decode cX1_areRising 112 = .ok (.ireturn, 1) := dk_172 (dk_at dksX1_areRising_4 17 rfl rfl)
theorem q123 : (Jvm.Cond.initialized "Lastbus") ∈ lw_all := lw_g (lw_at lw_m1 1 rfl) rfl
theorem q190 : (Jvm.Cond.instantiable "Lastbus" (10 : Nat)) ∈ lw_all := lw_g (lw_at lw_m1 68 rfl) rfl
theorem q192 : (Jvm.Cond.instanceMethod ({ cls := "Lastbus", name := "<init>", desc := "()V" } : Jvm.MethodName)) ∈ lw_all := lw_g (lw_at lw_m1 70 rfl) rfl
theorem q193 : (Jvm.Cond.code ({ cls := "Lastbus", name := "<init>", desc := "()V" } : Jvm.MethodName) prog_1_method_1_code (1 : Nat) (Option.none : Option Jvm.ClassFile.FieldType)) ∈ lw_all := lw_g (lw_at lw_m1 71 rfl) rfl
theorem q194 : (Jvm.Cond.methodLink "Lastbus" (1 : Nat) ({ cls := "java/lang/Object", name := "<init>", desc := "()V" } : Jvm.MethodName)) ∈ lw_all := lw_g (lw_at lw_m1 72 rfl) rfl
theorem q197 : (Jvm.Cond.classLink "Lastbus" (13 : Nat) "[[I") ∈ lw_all := lw_g (lw_at lw_m1 75 rfl) rfl
theorem q199 : (Jvm.Cond.classLink "Lastbus" (18 : Nat) "java/util/ArrayList") ∈ lw_all := lw_g (lw_at lw_m1 77 rfl) rfl
theorem q201 : (Jvm.Cond.methodLink "Lastbus" (20 : Nat) ({ cls := "java/util/ArrayList", name := "<init>", desc := "()V" } : Jvm.MethodName)) ∈ lw_all := lw_g (lw_at lw_m1 79 rfl) rfl
theorem q230 : (Jvm.Cond.classLink "Lastbus" (28 : Nat) "java/util/TreeMap") ∈ lw_all := lw_g (lw_at lw_m1 108 rfl) rfl
theorem q232 : (Jvm.Cond.methodLink "Lastbus" (30 : Nat) ({ cls := "java/util/TreeMap", name := "<init>", desc := "()V" } : Jvm.MethodName)) ∈ lw_all := lw_g (lw_at lw_m1 110 rfl) rfl
theorem q263 : (Jvm.Cond.classLink "Lastbus" (38 : Nat) "java/lang/StringBuilder") ∈ lw_all := lw_g (lw_at lw_m1 141 rfl) rfl
theorem q265 : (Jvm.Cond.methodLink "Lastbus" (40 : Nat) ({ cls := "java/lang/StringBuilder", name := "<init>", desc := "()V" } : Jvm.MethodName)) ∈ lw_all := lw_g (lw_at lw_m1 143 rfl) rfl
theorem q296 : (Jvm.Cond.fieldLink "Lastbus" (9 : Nat) "Lastbus" "changes" "[I") ∈ lw_all := lw_g (lw_at lw_m1 174 rfl) rfl
theorem q298 : (Jvm.Cond.fieldLink "Lastbus" (15 : Nat) "Lastbus" "walks" "[[I") ∈ lw_all := lw_g (lw_at lw_m1 176 rfl) rfl
theorem q300 : (Jvm.Cond.fieldLink "Lastbus" (68 : Nat) "Lastbus" "stops" "I") ∈ lw_all := lw_g (lw_at lw_m1 178 rfl) rfl
theorem q301 : (Jvm.Cond.fieldLink "Lastbus" (21 : Nat) "Lastbus" "services" "Ljava/util/ArrayList;") ∈ lw_all := lw_g (lw_at lw_m1 179 rfl) rfl
theorem q302 : (Jvm.Cond.fieldLink "Lastbus" (25 : Nat) "Lastbus" "trips" "Ljava/util/ArrayList;") ∈ lw_all := lw_g (lw_at lw_m1 180 rfl) rfl
theorem q303 : (Jvm.Cond.fieldLink "Lastbus" (31 : Nat) "Lastbus" "lates" "Ljava/util/TreeMap;") ∈ lw_all := lw_g (lw_at lw_m1 181 rfl) rfl
theorem q304 : (Jvm.Cond.fieldLink "Lastbus" (35 : Nat) "Lastbus" "wishes" "Ljava/util/ArrayList;") ∈ lw_all := lw_g (lw_at lw_m1 182 rfl) rfl
theorem q305 : (Jvm.Cond.fieldLink "Lastbus" (41 : Nat) "Lastbus" "text" "Ljava/lang/StringBuilder;") ∈ lw_all := lw_g (lw_at lw_m1 183 rfl) rfl
theorem q306 : (Jvm.Cond.fieldLink "Lastbus" (45 : Nat) "Lastbus" "fault" "I") ∈ lw_all := lw_g (lw_at lw_m1 184 rfl) rfl
theorem q307 : (Jvm.Cond.fieldLink "Lastbus" (471 : Nat) "Lastbus" "kept" "Ljava/util/ArrayList;") ∈ lw_all := lw_g (lw_at lw_m1 185 rfl) rfl
theorem q308 : (Jvm.Cond.laysFinal "Lastbus" "Lastbus" "changes" "[I") ∈ lw_all := lw_g (lw_at lw_m1 186 rfl) rfl
theorem q309 : (Jvm.Cond.soleField "Lastbus" "changes") ∈ lw_all := lw_g (lw_at lw_m1 187 rfl) rfl
theorem q310 : (Jvm.Cond.laysFinal "Lastbus" "Lastbus" "walks" "[[I") ∈ lw_all := lw_g (lw_at lw_m1 188 rfl) rfl
theorem q311 : (Jvm.Cond.soleField "Lastbus" "walks") ∈ lw_all := lw_g (lw_at lw_m1 189 rfl) rfl
theorem q312 : (Jvm.Cond.lays "Lastbus" "Lastbus" "stops" "I") ∈ lw_all := lw_g (lw_at lw_m1 190 rfl) rfl
theorem q313 : (Jvm.Cond.soleField "Lastbus" "stops") ∈ lw_all := lw_g (lw_at lw_m1 191 rfl) rfl
theorem q314 : (Jvm.Cond.laysFinal "Lastbus" "Lastbus" "services" "Ljava/util/ArrayList;") ∈ lw_all := lw_g (lw_at lw_m1 192 rfl) rfl
theorem q315 : (Jvm.Cond.soleField "Lastbus" "services") ∈ lw_all := lw_g (lw_at lw_m1 193 rfl) rfl
theorem q316 : (Jvm.Cond.laysFinal "Lastbus" "Lastbus" "trips" "Ljava/util/ArrayList;") ∈ lw_all := lw_g (lw_at lw_m1 194 rfl) rfl
theorem q317 : (Jvm.Cond.soleField "Lastbus" "trips") ∈ lw_all := lw_g (lw_at lw_m1 195 rfl) rfl
theorem q318 : (Jvm.Cond.laysFinal "Lastbus" "Lastbus" "lates" "Ljava/util/TreeMap;") ∈ lw_all := lw_g (lw_at lw_m1 196 rfl) rfl
theorem q319 : (Jvm.Cond.soleField "Lastbus" "lates") ∈ lw_all := lw_g (lw_at lw_m1 197 rfl) rfl
theorem q320 : (Jvm.Cond.laysFinal "Lastbus" "Lastbus" "wishes" "Ljava/util/ArrayList;") ∈ lw_all := lw_g (lw_at lw_m1 198 rfl) rfl
theorem q321 : (Jvm.Cond.soleField "Lastbus" "wishes") ∈ lw_all := lw_g (lw_at lw_m1 199 rfl) rfl
theorem q322 : (Jvm.Cond.laysFinal "Lastbus" "Lastbus" "text" "Ljava/lang/StringBuilder;") ∈ lw_all := lw_g (lw_at lw_m1 200 rfl) rfl
theorem q323 : (Jvm.Cond.soleField "Lastbus" "text") ∈ lw_all := lw_g (lw_at lw_m1 201 rfl) rfl
theorem q324 : (Jvm.Cond.lays "Lastbus" "Lastbus" "fault" "I") ∈ lw_all := lw_g (lw_at lw_m1 202 rfl) rfl
theorem q325 : (Jvm.Cond.soleField "Lastbus" "fault") ∈ lw_all := lw_g (lw_at lw_m1 203 rfl) rfl
theorem q326 : (Jvm.Cond.lays "Lastbus" "Lastbus" "kept" "Ljava/util/ArrayList;") ∈ lw_all := lw_g (lw_at lw_m1 204 rfl) rfl
theorem q327 : (Jvm.Cond.soleField "Lastbus" "kept") ∈ lw_all := lw_g (lw_at lw_m1 205 rfl) rfl
theorem q328 : (Jvm.Cond.superclass "Lastbus" "java/lang/Object") ∈ lw_all := lw_g (lw_at lw_m1 206 rfl) rfl
theorem q330 : (Jvm.Cond.instanceMethod ({ cls := "Lastbus", name := "trips", desc := "()I" } : Jvm.MethodName)) ∈ lw_all := lw_g (lw_at lw_m1 208 rfl) rfl
theorem q331 : (Jvm.Cond.selects "Lastbus" ({ cls := "Lastbus", name := "trips", desc := "()I" } : Jvm.MethodName) ({ cls := "Lastbus", name := "trips", desc := "()I" } : Jvm.MethodName)) ∈ lw_all := lw_g (lw_at lw_m1 209 rfl) rfl
theorem q332 : (Jvm.Cond.code ({ cls := "Lastbus", name := "trips", desc := "()I" } : Jvm.MethodName) prog_1_method_27_code (1 : Nat) (Option.some Jvm.ClassFile.FieldType.int)) ∈ lw_all := lw_g (lw_at lw_m1 210 rfl) rfl
theorem q333 : (Jvm.Cond.methodLink "Lastbus" (71 : Nat) ({ cls := "java/util/ArrayList", name := "size", desc := "()I" } : Jvm.MethodName)) ∈ lw_all := lw_g (lw_at lw_m1 211 rfl) rfl
theorem q338 : (Jvm.Cond.instanceMethod ({ cls := "Lastbus", name := "erase", desc := "()I" } : Jvm.MethodName)) ∈ lw_all := lw_g (lw_at lw_m1 216 rfl) rfl
theorem q339 : (Jvm.Cond.selects "Lastbus" ({ cls := "Lastbus", name := "erase", desc := "()I" } : Jvm.MethodName) ({ cls := "Lastbus", name := "erase", desc := "()I" } : Jvm.MethodName)) ∈ lw_all := lw_g (lw_at lw_m1 217 rfl) rfl
theorem q340 : (Jvm.Cond.code ({ cls := "Lastbus", name := "erase", desc := "()I" } : Jvm.MethodName) prog_1_method_34_code (2 : Nat) (Option.some Jvm.ClassFile.FieldType.int)) ∈ lw_all := lw_g (lw_at lw_m1 218 rfl) rfl
theorem q341 : (Jvm.Cond.methodLink "Lastbus" (186 : Nat) ({ cls := "java/lang/StringBuilder", name := "length", desc := "()I" } : Jvm.MethodName)) ∈ lw_all := lw_g (lw_at lw_m1 219 rfl) rfl
theorem q348 : (Jvm.Cond.methodLink "Lastbus" (196 : Nat) ({ cls := "java/lang/StringBuilder", name := "setLength", desc := "(I)V" } : Jvm.MethodName)) ∈ lw_all := lw_g (lw_at lw_m1 226 rfl) rfl
theorem q691 : (Jvm.Cond.instanceMethod ({ cls := "Lastbus", name := "onTime", desc := "()I" } : Jvm.MethodName)) ∈ lw_all := lw_g (lw_at lw_m3 89 rfl) rfl
theorem q692 : (Jvm.Cond.selects "Lastbus" ({ cls := "Lastbus", name := "onTime", desc := "()I" } : Jvm.MethodName) ({ cls := "Lastbus", name := "onTime", desc := "()I" } : Jvm.MethodName)) ∈ lw_all := lw_g (lw_at lw_m3 90 rfl) rfl
theorem q693 : (Jvm.Cond.code ({ cls := "Lastbus", name := "onTime", desc := "()I" } : Jvm.MethodName) prog_1_method_41_code (2 : Nat) (Option.some Jvm.ClassFile.FieldType.int)) ∈ lw_all := lw_g (lw_at lw_m3 91 rfl) rfl
theorem q694 : (Jvm.Cond.methodLink "Lastbus" (249 : Nat) ({ cls := "java/util/TreeMap", name := "size", desc := "()I" } : Jvm.MethodName)) ∈ lw_all := lw_g (lw_at lw_m3 92 rfl) rfl
theorem q698 : (Jvm.Cond.methodLink "Lastbus" (270 : Nat) ({ cls := "java/util/TreeMap", name := "clear", desc := "()V" } : Jvm.MethodName)) ∈ lw_all := lw_g (lw_at lw_m3 96 rfl) rfl
theorem q703 : (Jvm.Cond.instanceMethod ({ cls := "Lastbus", name := "dropWishes", desc := "()I" } : Jvm.MethodName)) ∈ lw_all := lw_g (lw_at lw_m3 101 rfl) rfl
theorem q704 : (Jvm.Cond.selects "Lastbus" ({ cls := "Lastbus", name := "dropWishes", desc := "()I" } : Jvm.MethodName) ({ cls := "Lastbus", name := "dropWishes", desc := "()I" } : Jvm.MethodName)) ∈ lw_all := lw_g (lw_at lw_m3 102 rfl) rfl
theorem q705 : (Jvm.Cond.code ({ cls := "Lastbus", name := "dropWishes", desc := "()I" } : Jvm.MethodName) prog_1_method_81_code (2 : Nat) (Option.some Jvm.ClassFile.FieldType.int)) ∈ lw_all := lw_g (lw_at lw_m3 103 rfl) rfl
theorem q706 : (Jvm.Cond.methodLink "Lastbus" (546 : Nat) ({ cls := "java/util/ArrayList", name := "clear", desc := "()V" } : Jvm.MethodName)) ∈ lw_all := lw_g (lw_at lw_m3 104 rfl) rfl
theorem q711 : (Jvm.Cond.instanceMethod ({ cls := "Lastbus", name := "checksum", desc := "()J" } : Jvm.MethodName)) ∈ lw_all := lw_g (lw_at lw_m3 109 rfl) rfl
theorem q712 : (Jvm.Cond.selects "Lastbus" ({ cls := "Lastbus", name := "checksum", desc := "()J" } : Jvm.MethodName) ({ cls := "Lastbus", name := "checksum", desc := "()J" } : Jvm.MethodName)) ∈ lw_all := lw_g (lw_at lw_m3 110 rfl) rfl
theorem q713 : (Jvm.Cond.code ({ cls := "Lastbus", name := "checksum", desc := "()J" } : Jvm.MethodName) prog_1_method_108_code (7 : Nat) (Option.some Jvm.ClassFile.FieldType.long)) ∈ lw_all := lw_g (lw_at lw_m3 111 rfl) rfl
theorem q714 : (Jvm.Cond.constantLong "Lastbus" (632 : Nat) (7 : Int64)) ∈ lw_all := lw_g (lw_at lw_m3 112 rfl) rfl
theorem q715 : (Jvm.Cond.constantLong "Lastbus" (634 : Nat) (31 : Int64)) ∈ lw_all := lw_g (lw_at lw_m3 113 rfl) rfl
theorem q716 : (Jvm.Cond.methodLink "Lastbus" (398 : Nat) ({ cls := "java/util/ArrayList", name := "iterator", desc := "()Ljava/util/Iterator;" } : Jvm.MethodName)) ∈ lw_all := lw_g (lw_at lw_m3 114 rfl) rfl
theorem q743 : (Jvm.Cond.interfaceEntry "Lastbus" (295 : Nat)) ∈ lw_tbl := lw_at lw_m3 141 rfl
theorem q744 : (Jvm.Cond.methodLink "Lastbus" (295 : Nat) ({ cls := "java/util/Iterator", name := "hasNext", desc := "()Z" } : Jvm.MethodName)) ∈ lw_all := lw_g (lw_at lw_m3 142 rfl) rfl
theorem q756 : (Jvm.Cond.interfaceEntry "Lastbus" (300 : Nat)) ∈ lw_tbl := lw_at lw_m3 154 rfl
theorem q757 : (Jvm.Cond.methodLink "Lastbus" (300 : Nat) ({ cls := "java/util/Iterator", name := "next", desc := "()Ljava/lang/Object;" } : Jvm.MethodName)) ∈ lw_all := lw_g (lw_at lw_m3 155 rfl) rfl
theorem q794 : (Jvm.Cond.classLink "Lastbus" (83 : Nat) "Lastbus$Trip") ∈ lw_all := lw_g (lw_at lw_m3 192 rfl) rfl
theorem q795 : (Jvm.Cond.classLink "Lastbus" (92 : Nat) "Lastbus$Call") ∈ lw_all := lw_g (lw_at lw_m3 193 rfl) rfl
theorem q796 : (Jvm.Cond.methodLink "Lastbus" (163 : Nat) ({ cls := "Lastbus$Call", name := "stop", desc := "()I" } : Jvm.MethodName)) ∈ lw_all := lw_g (lw_at lw_m3 194 rfl) rfl
theorem q800 : (Jvm.Cond.methodLink "Lastbus" (174 : Nat) ({ cls := "Lastbus$Call", name := "arrival", desc := "()I" } : Jvm.MethodName)) ∈ lw_all := lw_g (lw_at lw_m3 198 rfl) rfl
theorem q804 : (Jvm.Cond.methodLink "Lastbus" (160 : Nat) ({ cls := "Lastbus$Call", name := "departure", desc := "()I" } : Jvm.MethodName)) ∈ lw_all := lw_g (lw_at lw_m3 202 rfl) rfl
theorem q808 : (Jvm.Cond.classLink "Lastbus" (94 : Nat) "java/util/BitSet") ∈ lw_all := lw_g (lw_at lw_m3 206 rfl) rfl
theorem q809 : (Jvm.Cond.methodLink "Lastbus" (139 : Nat) ({ cls := "java/util/BitSet", name := "get", desc := "(I)Z" } : Jvm.MethodName)) ∈ lw_all := lw_g (lw_at lw_m3 207 rfl) rfl
theorem q847 : (Jvm.Cond.instanceMethod ({ cls := "Lastbus", name := "stop", desc := "(I)I" } : Jvm.MethodName)) ∈ lw_all := lw_g (lw_at lw_m4 5 rfl) rfl
theorem q848 : (Jvm.Cond.selects "Lastbus" ({ cls := "Lastbus", name := "stop", desc := "(I)I" } : Jvm.MethodName) ({ cls := "Lastbus", name := "stop", desc := "(I)I" } : Jvm.MethodName)) ∈ lw_all := lw_g (lw_at lw_m4 6 rfl) rfl
theorem q849 : (Jvm.Cond.code ({ cls := "Lastbus", name := "stop", desc := "(I)I" } : Jvm.MethodName) prog_1_method_14_code (2 : Nat) (Option.some Jvm.ClassFile.FieldType.int)) ∈ lw_all := lw_g (lw_at lw_m4 7 rfl) rfl
theorem q850 : (Jvm.Cond.methodLink "Lastbus" (64 : Nat) ({ cls := "Lastbus", name := "isBetween", desc := "(III)Z" } : Jvm.MethodName)) ∈ lw_all := lw_g (lw_at lw_m4 8 rfl) rfl
theorem q851 : (Jvm.Cond.static ({ cls := "Lastbus", name := "isBetween", desc := "(III)Z" } : Jvm.MethodName)) ∈ lw_all := lw_g (lw_at lw_m4 9 rfl) rfl
theorem q852 : (Jvm.Cond.code ({ cls := "Lastbus", name := "isBetween", desc := "(III)Z" } : Jvm.MethodName) prog_1_method_2_code (3 : Nat) (Option.some Jvm.ClassFile.FieldType.boolean)) ∈ lw_all := lw_g (lw_at lw_m4 10 rfl) rfl
theorem q853 : (Jvm.Cond.methodLink "Lastbus" (96 : Nat) ({ cls := "Lastbus", name := "require", desc := "(Z)V" } : Jvm.MethodName)) ∈ lw_all := lw_g (lw_at lw_m4 11 rfl) rfl
theorem q854 : (Jvm.Cond.static ({ cls := "Lastbus", name := "require", desc := "(Z)V" } : Jvm.MethodName)) ∈ lw_all := lw_g (lw_at lw_m4 12 rfl) rfl
theorem q855 : (Jvm.Cond.code ({ cls := "Lastbus", name := "require", desc := "(Z)V" } : Jvm.MethodName) prog_1_method_3_code (1 : Nat) (Option.none : Option Jvm.ClassFile.FieldType)) ∈ lw_all := lw_g (lw_at lw_m4 13 rfl) rfl
theorem q856 : (Jvm.Cond.classLink "Lastbus" (49 : Nat) "java/lang/IllegalArgumentException") ∈ lw_all := lw_g (lw_at lw_m4 14 rfl) rfl
theorem q857 : (Jvm.Cond.methodLink "Lastbus" (51 : Nat) ({ cls := "java/lang/IllegalArgumentException", name := "<init>", desc := "()V" } : Jvm.MethodName)) ∈ lw_all := lw_g (lw_at lw_m4 15 rfl) rfl
theorem q861 : (Jvm.Cond.methodLink "Lastbus" (99 : Nat) ({ cls := "Lastbus", name := "requireState", desc := "(Z)V" } : Jvm.MethodName)) ∈ lw_all := lw_g (lw_at lw_m4 19 rfl) rfl
theorem q862 : (Jvm.Cond.static ({ cls := "Lastbus", name := "requireState", desc := "(Z)V" } : Jvm.MethodName)) ∈ lw_all := lw_g (lw_at lw_m4 20 rfl) rfl
theorem q863 : (Jvm.Cond.code ({ cls := "Lastbus", name := "requireState", desc := "(Z)V" } : Jvm.MethodName) prog_1_method_4_code (1 : Nat) (Option.none : Option Jvm.ClassFile.FieldType)) ∈ lw_all := lw_g (lw_at lw_m4 21 rfl) rfl
theorem q864 : (Jvm.Cond.classLink "Lastbus" (52 : Nat) "java/lang/IllegalStateException") ∈ lw_all := lw_g (lw_at lw_m4 22 rfl) rfl
theorem q873 : (Jvm.Cond.methodLink "Lastbus" (54 : Nat) ({ cls := "java/lang/IllegalStateException", name := "<init>", desc := "()V" } : Jvm.MethodName)) ∈ lw_all := lw_g (lw_at lw_m4 31 rfl) rfl
theorem q886 : (Jvm.Cond.instanceMethod ({ cls := "Lastbus", name := "setChange", desc := "(II)I" } : Jvm.MethodName)) ∈ lw_all := lw_g (lw_at lw_m4 44 rfl) rfl
theorem q887 : (Jvm.Cond.selects "Lastbus" ({ cls := "Lastbus", name := "setChange", desc := "(II)I" } : Jvm.MethodName) ({ cls := "Lastbus", name := "setChange", desc := "(II)I" } : Jvm.MethodName)) ∈ lw_all := lw_g (lw_at lw_m4 45 rfl) rfl
theorem q888 : (Jvm.Cond.code ({ cls := "Lastbus", name := "setChange", desc := "(II)I" } : Jvm.MethodName) prog_1_method_15_code (4 : Nat) (Option.some Jvm.ClassFile.FieldType.int)) ∈ lw_all := lw_g (lw_at lw_m4 46 rfl) rfl
theorem q889 : (Jvm.Cond.methodLink "Lastbus" (102 : Nat) ({ cls := "Lastbus", name := "isStop", desc := "(I)Z" } : Jvm.MethodName)) ∈ lw_all := lw_g (lw_at lw_m4 47 rfl) rfl
theorem q890 : (Jvm.Cond.privateMethod ({ cls := "Lastbus", name := "isStop", desc := "(I)Z" } : Jvm.MethodName)) ∈ lw_tbl := lw_at lw_m4 48 rfl
theorem q891 : (Jvm.Cond.instanceMethod ({ cls := "Lastbus", name := "isStop", desc := "(I)Z" } : Jvm.MethodName)) ∈ lw_all := lw_g (lw_at lw_m4 49 rfl) rfl
theorem q892 : (Jvm.Cond.code ({ cls := "Lastbus", name := "isStop", desc := "(I)Z" } : Jvm.MethodName) prog_1_method_10_code (2 : Nat) (Option.some Jvm.ClassFile.FieldType.boolean)) ∈ lw_all := lw_g (lw_at lw_m4 50 rfl) rfl
theorem q893 : (Jvm.Cond.methodLink "Lastbus" (75 : Nat) ({ cls := "Lastbus", name := "requireIndex", desc := "(Z)V" } : Jvm.MethodName)) ∈ lw_all := lw_g (lw_at lw_m4 51 rfl) rfl
theorem q894 : (Jvm.Cond.static ({ cls := "Lastbus", name := "requireIndex", desc := "(Z)V" } : Jvm.MethodName)) ∈ lw_all := lw_g (lw_at lw_m4 52 rfl) rfl
theorem q895 : (Jvm.Cond.code ({ cls := "Lastbus", name := "requireIndex", desc := "(Z)V" } : Jvm.MethodName) prog_1_method_6_code (1 : Nat) (Option.none : Option Jvm.ClassFile.FieldType)) ∈ lw_all := lw_g (lw_at lw_m4 53 rfl) rfl
theorem q896 : (Jvm.Cond.classLink "Lastbus" (58 : Nat) "java/lang/IndexOutOfBoundsException") ∈ lw_all := lw_g (lw_at lw_m4 54 rfl) rfl
theorem q897 : (Jvm.Cond.methodLink "Lastbus" (60 : Nat) ({ cls := "java/lang/IndexOutOfBoundsException", name := "<init>", desc := "()V" } : Jvm.MethodName)) ∈ lw_all := lw_g (lw_at lw_m4 55 rfl) rfl
theorem q905 : (Jvm.Cond.instanceMethod ({ cls := "Lastbus", name := "walk", desc := "(III)I" } : Jvm.MethodName)) ∈ lw_all := lw_g (lw_at lw_m4 63 rfl) rfl
theorem q906 : (Jvm.Cond.selects "Lastbus" ({ cls := "Lastbus", name := "walk", desc := "(III)I" } : Jvm.MethodName) ({ cls := "Lastbus", name := "walk", desc := "(III)I" } : Jvm.MethodName)) ∈ lw_all := lw_g (lw_at lw_m4 64 rfl) rfl
theorem q907 : (Jvm.Cond.code ({ cls := "Lastbus", name := "walk", desc := "(III)I" } : Jvm.MethodName) prog_1_method_16_code (5 : Nat) (Option.some Jvm.ClassFile.FieldType.int)) ∈ lw_all := lw_g (lw_at lw_m4 65 rfl) rfl
theorem q913 : (Jvm.Cond.instanceMethod ({ cls := "Lastbus", name := "walkTime", desc := "(II)I" } : Jvm.MethodName)) ∈ lw_all := lw_g (lw_at lw_m4 71 rfl) rfl
theorem q914 : (Jvm.Cond.selects "Lastbus" ({ cls := "Lastbus", name := "walkTime", desc := "(II)I" } : Jvm.MethodName) ({ cls := "Lastbus", name := "walkTime", desc := "(II)I" } : Jvm.MethodName)) ∈ lw_all := lw_g (lw_at lw_m4 72 rfl) rfl
theorem q915 : (Jvm.Cond.code ({ cls := "Lastbus", name := "walkTime", desc := "(II)I" } : Jvm.MethodName) prog_1_method_18_code (4 : Nat) (Option.some Jvm.ClassFile.FieldType.int)) ∈ lw_all := lw_g (lw_at lw_m4 73 rfl) rfl
theorem q916 : (Jvm.Cond.methodLink "Lastbus" (113 : Nat) ({ cls := "Lastbus", name := "closedWalks", desc := "(I)[[I" } : Jvm.MethodName)) ∈ lw_all := lw_g (lw_at lw_m4 74 rfl) rfl
theorem q917 : (Jvm.Cond.privateMethod ({ cls := "Lastbus", name := "closedWalks", desc := "(I)[[I" } : Jvm.MethodName)) ∈ lw_tbl := lw_at lw_m4 75 rfl
theorem q918 : (Jvm.Cond.instanceMethod ({ cls := "Lastbus", name := "closedWalks", desc := "(I)[[I" } : Jvm.MethodName)) ∈ lw_all := lw_g (lw_at lw_m4 76 rfl) rfl
theorem q919 : (Jvm.Cond.code ({ cls := "Lastbus", name := "closedWalks", desc := "(I)[[I" } : Jvm.MethodName) prog_1_method_17_code (6 : Nat) (Option.some (Jvm.ClassFile.FieldType.array (Jvm.ClassFile.FieldType.array Jvm.ClassFile.FieldType.int)))) ∈ lw_all := lw_g (lw_at lw_m4 77 rfl) rfl
theorem q920 : (Jvm.Cond.constant "Lastbus" (106 : Nat) (1000000 : Int32)) ∈ lw_all := lw_g (lw_at lw_m4 78 rfl) rfl
theorem q921 : (Jvm.Cond.methodLink "Lastbus" (107 : Nat) ({ cls := "java/lang/Math", name := "min", desc := "(II)I" } : Jvm.MethodName)) ∈ lw_all := lw_g (lw_at lw_m4 79 rfl) rfl
theorem q922 : (Jvm.Cond.methodLink "Lastbus" (117 : Nat) ({ cls := "Lastbus", name := "requireThere", desc := "(Z)V" } : Jvm.MethodName)) ∈ lw_all := lw_g (lw_at lw_m4 80 rfl) rfl
theorem q923 : (Jvm.Cond.static ({ cls := "Lastbus", name := "requireThere", desc := "(Z)V" } : Jvm.MethodName)) ∈ lw_all := lw_g (lw_at lw_m4 81 rfl) rfl
theorem q924 : (Jvm.Cond.code ({ cls := "Lastbus", name := "requireThere", desc := "(Z)V" } : Jvm.MethodName) prog_1_method_5_code (1 : Nat) (Option.none : Option Jvm.ClassFile.FieldType)) ∈ lw_all := lw_g (lw_at lw_m4 82 rfl) rfl
theorem q925 : (Jvm.Cond.classLink "Lastbus" (55 : Nat) "java/util/NoSuchElementException") ∈ lw_all := lw_g (lw_at lw_m4 83 rfl) rfl
theorem q926 : (Jvm.Cond.methodLink "Lastbus" (57 : Nat) ({ cls := "java/util/NoSuchElementException", name := "<init>", desc := "()V" } : Jvm.MethodName)) ∈ lw_all := lw_g (lw_at lw_m4 84 rfl) rfl
theorem q931 : (Jvm.Cond.instanceMethod ({ cls := "Lastbus", name := "service", desc := "()I" } : Jvm.MethodName)) ∈ lw_all := lw_g (lw_at lw_m4 89 rfl) rfl
theorem q932 : (Jvm.Cond.selects "Lastbus" ({ cls := "Lastbus", name := "service", desc := "()I" } : Jvm.MethodName) ({ cls := "Lastbus", name := "service", desc := "()I" } : Jvm.MethodName)) ∈ lw_all := lw_g (lw_at lw_m4 90 rfl) rfl
theorem q933 : (Jvm.Cond.code ({ cls := "Lastbus", name := "service", desc := "()I" } : Jvm.MethodName) prog_1_method_19_code (1 : Nat) (Option.some Jvm.ClassFile.FieldType.int)) ∈ lw_all := lw_g (lw_at lw_m4 91 rfl) rfl
theorem q934 : (Jvm.Cond.methodLink "Lastbus" (120 : Nat) ({ cls := "java/util/BitSet", name := "<init>", desc := "()V" } : Jvm.MethodName)) ∈ lw_all := lw_g (lw_at lw_m4 92 rfl) rfl
theorem q953 : (Jvm.Cond.methodLink "Lastbus" (121 : Nat) ({ cls := "java/util/ArrayList", name := "add", desc := "(Ljava/lang/Object;)Z" } : Jvm.MethodName)) ∈ lw_all := lw_g (lw_at lw_m4 111 rfl) rfl
theorem q976 : (Jvm.Cond.selects "Lastbus" ({ cls := "java/lang/Object", name := "getClass", desc := "()Ljava/lang/Class;" } : Jvm.MethodName) ({ cls := "java/lang/Object", name := "getClass", desc := "()Ljava/lang/Class;" } : Jvm.MethodName)) ∈ lw_all := lw_g (lw_at lw_m4 134 rfl) rfl
theorem q1028 : (Jvm.Cond.instanceMethod ({ cls := "Lastbus", name := "week", desc := "(IIII)I" } : Jvm.MethodName)) ∈ lw_all := lw_g (lw_at lw_m4 186 rfl) rfl
theorem q1029 : (Jvm.Cond.selects "Lastbus" ({ cls := "Lastbus", name := "week", desc := "(IIII)I" } : Jvm.MethodName) ({ cls := "Lastbus", name := "week", desc := "(IIII)I" } : Jvm.MethodName)) ∈ lw_all := lw_g (lw_at lw_m4 187 rfl) rfl
theorem q1030 : (Jvm.Cond.code ({ cls := "Lastbus", name := "week", desc := "(IIII)I" } : Jvm.MethodName) prog_1_method_20_code (7 : Nat) (Option.some Jvm.ClassFile.FieldType.int)) ∈ lw_all := lw_g (lw_at lw_m4 188 rfl) rfl
theorem q1031 : (Jvm.Cond.methodLink "Lastbus" (125 : Nat) ({ cls := "Lastbus", name := "serviceOf", desc := "(I)Ljava/util/BitSet;" } : Jvm.MethodName)) ∈ lw_all := lw_g (lw_at lw_m4 189 rfl) rfl
theorem q1032 : (Jvm.Cond.privateMethod ({ cls := "Lastbus", name := "serviceOf", desc := "(I)Ljava/util/BitSet;" } : Jvm.MethodName)) ∈ lw_tbl := lw_at lw_m4 190 rfl
theorem q1033 : (Jvm.Cond.instanceMethod ({ cls := "Lastbus", name := "serviceOf", desc := "(I)Ljava/util/BitSet;" } : Jvm.MethodName)) ∈ lw_all := lw_g (lw_at lw_m4 191 rfl) rfl
theorem q1034 : (Jvm.Cond.code ({ cls := "Lastbus", name := "serviceOf", desc := "(I)Ljava/util/BitSet;" } : Jvm.MethodName) prog_1_method_13_code (2 : Nat) (Option.some (Jvm.ClassFile.FieldType.object "java/util/BitSet"))) ∈ lw_all := lw_g (lw_at lw_m4 192 rfl) rfl
theorem q1035 : (Jvm.Cond.methodLink "Lastbus" (79 : Nat) ({ cls := "java/util/ArrayList", name := "get", desc := "(I)Ljava/lang/Object;" } : Jvm.MethodName)) ∈ lw_all := lw_g (lw_at lw_m4 193 rfl) rfl
theorem q1049 : (Jvm.Cond.methodLink "Lastbus" (129 : Nat) ({ cls := "Lastbus", name := "isDay", desc := "(I)Z" } : Jvm.MethodName)) ∈ lw_all := lw_g (lw_at lw_m4 207 rfl) rfl
theorem q1050 : (Jvm.Cond.static ({ cls := "Lastbus", name := "isDay", desc := "(I)Z" } : Jvm.MethodName)) ∈ lw_all := lw_g (lw_at lw_m4 208 rfl) rfl
theorem q1051 : (Jvm.Cond.code ({ cls := "Lastbus", name := "isDay", desc := "(I)Z" } : Jvm.MethodName) prog_1_method_8_code (1 : Nat) (Option.some Jvm.ClassFile.FieldType.boolean)) ∈ lw_all := lw_g (lw_at lw_m4 209 rfl) rfl
theorem q1052 : (Jvm.Cond.methodLink "Lastbus" (132 : Nat) ({ cls := "java/util/BitSet", name := "set", desc := "(I)V" } : Jvm.MethodName)) ∈ lw_all := lw_g (lw_at lw_m4 210 rfl) rfl
theorem q1073 : (Jvm.Cond.methodLink "Lastbus" (136 : Nat) ({ cls := "java/util/BitSet", name := "cardinality", desc := "()I" } : Jvm.MethodName)) ∈ lw_all := lw_g (lw_at lw_m4 231 rfl) rfl
theorem q1087 : (Jvm.Cond.instanceMethod ({ cls := "Lastbus", name := "putDay", desc := "(IIZ)Z" } : Jvm.MethodName)) ∈ lw_all := lw_g (lw_at lw_m5 5 rfl) rfl
theorem q1088 : (Jvm.Cond.selects "Lastbus" ({ cls := "Lastbus", name := "putDay", desc := "(IIZ)Z" } : Jvm.MethodName) ({ cls := "Lastbus", name := "putDay", desc := "(IIZ)Z" } : Jvm.MethodName)) ∈ lw_all := lw_g (lw_at lw_m5 6 rfl) rfl
theorem q1089 : (Jvm.Cond.code ({ cls := "Lastbus", name := "putDay", desc := "(IIZ)Z" } : Jvm.MethodName) prog_1_method_21_code (6 : Nat) (Option.some Jvm.ClassFile.FieldType.boolean)) ∈ lw_all := lw_g (lw_at lw_m5 7 rfl) rfl
theorem q1090 : (Jvm.Cond.methodLink "Lastbus" (141 : Nat) ({ cls := "java/util/BitSet", name := "flip", desc := "(I)V" } : Jvm.MethodName)) ∈ lw_all := lw_g (lw_at lw_m5 8 rfl) rfl
theorem q1102 : (Jvm.Cond.instanceMethod ({ cls := "Lastbus", name := "runsOn", desc := "(II)Z" } : Jvm.MethodName)) ∈ lw_all := lw_g (lw_at lw_m5 20 rfl) rfl
theorem q1103 : (Jvm.Cond.selects "Lastbus" ({ cls := "Lastbus", name := "runsOn", desc := "(II)Z" } : Jvm.MethodName) ({ cls := "Lastbus", name := "runsOn", desc := "(II)Z" } : Jvm.MethodName)) ∈ lw_all := lw_g (lw_at lw_m5 21 rfl) rfl
theorem q1104 : (Jvm.Cond.code ({ cls := "Lastbus", name := "runsOn", desc := "(II)Z" } : Jvm.MethodName) prog_1_method_22_code (4 : Nat) (Option.some Jvm.ClassFile.FieldType.boolean)) ∈ lw_all := lw_g (lw_at lw_m5 22 rfl) rfl
theorem q1109 : (Jvm.Cond.instanceMethod ({ cls := "Lastbus", name := "nextDay", desc := "(II)I" } : Jvm.MethodName)) ∈ lw_all := lw_g (lw_at lw_m5 27 rfl) rfl
theorem q1110 : (Jvm.Cond.selects "Lastbus" ({ cls := "Lastbus", name := "nextDay", desc := "(II)I" } : Jvm.MethodName) ({ cls := "Lastbus", name := "nextDay", desc := "(II)I" } : Jvm.MethodName)) ∈ lw_all := lw_g (lw_at lw_m5 28 rfl) rfl
theorem q1111 : (Jvm.Cond.code ({ cls := "Lastbus", name := "nextDay", desc := "(II)I" } : Jvm.MethodName) prog_1_method_23_code (5 : Nat) (Option.some Jvm.ClassFile.FieldType.int)) ∈ lw_all := lw_g (lw_at lw_m5 29 rfl) rfl
theorem q1112 : (Jvm.Cond.methodLink "Lastbus" (144 : Nat) ({ cls := "java/util/BitSet", name := "nextSetBit", desc := "(I)I" } : Jvm.MethodName)) ∈ lw_all := lw_g (lw_at lw_m5 30 rfl) rfl
theorem q1129 : (Jvm.Cond.instanceMethod ({ cls := "Lastbus", name := "trip", desc := "(III)I" } : Jvm.MethodName)) ∈ lw_all := lw_g (lw_at lw_m5 47 rfl) rfl
theorem q1130 : (Jvm.Cond.selects "Lastbus" ({ cls := "Lastbus", name := "trip", desc := "(III)I" } : Jvm.MethodName) ({ cls := "Lastbus", name := "trip", desc := "(III)I" } : Jvm.MethodName)) ∈ lw_all := lw_g (lw_at lw_m5 48 rfl) rfl
theorem q1131 : (Jvm.Cond.code ({ cls := "Lastbus", name := "trip", desc := "(III)I" } : Jvm.MethodName) prog_1_method_24_code (6 : Nat) (Option.some Jvm.ClassFile.FieldType.int)) ∈ lw_all := lw_g (lw_at lw_m5 49 rfl) rfl
theorem q1132 : (Jvm.Cond.methodLink "Lastbus" (148 : Nat) ({ cls := "Lastbus", name := "isTime", desc := "(I)Z" } : Jvm.MethodName)) ∈ lw_all := lw_g (lw_at lw_m5 50 rfl) rfl
theorem q1133 : (Jvm.Cond.static ({ cls := "Lastbus", name := "isTime", desc := "(I)Z" } : Jvm.MethodName)) ∈ lw_all := lw_g (lw_at lw_m5 51 rfl) rfl
theorem q1134 : (Jvm.Cond.code ({ cls := "Lastbus", name := "isTime", desc := "(I)Z" } : Jvm.MethodName) prog_1_method_9_code (1 : Nat) (Option.some Jvm.ClassFile.FieldType.boolean)) ∈ lw_all := lw_g (lw_at lw_m5 52 rfl) rfl
theorem q1136 : (Jvm.Cond.methodLink "Lastbus" (151 : Nat) ({ cls := "Lastbus$Trip", name := "<init>", desc := "(I)V" } : Jvm.MethodName)) ∈ lw_all := lw_g (lw_at lw_m5 54 rfl) rfl
theorem q1143 : (Jvm.Cond.fieldLinkNest "Lastbus" (273 : Nat) "Lastbus$Trip" "service" "I" "Lastbus") ∈ lw_tbl := lw_at lw_m5 61 rfl
theorem q1146 : (Jvm.Cond.fieldLinkNest "Lastbus" (89 : Nat) "Lastbus$Trip" "calls" "Ljava/util/ArrayList;" "Lastbus") ∈ lw_tbl := lw_at lw_m5 64 rfl
theorem q1153 : (Jvm.Cond.methodLinkNest "Lastbus" (153 : Nat) ({ cls := "Lastbus$Call", name := "<init>", desc := "(III)V" } : Jvm.MethodName) "Lastbus") ∈ lw_tbl := lw_at lw_m5 71 rfl
theorem q1174 : (Jvm.Cond.instanceMethod ({ cls := "Lastbus", name := "call", desc := "(IIII)I" } : Jvm.MethodName)) ∈ lw_all := lw_g (lw_at lw_m5 92 rfl) rfl
theorem q1175 : (Jvm.Cond.selects "Lastbus" ({ cls := "Lastbus", name := "call", desc := "(IIII)I" } : Jvm.MethodName) ({ cls := "Lastbus", name := "call", desc := "(IIII)I" } : Jvm.MethodName)) ∈ lw_all := lw_g (lw_at lw_m5 93 rfl) rfl
theorem q1176 : (Jvm.Cond.code ({ cls := "Lastbus", name := "call", desc := "(IIII)I" } : Jvm.MethodName) prog_1_method_26_code (6 : Nat) (Option.some Jvm.ClassFile.FieldType.int)) ∈ lw_all := lw_g (lw_at lw_m5 94 rfl) rfl
theorem q1177 : (Jvm.Cond.methodLink "Lastbus" (85 : Nat) ({ cls := "Lastbus", name := "tripOf", desc := "(I)LLastbus$Trip;" } : Jvm.MethodName)) ∈ lw_all := lw_g (lw_at lw_m5 95 rfl) rfl
theorem q1178 : (Jvm.Cond.privateMethod ({ cls := "Lastbus", name := "tripOf", desc := "(I)LLastbus$Trip;" } : Jvm.MethodName)) ∈ lw_tbl := lw_at lw_m5 96 rfl
theorem q1179 : (Jvm.Cond.instanceMethod ({ cls := "Lastbus", name := "tripOf", desc := "(I)LLastbus$Trip;" } : Jvm.MethodName)) ∈ lw_all := lw_g (lw_at lw_m5 97 rfl) rfl
theorem q1180 : (Jvm.Cond.code ({ cls := "Lastbus", name := "tripOf", desc := "(I)LLastbus$Trip;" } : Jvm.MethodName) prog_1_method_11_code (2 : Nat) (Option.some (Jvm.ClassFile.FieldType.object "Lastbus$Trip"))) ∈ lw_all := lw_g (lw_at lw_m5 98 rfl) rfl
theorem q1181 : (Jvm.Cond.methodLink "Lastbus" (166 : Nat) ({ cls := "Lastbus", name := "goesOn", desc := "(LLastbus$Trip;III)Z" } : Jvm.MethodName)) ∈ lw_all := lw_g (lw_at lw_m5 99 rfl) rfl
theorem q1182 : (Jvm.Cond.static ({ cls := "Lastbus", name := "goesOn", desc := "(LLastbus$Trip;III)Z" } : Jvm.MethodName)) ∈ lw_all := lw_g (lw_at lw_m5 100 rfl) rfl
theorem q1183 : (Jvm.Cond.code ({ cls := "Lastbus", name := "goesOn", desc := "(LLastbus$Trip;III)Z" } : Jvm.MethodName) prog_1_method_25_code (5 : Nat) (Option.some Jvm.ClassFile.FieldType.boolean)) ∈ lw_all := lw_g (lw_at lw_m5 101 rfl) rfl
theorem q1184 : (Jvm.Cond.methodLink "Lastbus" (156 : Nat) ({ cls := "Lastbus$Trip", name := "last", desc := "()LLastbus$Call;" } : Jvm.MethodName)) ∈ lw_all := lw_g (lw_at lw_m5 102 rfl) rfl
theorem q1195 : (Jvm.Cond.instanceMethod ({ cls := "Lastbus", name := "calls", desc := "(I)I" } : Jvm.MethodName)) ∈ lw_all := lw_g (lw_at lw_m5 113 rfl) rfl
theorem q1196 : (Jvm.Cond.selects "Lastbus" ({ cls := "Lastbus", name := "calls", desc := "(I)I" } : Jvm.MethodName) ({ cls := "Lastbus", name := "calls", desc := "(I)I" } : Jvm.MethodName)) ∈ lw_all := lw_g (lw_at lw_m5 114 rfl) rfl
theorem q1197 : (Jvm.Cond.code ({ cls := "Lastbus", name := "calls", desc := "(I)I" } : Jvm.MethodName) prog_1_method_28_code (2 : Nat) (Option.some Jvm.ClassFile.FieldType.int)) ∈ lw_all := lw_g (lw_at lw_m5 115 rfl) rfl
theorem q1202 : (Jvm.Cond.instanceMethod ({ cls := "Lastbus", name := "stopAt", desc := "(II)I" } : Jvm.MethodName)) ∈ lw_all := lw_g (lw_at lw_m5 120 rfl) rfl
theorem q1203 : (Jvm.Cond.selects "Lastbus" ({ cls := "Lastbus", name := "stopAt", desc := "(II)I" } : Jvm.MethodName) ({ cls := "Lastbus", name := "stopAt", desc := "(II)I" } : Jvm.MethodName)) ∈ lw_all := lw_g (lw_at lw_m5 121 rfl) rfl
theorem q1204 : (Jvm.Cond.code ({ cls := "Lastbus", name := "stopAt", desc := "(II)I" } : Jvm.MethodName) prog_1_method_29_code (3 : Nat) (Option.some Jvm.ClassFile.FieldType.int)) ∈ lw_all := lw_g (lw_at lw_m5 122 rfl) rfl
theorem q1205 : (Jvm.Cond.methodLink "Lastbus" (170 : Nat) ({ cls := "Lastbus", name := "callOf", desc := "(II)LLastbus$Call;" } : Jvm.MethodName)) ∈ lw_all := lw_g (lw_at lw_m5 123 rfl) rfl
theorem q1206 : (Jvm.Cond.privateMethod ({ cls := "Lastbus", name := "callOf", desc := "(II)LLastbus$Call;" } : Jvm.MethodName)) ∈ lw_tbl := lw_at lw_m5 124 rfl
theorem q1207 : (Jvm.Cond.instanceMethod ({ cls := "Lastbus", name := "callOf", desc := "(II)LLastbus$Call;" } : Jvm.MethodName)) ∈ lw_all := lw_g (lw_at lw_m5 125 rfl) rfl
theorem q1208 : (Jvm.Cond.code ({ cls := "Lastbus", name := "callOf", desc := "(II)LLastbus$Call;" } : Jvm.MethodName) prog_1_method_12_code (4 : Nat) (Option.some (Jvm.ClassFile.FieldType.object "Lastbus$Call"))) ∈ lw_all := lw_g (lw_at lw_m5 126 rfl) rfl
theorem q1213 : (Jvm.Cond.instanceMethod ({ cls := "Lastbus", name := "timeAt", desc := "(IIZ)I" } : Jvm.MethodName)) ∈ lw_all := lw_g (lw_at lw_m5 131 rfl) rfl
theorem q1214 : (Jvm.Cond.selects "Lastbus" ({ cls := "Lastbus", name := "timeAt", desc := "(IIZ)I" } : Jvm.MethodName) ({ cls := "Lastbus", name := "timeAt", desc := "(IIZ)I" } : Jvm.MethodName)) ∈ lw_all := lw_g (lw_at lw_m5 132 rfl) rfl
theorem q1215 : (Jvm.Cond.code ({ cls := "Lastbus", name := "timeAt", desc := "(IIZ)I" } : Jvm.MethodName) prog_1_method_30_code (5 : Nat) (Option.some Jvm.ClassFile.FieldType.int)) ∈ lw_all := lw_g (lw_at lw_m5 133 rfl) rfl
theorem q1220 : (Jvm.Cond.instanceMethod ({ cls := "Lastbus", name := "shift", desc := "(II)I" } : Jvm.MethodName)) ∈ lw_all := lw_g (lw_at lw_m5 138 rfl) rfl
theorem q1221 : (Jvm.Cond.selects "Lastbus" ({ cls := "Lastbus", name := "shift", desc := "(II)I" } : Jvm.MethodName) ({ cls := "Lastbus", name := "shift", desc := "(II)I" } : Jvm.MethodName)) ∈ lw_all := lw_g (lw_at lw_m5 139 rfl) rfl
theorem q1222 : (Jvm.Cond.code ({ cls := "Lastbus", name := "shift", desc := "(II)I" } : Jvm.MethodName) prog_1_method_31_code (4 : Nat) (Option.some Jvm.ClassFile.FieldType.int)) ∈ lw_all := lw_g (lw_at lw_m5 140 rfl) rfl
theorem q1223 : (Jvm.Cond.methodLink "Lastbus" (177 : Nat) ({ cls := "Lastbus$Trip", name := "canShift", desc := "(I)Z" } : Jvm.MethodName)) ∈ lw_all := lw_g (lw_at lw_m5 141 rfl) rfl
theorem q1230 : (Jvm.Cond.methodLink "Lastbus" (180 : Nat) ({ cls := "Lastbus$Trip", name := "shifted", desc := "(I)LLastbus$Trip;" } : Jvm.MethodName)) ∈ lw_all := lw_g (lw_at lw_m5 148 rfl) rfl
theorem q1248 : (Jvm.Cond.methodLink "Lastbus" (183 : Nat) ({ cls := "java/util/ArrayList", name := "set", desc := "(ILjava/lang/Object;)Ljava/lang/Object;" } : Jvm.MethodName)) ∈ lw_all := lw_g (lw_at lw_m5 166 rfl) rfl
theorem q1256 : (Jvm.Cond.instanceMethod ({ cls := "Lastbus", name := "type", desc := "(C)I" } : Jvm.MethodName)) ∈ lw_all := lw_g (lw_at lw_m5 174 rfl) rfl
theorem q1257 : (Jvm.Cond.selects "Lastbus" ({ cls := "Lastbus", name := "type", desc := "(C)I" } : Jvm.MethodName) ({ cls := "Lastbus", name := "type", desc := "(C)I" } : Jvm.MethodName)) ∈ lw_all := lw_g (lw_at lw_m5 175 rfl) rfl
theorem q1258 : (Jvm.Cond.code ({ cls := "Lastbus", name := "type", desc := "(C)I" } : Jvm.MethodName) prog_1_method_32_code (2 : Nat) (Option.some Jvm.ClassFile.FieldType.int)) ∈ lw_all := lw_g (lw_at lw_m5 176 rfl) rfl
theorem q1259 : (Jvm.Cond.methodLink "Lastbus" (189 : Nat) ({ cls := "java/lang/StringBuilder", name := "append", desc := "(C)Ljava/lang/StringBuilder;" } : Jvm.MethodName)) ∈ lw_all := lw_g (lw_at lw_m5 177 rfl) rfl
theorem q1283 : (Jvm.Cond.instanceMethod ({ cls := "Lastbus", name := "typeNumber", desc := "(I)I" } : Jvm.MethodName)) ∈ lw_all := lw_g (lw_at lw_m5 201 rfl) rfl
theorem q1284 : (Jvm.Cond.selects "Lastbus" ({ cls := "Lastbus", name := "typeNumber", desc := "(I)I" } : Jvm.MethodName) ({ cls := "Lastbus", name := "typeNumber", desc := "(I)I" } : Jvm.MethodName)) ∈ lw_all := lw_g (lw_at lw_m5 202 rfl) rfl
theorem q1285 : (Jvm.Cond.code ({ cls := "Lastbus", name := "typeNumber", desc := "(I)I" } : Jvm.MethodName) prog_1_method_33_code (3 : Nat) (Option.some Jvm.ClassFile.FieldType.int)) ∈ lw_all := lw_g (lw_at lw_m5 203 rfl) rfl
theorem q1286 : (Jvm.Cond.methodLink "Lastbus" (193 : Nat) ({ cls := "java/lang/StringBuilder", name := "append", desc := "(I)Ljava/lang/StringBuilder;" } : Jvm.MethodName)) ∈ lw_all := lw_g (lw_at lw_m5 204 rfl) rfl
theorem q1292 : (Jvm.Cond.instanceMethod ({ cls := "Lastbus", name := "readRow", desc := "()I" } : Jvm.MethodName)) ∈ lw_all := lw_g (lw_at lw_m5 210 rfl) rfl
theorem q1293 : (Jvm.Cond.selects "Lastbus" ({ cls := "Lastbus", name := "readRow", desc := "()I" } : Jvm.MethodName) ({ cls := "Lastbus", name := "readRow", desc := "()I" } : Jvm.MethodName)) ∈ lw_all := lw_g (lw_at lw_m5 211 rfl) rfl
theorem q1294 : (Jvm.Cond.codeWith ({ cls := "Lastbus", name := "readRow", desc := "()I" } : Jvm.MethodName) prog_1_method_35_code (8 : Nat) (Option.some Jvm.ClassFile.FieldType.int) [((0 : Nat), (18 : Nat), (21 : Nat), (212 : Nat))]) ∈ lw_all := lw_g (lw_at lw_m5 212 rfl) rfl
theorem q1295 : (Jvm.Cond.classLink "Lastbus" (212 : Nat) "Lastbus$Fault") ∈ lw_all := lw_g (lw_at lw_m5 213 rfl) rfl
theorem q1296 : (Jvm.Cond.classLink "Lastbus" (199 : Nat) "Lastbus$Reader") ∈ lw_all := lw_g (lw_at lw_m5 214 rfl) rfl
theorem q1298 : (Jvm.Cond.methodLink "Lastbus" (201 : Nat) ({ cls := "java/lang/StringBuilder", name := "toString", desc := "()Ljava/lang/String;" } : Jvm.MethodName)) ∈ lw_all := lw_g (lw_at lw_m5 216 rfl) rfl
theorem q1299 : (Jvm.Cond.methodLink "Lastbus" (205 : Nat) ({ cls := "Lastbus$Reader", name := "<init>", desc := "(Ljava/lang/String;)V" } : Jvm.MethodName)) ∈ lw_all := lw_g (lw_at lw_m5 217 rfl) rfl
theorem q1330 : (Jvm.Cond.methodLink "Lastbus" (208 : Nat) ({ cls := "Lastbus$Reader", name := "read", desc := "()Ljava/util/ArrayDeque;" } : Jvm.MethodName)) ∈ lw_all := lw_g (lw_at lw_m6 8 rfl) rfl
theorem q1373 : (Jvm.Cond.fieldLinkNest "Lastbus" (214 : Nat) "Lastbus$Fault" "place" "I" "Lastbus") ∈ lw_tbl := lw_at lw_m6 51 rfl
theorem q1431 : (Jvm.Cond.methodLink "Lastbus" (217 : Nat) ({ cls := "java/util/ArrayDeque", name := "removeFirst", desc := "()Ljava/lang/Object;" } : Jvm.MethodName)) ∈ lw_all := lw_g (lw_at lw_m6 109 rfl) rfl
theorem q1444 : (Jvm.Cond.classLink "Lastbus" (223 : Nat) "java/lang/Integer") ∈ lw_all := lw_g (lw_at lw_m6 122 rfl) rfl
theorem q1445 : (Jvm.Cond.methodLink "Lastbus" (225 : Nat) ({ cls := "java/lang/Integer", name := "intValue", desc := "()I" } : Jvm.MethodName)) ∈ lw_all := lw_g (lw_at lw_m6 123 rfl) rfl
theorem q1449 : (Jvm.Cond.methodLink "Lastbus" (228 : Nat) ({ cls := "Lastbus", name := "requireSupported", desc := "(Z)V" } : Jvm.MethodName)) ∈ lw_all := lw_g (lw_at lw_m6 127 rfl) rfl
theorem q1450 : (Jvm.Cond.static ({ cls := "Lastbus", name := "requireSupported", desc := "(Z)V" } : Jvm.MethodName)) ∈ lw_all := lw_g (lw_at lw_m6 128 rfl) rfl
theorem q1451 : (Jvm.Cond.code ({ cls := "Lastbus", name := "requireSupported", desc := "(Z)V" } : Jvm.MethodName) prog_1_method_7_code (1 : Nat) (Option.none : Option Jvm.ClassFile.FieldType)) ∈ lw_all := lw_g (lw_at lw_m6 129 rfl) rfl
theorem q1452 : (Jvm.Cond.classLink "Lastbus" (61 : Nat) "java/lang/UnsupportedOperationException") ∈ lw_all := lw_g (lw_at lw_m6 130 rfl) rfl
theorem q1461 : (Jvm.Cond.methodLink "Lastbus" (63 : Nat) ({ cls := "java/lang/UnsupportedOperationException", name := "<init>", desc := "()V" } : Jvm.MethodName)) ∈ lw_all := lw_g (lw_at lw_m6 139 rfl) rfl
theorem q1467 : (Jvm.Cond.methodLink "Lastbus" (231 : Nat) ({ cls := "java/util/ArrayDeque", name := "isEmpty", desc := "()Z" } : Jvm.MethodName)) ∈ lw_all := lw_g (lw_at lw_m6 145 rfl) rfl
theorem q1471 : (Jvm.Cond.methodLink "Lastbus" (235 : Nat) ({ cls := "java/util/ArrayList", name := "isEmpty", desc := "()Z" } : Jvm.MethodName)) ∈ lw_all := lw_g (lw_at lw_m6 149 rfl) rfl
theorem q1479 : (Jvm.Cond.instanceMethod ({ cls := "Lastbus", name := "faultAt", desc := "()I" } : Jvm.MethodName)) ∈ lw_all := lw_g (lw_at lw_m6 157 rfl) rfl
theorem q1480 : (Jvm.Cond.selects "Lastbus" ({ cls := "Lastbus", name := "faultAt", desc := "()I" } : Jvm.MethodName) ({ cls := "Lastbus", name := "faultAt", desc := "()I" } : Jvm.MethodName)) ∈ lw_all := lw_g (lw_at lw_m6 158 rfl) rfl
theorem q1481 : (Jvm.Cond.code ({ cls := "Lastbus", name := "faultAt", desc := "()I" } : Jvm.MethodName) prog_1_method_36_code (1 : Nat) (Option.some Jvm.ClassFile.FieldType.int)) ∈ lw_all := lw_g (lw_at lw_m6 159 rfl) rfl
theorem q1486 : (Jvm.Cond.instanceMethod ({ cls := "Lastbus", name := "late", desc := "(IIII)I" } : Jvm.MethodName)) ∈ lw_all := lw_g (lw_at lw_m6 164 rfl) rfl
theorem q1487 : (Jvm.Cond.selects "Lastbus" ({ cls := "Lastbus", name := "late", desc := "(IIII)I" } : Jvm.MethodName) ({ cls := "Lastbus", name := "late", desc := "(IIII)I" } : Jvm.MethodName)) ∈ lw_all := lw_g (lw_at lw_m6 165 rfl) rfl
theorem q1488 : (Jvm.Cond.code ({ cls := "Lastbus", name := "late", desc := "(IIII)I" } : Jvm.MethodName) prog_1_method_38_code (8 : Nat) (Option.some Jvm.ClassFile.FieldType.int)) ∈ lw_all := lw_g (lw_at lw_m6 166 rfl) rfl
theorem q1489 : (Jvm.Cond.methodLink "Lastbus" (245 : Nat) ({ cls := "Lastbus", name := "lateOf", desc := "(II)LLastbus$Late;" } : Jvm.MethodName)) ∈ lw_all := lw_g (lw_at lw_m6 167 rfl) rfl
theorem q1490 : (Jvm.Cond.privateMethod ({ cls := "Lastbus", name := "lateOf", desc := "(II)LLastbus$Late;" } : Jvm.MethodName)) ∈ lw_tbl := lw_at lw_m6 168 rfl
theorem q1491 : (Jvm.Cond.instanceMethod ({ cls := "Lastbus", name := "lateOf", desc := "(II)LLastbus$Late;" } : Jvm.MethodName)) ∈ lw_all := lw_g (lw_at lw_m6 169 rfl) rfl
theorem q1492 : (Jvm.Cond.code ({ cls := "Lastbus", name := "lateOf", desc := "(II)LLastbus$Late;" } : Jvm.MethodName) prog_1_method_37_code (3 : Nat) (Option.some (Jvm.ClassFile.FieldType.object "Lastbus$Late"))) ∈ lw_all := lw_g (lw_at lw_m6 170 rfl) rfl
theorem q1493 : (Jvm.Cond.methodLink "Lastbus" (236 : Nat) ({ cls := "java/lang/Integer", name := "valueOf", desc := "(I)Ljava/lang/Integer;" } : Jvm.MethodName)) ∈ lw_all := lw_g (lw_at lw_m6 171 rfl) rfl
theorem q1494 : (Jvm.Cond.methodLink "Lastbus" (240 : Nat) ({ cls := "java/util/TreeMap", name := "get", desc := "(Ljava/lang/Object;)Ljava/lang/Object;" } : Jvm.MethodName)) ∈ lw_all := lw_g (lw_at lw_m6 172 rfl) rfl
theorem q1731 : (Jvm.Cond.classLink "Lastbus" (243 : Nat) "Lastbus$Late") ∈ lw_all := lw_g (lw_at lw_m7 169 rfl) rfl
theorem q1733 : (Jvm.Cond.methodLinkNest "Lastbus" (250 : Nat) ({ cls := "Lastbus$Late", name := "<init>", desc := "(II)V" } : Jvm.MethodName) "Lastbus") ∈ lw_tbl := lw_at lw_m7 171 rfl
theorem q1744 : (Jvm.Cond.methodLink "Lastbus" (253 : Nat) ({ cls := "java/util/TreeMap", name := "put", desc := "(Ljava/lang/Object;Ljava/lang/Object;)Ljava/lang/Object;" } : Jvm.MethodName)) ∈ lw_all := lw_g (lw_at lw_m7 182 rfl) rfl
theorem q1820 : (Jvm.Cond.methodLink "Lastbus" (257 : Nat) ({ cls := "java/util/TreeMap", name := "remove", desc := "(Ljava/lang/Object;)Ljava/lang/Object;" } : Jvm.MethodName)) ∈ lw_all := lw_g (lw_at lw_m8 18 rfl) rfl
theorem q1835 : (Jvm.Cond.methodLink "Lastbus" (260 : Nat) ({ cls := "Lastbus$Late", name := "minutes", desc := "()I" } : Jvm.MethodName)) ∈ lw_all := lw_g (lw_at lw_m8 33 rfl) rfl
theorem q1843 : (Jvm.Cond.instanceMethod ({ cls := "Lastbus", name := "lateness", desc := "(III)I" } : Jvm.MethodName)) ∈ lw_all := lw_g (lw_at lw_m8 41 rfl) rfl
theorem q1844 : (Jvm.Cond.selects "Lastbus" ({ cls := "Lastbus", name := "lateness", desc := "(III)I" } : Jvm.MethodName) ({ cls := "Lastbus", name := "lateness", desc := "(III)I" } : Jvm.MethodName)) ∈ lw_all := lw_g (lw_at lw_m8 42 rfl) rfl
theorem q1845 : (Jvm.Cond.code ({ cls := "Lastbus", name := "lateness", desc := "(III)I" } : Jvm.MethodName) prog_1_method_40_code (5 : Nat) (Option.some Jvm.ClassFile.FieldType.int)) ∈ lw_all := lw_g (lw_at lw_m8 43 rfl) rfl
theorem q1846 : (Jvm.Cond.methodLink "Lastbus" (266 : Nat) ({ cls := "Lastbus", name := "toldLateness", desc := "(III)I" } : Jvm.MethodName)) ∈ lw_all := lw_g (lw_at lw_m8 44 rfl) rfl
theorem q1847 : (Jvm.Cond.privateMethod ({ cls := "Lastbus", name := "toldLateness", desc := "(III)I" } : Jvm.MethodName)) ∈ lw_tbl := lw_at lw_m8 45 rfl
theorem q1848 : (Jvm.Cond.instanceMethod ({ cls := "Lastbus", name := "toldLateness", desc := "(III)I" } : Jvm.MethodName)) ∈ lw_all := lw_g (lw_at lw_m8 46 rfl) rfl
theorem q1849 : (Jvm.Cond.code ({ cls := "Lastbus", name := "toldLateness", desc := "(III)I" } : Jvm.MethodName) prog_1_method_39_code (5 : Nat) (Option.some Jvm.ClassFile.FieldType.int)) ∈ lw_all := lw_g (lw_at lw_m8 47 rfl) rfl
theorem q1850 : (Jvm.Cond.methodLink "Lastbus" (263 : Nat) ({ cls := "Lastbus$Late", name := "call", desc := "()I" } : Jvm.MethodName)) ∈ lw_all := lw_g (lw_at lw_m8 48 rfl) rfl
theorem q1858 : (Jvm.Cond.instanceMethod ({ cls := "Lastbus", name := "earliest", desc := "(IIII)I" } : Jvm.MethodName)) ∈ lw_all := lw_g (lw_at lw_m8 56 rfl) rfl
theorem q1859 : (Jvm.Cond.selects "Lastbus" ({ cls := "Lastbus", name := "earliest", desc := "(IIII)I" } : Jvm.MethodName) ({ cls := "Lastbus", name := "earliest", desc := "(IIII)I" } : Jvm.MethodName)) ∈ lw_all := lw_g (lw_at lw_m8 57 rfl) rfl
theorem q1860 : (Jvm.Cond.code ({ cls := "Lastbus", name := "earliest", desc := "(IIII)I" } : Jvm.MethodName) prog_1_method_52_code (5 : Nat) (Option.some Jvm.ClassFile.FieldType.int)) ∈ lw_all := lw_g (lw_at lw_m8 58 rfl) rfl
theorem q1861 : (Jvm.Cond.methodLink "Lastbus" (365 : Nat) ({ cls := "Lastbus", name := "requireAsked", desc := "(IIII)V" } : Jvm.MethodName)) ∈ lw_all := lw_g (lw_at lw_m8 59 rfl) rfl
theorem q1862 : (Jvm.Cond.privateMethod ({ cls := "Lastbus", name := "requireAsked", desc := "(IIII)V" } : Jvm.MethodName)) ∈ lw_tbl := lw_at lw_m8 60 rfl
theorem q1863 : (Jvm.Cond.instanceMethod ({ cls := "Lastbus", name := "requireAsked", desc := "(IIII)V" } : Jvm.MethodName)) ∈ lw_all := lw_g (lw_at lw_m8 61 rfl) rfl
theorem q1864 : (Jvm.Cond.code ({ cls := "Lastbus", name := "requireAsked", desc := "(IIII)V" } : Jvm.MethodName) prog_1_method_50_code (5 : Nat) (Option.none : Option Jvm.ClassFile.FieldType)) ∈ lw_all := lw_g (lw_at lw_m8 62 rfl) rfl
theorem q1865 : (Jvm.Cond.methodLink "Lastbus" (369 : Nat) ({ cls := "Lastbus", name := "scanned", desc := "(III)LLastbus$Labels;" } : Jvm.MethodName)) ∈ lw_all := lw_g (lw_at lw_m8 63 rfl) rfl
theorem q1866 : (Jvm.Cond.privateMethod ({ cls := "Lastbus", name := "scanned", desc := "(III)LLastbus$Labels;" } : Jvm.MethodName)) ∈ lw_tbl := lw_at lw_m8 64 rfl
theorem q1867 : (Jvm.Cond.instanceMethod ({ cls := "Lastbus", name := "scanned", desc := "(III)LLastbus$Labels;" } : Jvm.MethodName)) ∈ lw_all := lw_g (lw_at lw_m8 65 rfl) rfl
theorem q1868 : (Jvm.Cond.code ({ cls := "Lastbus", name := "scanned", desc := "(III)LLastbus$Labels;" } : Jvm.MethodName) prog_1_method_49_code (4 : Nat) (Option.some (Jvm.ClassFile.FieldType.object "Lastbus$Labels"))) ∈ lw_all := lw_g (lw_at lw_m8 66 rfl) rfl
theorem q1869 : (Jvm.Cond.methodLink "Lastbus" (354 : Nat) ({ cls := "Lastbus", name := "runsAbout", desc := "(I)Ljava/util/ArrayList;" } : Jvm.MethodName)) ∈ lw_all := lw_g (lw_at lw_m8 67 rfl) rfl
theorem q1870 : (Jvm.Cond.privateMethod ({ cls := "Lastbus", name := "runsAbout", desc := "(I)Ljava/util/ArrayList;" } : Jvm.MethodName)) ∈ lw_tbl := lw_at lw_m8 68 rfl
theorem q1871 : (Jvm.Cond.instanceMethod ({ cls := "Lastbus", name := "runsAbout", desc := "(I)Ljava/util/ArrayList;" } : Jvm.MethodName)) ∈ lw_all := lw_g (lw_at lw_m8 69 rfl) rfl
theorem q1872 : (Jvm.Cond.code ({ cls := "Lastbus", name := "runsAbout", desc := "(I)Ljava/util/ArrayList;" } : Jvm.MethodName) prog_1_method_44_code (2 : Nat) (Option.some (Jvm.ClassFile.FieldType.object "java/util/ArrayList"))) ∈ lw_all := lw_g (lw_at lw_m8 70 rfl) rfl
theorem q1873 : (Jvm.Cond.methodLink "Lastbus" (285 : Nat) ({ cls := "Lastbus", name := "runsAbout", desc := "(IILLastbus$Trip;)Ljava/util/ArrayList;" } : Jvm.MethodName)) ∈ lw_all := lw_g (lw_at lw_m8 71 rfl) rfl
theorem q1874 : (Jvm.Cond.privateMethod ({ cls := "Lastbus", name := "runsAbout", desc := "(IILLastbus$Trip;)Ljava/util/ArrayList;" } : Jvm.MethodName)) ∈ lw_tbl := lw_at lw_m8 72 rfl
theorem q1875 : (Jvm.Cond.instanceMethod ({ cls := "Lastbus", name := "runsAbout", desc := "(IILLastbus$Trip;)Ljava/util/ArrayList;" } : Jvm.MethodName)) ∈ lw_all := lw_g (lw_at lw_m8 73 rfl) rfl
theorem q1876 : (Jvm.Cond.code ({ cls := "Lastbus", name := "runsAbout", desc := "(IILLastbus$Trip;)Ljava/util/ArrayList;" } : Jvm.MethodName) prog_1_method_43_code (7 : Nat) (Option.some (Jvm.ClassFile.FieldType.object "java/util/ArrayList"))) ∈ lw_all := lw_g (lw_at lw_m8 74 rfl) rfl
theorem q1877 : (Jvm.Cond.methodLink "Lastbus" (276 : Nat) ({ cls := "Lastbus", name := "runs", desc := "(II)Z" } : Jvm.MethodName)) ∈ lw_all := lw_g (lw_at lw_m8 75 rfl) rfl
theorem q1878 : (Jvm.Cond.privateMethod ({ cls := "Lastbus", name := "runs", desc := "(II)Z" } : Jvm.MethodName)) ∈ lw_tbl := lw_at lw_m8 76 rfl
theorem q1879 : (Jvm.Cond.instanceMethod ({ cls := "Lastbus", name := "runs", desc := "(II)Z" } : Jvm.MethodName)) ∈ lw_all := lw_g (lw_at lw_m8 77 rfl) rfl
theorem q1880 : (Jvm.Cond.code ({ cls := "Lastbus", name := "runs", desc := "(II)Z" } : Jvm.MethodName) prog_1_method_42_code (3 : Nat) (Option.some Jvm.ClassFile.FieldType.boolean)) ∈ lw_all := lw_g (lw_at lw_m8 78 rfl) rfl
theorem q1881 : (Jvm.Cond.classLink "Lastbus" (280 : Nat) "Lastbus$Run") ∈ lw_all := lw_g (lw_at lw_m8 79 rfl) rfl
theorem q1883 : (Jvm.Cond.methodLink "Lastbus" (282 : Nat) ({ cls := "Lastbus$Run", name := "<init>", desc := "(IIILLastbus$Trip;LLastbus$Late;)V" } : Jvm.MethodName)) ∈ lw_all := lw_g (lw_at lw_m8 81 rfl) rfl
theorem q1898 : (Jvm.Cond.fieldLinkNest "Lastbus" (330 : Nat) "Lastbus$Run" "number" "I" "Lastbus") ∈ lw_tbl := lw_at lw_m8 96 rfl
theorem q1900 : (Jvm.Cond.fieldLinkNest "Lastbus" (456 : Nat) "Lastbus$Run" "trip" "I" "Lastbus") ∈ lw_tbl := lw_at lw_m8 98 rfl
theorem q1902 : (Jvm.Cond.fieldLinkNest "Lastbus" (459 : Nat) "Lastbus$Run" "shift" "I" "Lastbus") ∈ lw_tbl := lw_at lw_m8 100 rfl
theorem q1906 : (Jvm.Cond.fieldLinkNest "Lastbus" (399 : Nat) "Lastbus$Run" "stops" "[I" "Lastbus") ∈ lw_tbl := lw_at lw_m8 104 rfl
theorem q1910 : (Jvm.Cond.fieldLinkNest "Lastbus" (323 : Nat) "Lastbus$Run" "arrivals" "[I" "Lastbus") ∈ lw_tbl := lw_at lw_m8 108 rfl
theorem q1914 : (Jvm.Cond.fieldLinkNest "Lastbus" (311 : Nat) "Lastbus$Run" "departures" "[I" "Lastbus") ∈ lw_tbl := lw_at lw_m8 112 rfl
theorem q1928 : (Jvm.Cond.methodLink "Lastbus" (357 : Nat) ({ cls := "Lastbus", name := "byDepartures", desc := "(Ljava/util/List;)Ljava/util/ArrayList;" } : Jvm.MethodName)) ∈ lw_all := lw_g (lw_at lw_m8 126 rfl) rfl
theorem q1929 : (Jvm.Cond.static ({ cls := "Lastbus", name := "byDepartures", desc := "(Ljava/util/List;)Ljava/util/ArrayList;" } : Jvm.MethodName)) ∈ lw_all := lw_g (lw_at lw_m8 127 rfl) rfl
theorem q1930 : (Jvm.Cond.code ({ cls := "Lastbus", name := "byDepartures", desc := "(Ljava/util/List;)Ljava/util/ArrayList;" } : Jvm.MethodName) prog_1_method_45_code (5 : Nat) (Option.some (Jvm.ClassFile.FieldType.object "java/util/ArrayList"))) ∈ lw_all := lw_g (lw_at lw_m8 128 rfl) rfl
theorem q1931 : (Jvm.Cond.interfaceEntry "Lastbus" (289 : Nat)) ∈ lw_tbl := lw_at lw_m8 129 rfl
theorem q1932 : (Jvm.Cond.methodLink "Lastbus" (289 : Nat) ({ cls := "java/util/List", name := "iterator", desc := "()Ljava/util/Iterator;" } : Jvm.MethodName)) ∈ lw_all := lw_g (lw_at lw_m8 130 rfl) rfl
theorem q1939 : (Jvm.Cond.methodLink "Lastbus" (303 : Nat) ({ cls := "Lastbus$Run", name := "many", desc := "()I" } : Jvm.MethodName)) ∈ lw_all := lw_g (lw_at lw_m8 137 rfl) rfl
theorem q1943 : (Jvm.Cond.methodLink "Lastbus" (306 : Nat) ({ cls := "Lastbus$Run", name := "canGetOn", desc := "(I)Z" } : Jvm.MethodName)) ∈ lw_all := lw_g (lw_at lw_m8 141 rfl) rfl
theorem q1948 : (Jvm.Cond.classLink "Lastbus" (309 : Nat) "Lastbus$Ride") ∈ lw_all := lw_g (lw_at lw_m8 146 rfl) rfl
theorem q1950 : (Jvm.Cond.methodLink "Lastbus" (314 : Nat) ({ cls := "Lastbus$Ride", name := "<init>", desc := "(LLastbus$Run;II)V" } : Jvm.MethodName)) ∈ lw_all := lw_g (lw_at lw_m8 148 rfl) rfl
theorem q1955 : (Jvm.Cond.fieldLinkNest "Lastbus" (326 : Nat) "Lastbus$Ride" "run" "LLastbus$Run;" "Lastbus") ∈ lw_tbl := lw_at lw_m8 153 rfl
theorem q1957 : (Jvm.Cond.fieldLinkNest "Lastbus" (333 : Nat) "Lastbus$Ride" "call" "I" "Lastbus") ∈ lw_tbl := lw_at lw_m8 155 rfl
theorem q1966 : (Jvm.Cond.methodLink "Lastbus" (317 : Nat) ({ cls := "java/util/Collections", name := "sort", desc := "(Ljava/util/List;)V" } : Jvm.MethodName)) ∈ lw_all := lw_g (lw_at lw_m8 164 rfl) rfl
theorem q2096 : (Jvm.Cond.methodLink "Lastbus" (361 : Nat) ({ cls := "Lastbus", name := "scanned", desc := "(Ljava/util/List;III[[I)LLastbus$Labels;" } : Jvm.MethodName)) ∈ lw_all := lw_g (lw_at lw_m9 54 rfl) rfl
theorem q2097 : (Jvm.Cond.privateMethod ({ cls := "Lastbus", name := "scanned", desc := "(Ljava/util/List;III[[I)LLastbus$Labels;" } : Jvm.MethodName)) ∈ lw_tbl := lw_at lw_m9 55 rfl
theorem q2098 : (Jvm.Cond.instanceMethod ({ cls := "Lastbus", name := "scanned", desc := "(Ljava/util/List;III[[I)LLastbus$Labels;" } : Jvm.MethodName)) ∈ lw_all := lw_g (lw_at lw_m9 56 rfl) rfl
theorem q2099 : (Jvm.Cond.code ({ cls := "Lastbus", name := "scanned", desc := "(Ljava/util/List;III[[I)LLastbus$Labels;" } : Jvm.MethodName) prog_1_method_48_code (7 : Nat) (Option.some (Jvm.ClassFile.FieldType.object "Lastbus$Labels"))) ∈ lw_all := lw_g (lw_at lw_m9 57 rfl) rfl
theorem q2100 : (Jvm.Cond.classLink "Lastbus" (336 : Nat) "Lastbus$Labels") ∈ lw_all := lw_g (lw_at lw_m9 58 rfl) rfl
theorem q2102 : (Jvm.Cond.methodLink "Lastbus" (344 : Nat) ({ cls := "Lastbus$Labels", name := "<init>", desc := "(LLastbus;I[[I)V" } : Jvm.MethodName)) ∈ lw_all := lw_g (lw_at lw_m9 60 rfl) rfl
theorem q2113 : (Jvm.Cond.fieldLinkNest "Lastbus" (372 : Nat) "Lastbus$Labels" "arrivals" "[I" "Lastbus") ∈ lw_tbl := lw_at lw_m9 71 rfl
theorem q2115 : (Jvm.Cond.fieldLinkNest "Lastbus" (503 : Nat) "Lastbus$Labels" "byRide" "[I" "Lastbus") ∈ lw_tbl := lw_at lw_m9 73 rfl
theorem q2118 : (Jvm.Cond.fieldLinkNest "Lastbus" (415 : Nat) "Lastbus$Labels" "isChanged" "Z" "Lastbus") ∈ lw_tbl := lw_at lw_m9 76 rfl
theorem q2135 : (Jvm.Cond.methodLink "Lastbus" (347 : Nat) ({ cls := "Lastbus$Labels", name := "begins", desc := "(II)V" } : Jvm.MethodName)) ∈ lw_all := lw_g (lw_at lw_m9 93 rfl) rfl
theorem q2148 : (Jvm.Cond.methodLink "Lastbus" (350 : Nat) ({ cls := "Lastbus", name := "scan", desc := "(LLastbus$Labels;Ljava/util/List;LLastbus$Run;I)V" } : Jvm.MethodName)) ∈ lw_all := lw_g (lw_at lw_m9 106 rfl) rfl
theorem q2149 : (Jvm.Cond.privateMethod ({ cls := "Lastbus", name := "scan", desc := "(LLastbus$Labels;Ljava/util/List;LLastbus$Run;I)V" } : Jvm.MethodName)) ∈ lw_tbl := lw_at lw_m9 107 rfl
theorem q2150 : (Jvm.Cond.instanceMethod ({ cls := "Lastbus", name := "scan", desc := "(LLastbus$Labels;Ljava/util/List;LLastbus$Run;I)V" } : Jvm.MethodName)) ∈ lw_all := lw_g (lw_at lw_m9 108 rfl) rfl
theorem q2151 : (Jvm.Cond.code ({ cls := "Lastbus", name := "scan", desc := "(LLastbus$Labels;Ljava/util/List;LLastbus$Run;I)V" } : Jvm.MethodName) prog_1_method_47_code (9 : Nat) (Option.none : Option Jvm.ClassFile.FieldType)) ∈ lw_all := lw_g (lw_at lw_m9 109 rfl) rfl
theorem q2152 : (Jvm.Cond.methodLink "Lastbus" (335 : Nat) ({ cls := "Lastbus$Labels", name := "canGetOn", desc := "(LLastbus$Run;I)Z" } : Jvm.MethodName)) ∈ lw_all := lw_g (lw_at lw_m9 110 rfl) rfl
theorem q2157 : (Jvm.Cond.methodLink "Lastbus" (340 : Nat) ({ cls := "Lastbus$Labels", name := "comes", desc := "(LLastbus$Run;I)V" } : Jvm.MethodName)) ∈ lw_all := lw_g (lw_at lw_m9 115 rfl) rfl
theorem q2161 : (Jvm.Cond.methodLink "Lastbus" (373 : Nat) ({ cls := "Lastbus", name := "told", desc := "(I)I" } : Jvm.MethodName)) ∈ lw_all := lw_g (lw_at lw_m9 119 rfl) rfl
theorem q2162 : (Jvm.Cond.static ({ cls := "Lastbus", name := "told", desc := "(I)I" } : Jvm.MethodName)) ∈ lw_all := lw_g (lw_at lw_m9 120 rfl) rfl
theorem q2163 : (Jvm.Cond.code ({ cls := "Lastbus", name := "told", desc := "(I)I" } : Jvm.MethodName) prog_1_method_51_code (1 : Nat) (Option.some Jvm.ClassFile.FieldType.int)) ∈ lw_all := lw_g (lw_at lw_m9 121 rfl) rfl
theorem q2168 : (Jvm.Cond.instanceMethod ({ cls := "Lastbus", name := "earliestByQueue", desc := "(IIII)I" } : Jvm.MethodName)) ∈ lw_all := lw_g (lw_at lw_m9 126 rfl) rfl
theorem q2169 : (Jvm.Cond.selects "Lastbus" ({ cls := "Lastbus", name := "earliestByQueue", desc := "(IIII)I" } : Jvm.MethodName) ({ cls := "Lastbus", name := "earliestByQueue", desc := "(IIII)I" } : Jvm.MethodName)) ∈ lw_all := lw_g (lw_at lw_m9 127 rfl) rfl
theorem q2170 : (Jvm.Cond.code ({ cls := "Lastbus", name := "earliestByQueue", desc := "(IIII)I" } : Jvm.MethodName) prog_1_method_54_code (5 : Nat) (Option.some Jvm.ClassFile.FieldType.int)) ∈ lw_all := lw_g (lw_at lw_m9 128 rfl) rfl
theorem q2171 : (Jvm.Cond.methodLink "Lastbus" (407 : Nat) ({ cls := "Lastbus", name := "byQueue", desc := "(III)[I" } : Jvm.MethodName)) ∈ lw_all := lw_g (lw_at lw_m9 129 rfl) rfl
theorem q2172 : (Jvm.Cond.privateMethod ({ cls := "Lastbus", name := "byQueue", desc := "(III)[I" } : Jvm.MethodName)) ∈ lw_tbl := lw_at lw_m9 130 rfl
theorem q2173 : (Jvm.Cond.instanceMethod ({ cls := "Lastbus", name := "byQueue", desc := "(III)[I" } : Jvm.MethodName)) ∈ lw_all := lw_g (lw_at lw_m9 131 rfl) rfl
theorem q2174 : (Jvm.Cond.code ({ cls := "Lastbus", name := "byQueue", desc := "(III)[I" } : Jvm.MethodName) prog_1_method_53_code (13 : Nat) (Option.some (Jvm.ClassFile.FieldType.array Jvm.ClassFile.FieldType.int))) ∈ lw_all := lw_g (lw_at lw_m9 132 rfl) rfl
theorem q2175 : (Jvm.Cond.methodLink "Lastbus" (376 : Nat) ({ cls := "java/util/Arrays", name := "fill", desc := "([II)V" } : Jvm.MethodName)) ∈ lw_all := lw_g (lw_at lw_m9 133 rfl) rfl
theorem q2176 : (Jvm.Cond.classLink "Lastbus" (382 : Nat) "java/util/PriorityQueue") ∈ lw_all := lw_g (lw_at lw_m9 134 rfl) rfl
theorem q2178 : (Jvm.Cond.methodLink "Lastbus" (384 : Nat) ({ cls := "java/util/PriorityQueue", name := "<init>", desc := "()V" } : Jvm.MethodName)) ∈ lw_all := lw_g (lw_at lw_m9 136 rfl) rfl
theorem q2204 : (Jvm.Cond.classLink "Lastbus" (385 : Nat) "Lastbus$Place") ∈ lw_all := lw_g (lw_at lw_m9 162 rfl) rfl
theorem q2205 : (Jvm.Cond.methodLink "Lastbus" (387 : Nat) ({ cls := "Lastbus$Place", name := "<init>", desc := "(IILLastbus$Run;I)V" } : Jvm.MethodName)) ∈ lw_all := lw_g (lw_at lw_m9 163 rfl) rfl
theorem q2210 : (Jvm.Cond.fieldLinkNest "Lastbus" (403 : Nat) "Lastbus$Place" "minute" "I" "Lastbus") ∈ lw_tbl := lw_at lw_m9 168 rfl
theorem q2212 : (Jvm.Cond.fieldLinkNest "Lastbus" (401 : Nat) "Lastbus$Place" "stop" "I" "Lastbus") ∈ lw_tbl := lw_at lw_m9 170 rfl
theorem q2214 : (Jvm.Cond.fieldLinkNest "Lastbus" (397 : Nat) "Lastbus$Place" "run" "LLastbus$Run;" "Lastbus") ∈ lw_tbl := lw_at lw_m9 172 rfl
theorem q2216 : (Jvm.Cond.fieldLinkNest "Lastbus" (406 : Nat) "Lastbus$Place" "call" "I" "Lastbus") ∈ lw_tbl := lw_at lw_m9 174 rfl
theorem q2226 : (Jvm.Cond.methodLink "Lastbus" (390 : Nat) ({ cls := "java/util/PriorityQueue", name := "add", desc := "(Ljava/lang/Object;)Z" } : Jvm.MethodName)) ∈ lw_all := lw_g (lw_at lw_m9 184 rfl) rfl
theorem q2255 : (Jvm.Cond.methodLink "Lastbus" (391 : Nat) ({ cls := "java/util/PriorityQueue", name := "isEmpty", desc := "()Z" } : Jvm.MethodName)) ∈ lw_all := lw_g (lw_at lw_m9 213 rfl) rfl
theorem q2288 : (Jvm.Cond.methodLink "Lastbus" (392 : Nat) ({ cls := "java/util/PriorityQueue", name := "remove", desc := "()Ljava/lang/Object;" } : Jvm.MethodName)) ∈ lw_all := lw_g (lw_at lw_m10 6 rfl) rfl
theorem q2307 : (Jvm.Cond.methodLinkNest "Lastbus" (394 : Nat) ({ cls := "Lastbus$Place", name := "rank", desc := "()I" } : Jvm.MethodName) "Lastbus") ∈ lw_tbl := lw_at lw_m10 25 rfl
theorem q2312 : (Jvm.Cond.instanceMethod ({ cls := "Lastbus", name := "earliestByRounds", desc := "(IIII)I" } : Jvm.MethodName)) ∈ lw_all := lw_g (lw_at lw_m10 30 rfl) rfl
theorem q2313 : (Jvm.Cond.selects "Lastbus" ({ cls := "Lastbus", name := "earliestByRounds", desc := "(IIII)I" } : Jvm.MethodName) ({ cls := "Lastbus", name := "earliestByRounds", desc := "(IIII)I" } : Jvm.MethodName)) ∈ lw_all := lw_g (lw_at lw_m10 31 rfl) rfl
theorem q2314 : (Jvm.Cond.code ({ cls := "Lastbus", name := "earliestByRounds", desc := "(IIII)I" } : Jvm.MethodName) prog_1_method_56_code (6 : Nat) (Option.some Jvm.ClassFile.FieldType.int)) ∈ lw_all := lw_g (lw_at lw_m10 32 rfl) rfl
theorem q2315 : (Jvm.Cond.methodLink "Lastbus" (419 : Nat) ({ cls := "Lastbus", name := "rounds", desc := "(Ljava/util/List;II)Ljava/util/ArrayList;" } : Jvm.MethodName)) ∈ lw_all := lw_g (lw_at lw_m10 33 rfl) rfl
theorem q2316 : (Jvm.Cond.privateMethod ({ cls := "Lastbus", name := "rounds", desc := "(Ljava/util/List;II)Ljava/util/ArrayList;" } : Jvm.MethodName)) ∈ lw_tbl := lw_at lw_m10 34 rfl
theorem q2317 : (Jvm.Cond.instanceMethod ({ cls := "Lastbus", name := "rounds", desc := "(Ljava/util/List;II)Ljava/util/ArrayList;" } : Jvm.MethodName)) ∈ lw_all := lw_g (lw_at lw_m10 35 rfl) rfl
theorem q2318 : (Jvm.Cond.code ({ cls := "Lastbus", name := "rounds", desc := "(Ljava/util/List;II)Ljava/util/ArrayList;" } : Jvm.MethodName) prog_1_method_55_code (13 : Nat) (Option.some (Jvm.ClassFile.FieldType.object "java/util/ArrayList"))) ∈ lw_all := lw_g (lw_at lw_m10 36 rfl) rfl
theorem q2319 : (Jvm.Cond.methodLink "Lastbus" (411 : Nat) ({ cls := "Lastbus$Labels", name := "copy", desc := "()LLastbus$Labels;" } : Jvm.MethodName)) ∈ lw_all := lw_g (lw_at lw_m10 37 rfl) rfl
theorem q2330 : (Jvm.Cond.instanceMethod ({ cls := "Lastbus", name := "wall", desc := "(IIII)I" } : Jvm.MethodName)) ∈ lw_all := lw_g (lw_at lw_m10 48 rfl) rfl
theorem q2331 : (Jvm.Cond.selects "Lastbus" ({ cls := "Lastbus", name := "wall", desc := "(IIII)I" } : Jvm.MethodName) ({ cls := "Lastbus", name := "wall", desc := "(IIII)I" } : Jvm.MethodName)) ∈ lw_all := lw_g (lw_at lw_m10 49 rfl) rfl
theorem q2332 : (Jvm.Cond.code ({ cls := "Lastbus", name := "wall", desc := "(IIII)I" } : Jvm.MethodName) prog_1_method_57_code (8 : Nat) (Option.some Jvm.ClassFile.FieldType.int)) ∈ lw_all := lw_g (lw_at lw_m10 50 rfl) rfl
theorem q2337 : (Jvm.Cond.instanceMethod ({ cls := "Lastbus", name := "last", desc := "(IIII)I" } : Jvm.MethodName)) ∈ lw_all := lw_g (lw_at lw_m10 55 rfl) rfl
theorem q2338 : (Jvm.Cond.selects "Lastbus" ({ cls := "Lastbus", name := "last", desc := "(IIII)I" } : Jvm.MethodName) ({ cls := "Lastbus", name := "last", desc := "(IIII)I" } : Jvm.MethodName)) ∈ lw_all := lw_g (lw_at lw_m10 56 rfl) rfl
theorem q2339 : (Jvm.Cond.code ({ cls := "Lastbus", name := "last", desc := "(IIII)I" } : Jvm.MethodName) prog_1_method_60_code (6 : Nat) (Option.some Jvm.ClassFile.FieldType.int)) ∈ lw_all := lw_g (lw_at lw_m10 57 rfl) rfl
theorem q2340 : (Jvm.Cond.methodLink "Lastbus" (439 : Nat) ({ cls := "Lastbus", name := "byArrivalsBackward", desc := "(Ljava/util/List;)Ljava/util/ArrayList;" } : Jvm.MethodName)) ∈ lw_all := lw_g (lw_at lw_m10 58 rfl) rfl
theorem q2341 : (Jvm.Cond.static ({ cls := "Lastbus", name := "byArrivalsBackward", desc := "(Ljava/util/List;)Ljava/util/ArrayList;" } : Jvm.MethodName)) ∈ lw_all := lw_g (lw_at lw_m10 59 rfl) rfl
theorem q2342 : (Jvm.Cond.code ({ cls := "Lastbus", name := "byArrivalsBackward", desc := "(Ljava/util/List;)Ljava/util/ArrayList;" } : Jvm.MethodName) prog_1_method_46_code (5 : Nat) (Option.some (Jvm.ClassFile.FieldType.object "java/util/ArrayList"))) ∈ lw_all := lw_g (lw_at lw_m10 60 rfl) rfl
theorem q2343 : (Jvm.Cond.methodLink "Lastbus" (442 : Nat) ({ cls := "Lastbus", name := "lastBy", desc := "(Ljava/util/List;[[IIII)I" } : Jvm.MethodName)) ∈ lw_all := lw_g (lw_at lw_m10 61 rfl) rfl
theorem q2344 : (Jvm.Cond.privateMethod ({ cls := "Lastbus", name := "lastBy", desc := "(Ljava/util/List;[[IIII)I" } : Jvm.MethodName)) ∈ lw_tbl := lw_at lw_m10 62 rfl
theorem q2345 : (Jvm.Cond.instanceMethod ({ cls := "Lastbus", name := "lastBy", desc := "(Ljava/util/List;[[IIII)I" } : Jvm.MethodName)) ∈ lw_all := lw_g (lw_at lw_m10 63 rfl) rfl
theorem q2346 : (Jvm.Cond.code ({ cls := "Lastbus", name := "lastBy", desc := "(Ljava/util/List;[[IIII)I" } : Jvm.MethodName) prog_1_method_59_code (9 : Nat) (Option.some Jvm.ClassFile.FieldType.int)) ∈ lw_all := lw_g (lw_at lw_m10 64 rfl) rfl
theorem q2347 : (Jvm.Cond.methodLink "Lastbus" (435 : Nat) ({ cls := "Lastbus", name := "lastReady", desc := "(Ljava/util/List;[[III)[I" } : Jvm.MethodName)) ∈ lw_all := lw_g (lw_at lw_m10 65 rfl) rfl
theorem q2348 : (Jvm.Cond.privateMethod ({ cls := "Lastbus", name := "lastReady", desc := "(Ljava/util/List;[[III)[I" } : Jvm.MethodName)) ∈ lw_tbl := lw_at lw_m10 66 rfl
theorem q2349 : (Jvm.Cond.instanceMethod ({ cls := "Lastbus", name := "lastReady", desc := "(Ljava/util/List;[[III)[I" } : Jvm.MethodName)) ∈ lw_all := lw_g (lw_at lw_m10 67 rfl) rfl
theorem q2350 : (Jvm.Cond.code ({ cls := "Lastbus", name := "lastReady", desc := "(Ljava/util/List;[[III)[I" } : Jvm.MethodName) prog_1_method_58_code (14 : Nat) (Option.some (Jvm.ClassFile.FieldType.array Jvm.ClassFile.FieldType.int))) ∈ lw_all := lw_g (lw_at lw_m10 68 rfl) rfl
theorem q2351 : (Jvm.Cond.constant "Lastbus" (423 : Nat) (-1000000 : Int32)) ∈ lw_all := lw_g (lw_at lw_m10 69 rfl) rfl
theorem q2352 : (Jvm.Cond.methodLink "Lastbus" (424 : Nat) ({ cls := "Lastbus$Ride", name := "to", desc := "()I" } : Jvm.MethodName)) ∈ lw_all := lw_g (lw_at lw_m10 70 rfl) rfl
theorem q2356 : (Jvm.Cond.methodLink "Lastbus" (427 : Nat) ({ cls := "Lastbus$Ride", name := "arrival", desc := "()I" } : Jvm.MethodName)) ∈ lw_all := lw_g (lw_at lw_m10 74 rfl) rfl
theorem q2360 : (Jvm.Cond.methodLink "Lastbus" (428 : Nat) ({ cls := "Lastbus$Ride", name := "from", desc := "()I" } : Jvm.MethodName)) ∈ lw_all := lw_g (lw_at lw_m10 78 rfl) rfl
theorem q2364 : (Jvm.Cond.methodLink "Lastbus" (431 : Nat) ({ cls := "Lastbus$Ride", name := "departure", desc := "()I" } : Jvm.MethodName)) ∈ lw_all := lw_g (lw_at lw_m10 82 rfl) rfl
theorem q2368 : (Jvm.Cond.methodLink "Lastbus" (432 : Nat) ({ cls := "java/lang/Math", name := "max", desc := "(II)I" } : Jvm.MethodName)) ∈ lw_all := lw_g (lw_at lw_m10 86 rfl) rfl
theorem q2373 : (Jvm.Cond.instanceMethod ({ cls := "Lastbus", name := "chain", desc := "(IIII)I" } : Jvm.MethodName)) ∈ lw_all := lw_g (lw_at lw_m10 91 rfl) rfl
theorem q2374 : (Jvm.Cond.selects "Lastbus" ({ cls := "Lastbus", name := "chain", desc := "(IIII)I" } : Jvm.MethodName) ({ cls := "Lastbus", name := "chain", desc := "(IIII)I" } : Jvm.MethodName)) ∈ lw_all := lw_g (lw_at lw_m10 92 rfl) rfl
theorem q2375 : (Jvm.Cond.code ({ cls := "Lastbus", name := "chain", desc := "(IIII)I" } : Jvm.MethodName) prog_1_method_64_code (5 : Nat) (Option.some Jvm.ClassFile.FieldType.int)) ∈ lw_all := lw_g (lw_at lw_m10 93 rfl) rfl
theorem q2376 : (Jvm.Cond.methodLink "Lastbus" (467 : Nat) ({ cls := "Lastbus", name := "chained", desc := "(Ljava/util/List;III)Ljava/util/ArrayList;" } : Jvm.MethodName)) ∈ lw_all := lw_g (lw_at lw_m10 94 rfl) rfl
theorem q2377 : (Jvm.Cond.privateMethod ({ cls := "Lastbus", name := "chained", desc := "(Ljava/util/List;III)Ljava/util/ArrayList;" } : Jvm.MethodName)) ∈ lw_tbl := lw_at lw_m10 95 rfl
theorem q2378 : (Jvm.Cond.instanceMethod ({ cls := "Lastbus", name := "chained", desc := "(Ljava/util/List;III)Ljava/util/ArrayList;" } : Jvm.MethodName)) ∈ lw_all := lw_g (lw_at lw_m10 96 rfl) rfl
theorem q2379 : (Jvm.Cond.code ({ cls := "Lastbus", name := "chained", desc := "(Ljava/util/List;III)Ljava/util/ArrayList;" } : Jvm.MethodName) prog_1_method_63_code (21 : Nat) (Option.some (Jvm.ClassFile.FieldType.object "java/util/ArrayList"))) ∈ lw_all := lw_g (lw_at lw_m10 97 rfl) rfl
theorem q2380 : (Jvm.Cond.methodLink "Lastbus" (446 : Nat) ({ cls := "Lastbus", name := "isInTime", desc := "(LLastbus$Run;IIIZ[[I)Z" } : Jvm.MethodName)) ∈ lw_all := lw_g (lw_at lw_m10 98 rfl) rfl
theorem q2381 : (Jvm.Cond.privateMethod ({ cls := "Lastbus", name := "isInTime", desc := "(LLastbus$Run;IIIZ[[I)Z" } : Jvm.MethodName)) ∈ lw_tbl := lw_at lw_m10 99 rfl
theorem q2382 : (Jvm.Cond.instanceMethod ({ cls := "Lastbus", name := "isInTime", desc := "(LLastbus$Run;IIIZ[[I)Z" } : Jvm.MethodName)) ∈ lw_all := lw_g (lw_at lw_m10 100 rfl) rfl
theorem q2383 : (Jvm.Cond.code ({ cls := "Lastbus", name := "isInTime", desc := "(LLastbus$Run;IIIZ[[I)Z" } : Jvm.MethodName) prog_1_method_61_code (8 : Nat) (Option.some Jvm.ClassFile.FieldType.boolean)) ∈ lw_all := lw_g (lw_at lw_m10 101 rfl) rfl
theorem q2384 : (Jvm.Cond.methodLink "Lastbus" (450 : Nat) ({ cls := "Lastbus", name := "lastOn", desc := "(LLastbus$Run;ILLastbus$Labels;)I" } : Jvm.MethodName)) ∈ lw_all := lw_g (lw_at lw_m10 102 rfl) rfl
theorem q2385 : (Jvm.Cond.static ({ cls := "Lastbus", name := "lastOn", desc := "(LLastbus$Run;ILLastbus$Labels;)I" } : Jvm.MethodName)) ∈ lw_all := lw_g (lw_at lw_m10 103 rfl) rfl
theorem q2386 : (Jvm.Cond.code ({ cls := "Lastbus", name := "lastOn", desc := "(LLastbus$Run;ILLastbus$Labels;)I" } : Jvm.MethodName) prog_1_method_62_code (4 : Nat) (Option.some Jvm.ClassFile.FieldType.int)) ∈ lw_all := lw_g (lw_at lw_m10 104 rfl) rfl
theorem q2387 : (Jvm.Cond.classLink "Lastbus" (454 : Nat) "Lastbus$Leg") ∈ lw_all := lw_g (lw_at lw_m10 105 rfl) rfl
theorem q2389 : (Jvm.Cond.methodLinkNest "Lastbus" (462 : Nat) ({ cls := "Lastbus$Leg", name := "<init>", desc := "(IIII)V" } : Jvm.MethodName) "Lastbus") ∈ lw_tbl := lw_at lw_m10 107 rfl
theorem q2406 : (Jvm.Cond.methodLink "Lastbus" (464 : Nat) ({ cls := "java/util/ArrayList", name := "add", desc := "(ILjava/lang/Object;)V" } : Jvm.MethodName)) ∈ lw_all := lw_g (lw_at lw_m10 124 rfl) rfl
theorem q2432 : (Jvm.Cond.instanceMethod ({ cls := "Lastbus", name := "ride", desc := "(IC)I" } : Jvm.MethodName)) ∈ lw_all := lw_g (lw_at lw_m10 150 rfl) rfl
theorem q2433 : (Jvm.Cond.selects "Lastbus" ({ cls := "Lastbus", name := "ride", desc := "(IC)I" } : Jvm.MethodName) ({ cls := "Lastbus", name := "ride", desc := "(IC)I" } : Jvm.MethodName)) ∈ lw_all := lw_g (lw_at lw_m10 151 rfl) rfl
theorem q2434 : (Jvm.Cond.code ({ cls := "Lastbus", name := "ride", desc := "(IC)I" } : Jvm.MethodName) prog_1_method_65_code (4 : Nat) (Option.some Jvm.ClassFile.FieldType.int)) ∈ lw_all := lw_g (lw_at lw_m10 152 rfl) rfl
theorem q2435 : (Jvm.Cond.stringRef "Lastbus" (474 : Nat) "tdof") ∈ lw_tbl := lw_at lw_m10 153 rfl
theorem q2436 : (Jvm.Cond.methodLink "Lastbus" (476 : Nat) ({ cls := "java/lang/String", name := "indexOf", desc := "(I)I" } : Jvm.MethodName)) ∈ lw_all := lw_g (lw_at lw_m10 154 rfl) rfl
theorem q2480 : (Jvm.Cond.methodLink "Lastbus" (481 : Nat) ({ cls := "Lastbus$Leg", name := "trip", desc := "()I" } : Jvm.MethodName)) ∈ lw_all := lw_g (lw_at lw_m10 198 rfl) rfl
theorem q2484 : (Jvm.Cond.methodLink "Lastbus" (483 : Nat) ({ cls := "Lastbus$Leg", name := "shift", desc := "()I" } : Jvm.MethodName)) ∈ lw_all := lw_g (lw_at lw_m10 202 rfl) rfl
theorem q2488 : (Jvm.Cond.methodLink "Lastbus" (485 : Nat) ({ cls := "Lastbus$Leg", name := "on", desc := "()I" } : Jvm.MethodName)) ∈ lw_all := lw_g (lw_at lw_m10 206 rfl) rfl
theorem q2492 : (Jvm.Cond.methodLink "Lastbus" (488 : Nat) ({ cls := "Lastbus$Leg", name := "off", desc := "()I" } : Jvm.MethodName)) ∈ lw_all := lw_g (lw_at lw_m10 210 rfl) rfl
theorem q2500 : (Jvm.Cond.instanceMethod ({ cls := "Lastbus", name := "onBoard", desc := "(IIII)I" } : Jvm.MethodName)) ∈ lw_all := lw_g (lw_at lw_m10 218 rfl) rfl
theorem q2501 : (Jvm.Cond.selects "Lastbus" ({ cls := "Lastbus", name := "onBoard", desc := "(IIII)I" } : Jvm.MethodName) ({ cls := "Lastbus", name := "onBoard", desc := "(IIII)I" } : Jvm.MethodName)) ∈ lw_all := lw_g (lw_at lw_m10 219 rfl) rfl
theorem q2502 : (Jvm.Cond.code ({ cls := "Lastbus", name := "onBoard", desc := "(IIII)I" } : Jvm.MethodName) prog_1_method_67_code (8 : Nat) (Option.some Jvm.ClassFile.FieldType.int)) ∈ lw_all := lw_g (lw_at lw_m10 220 rfl) rfl
theorem q2503 : (Jvm.Cond.methodLink "Lastbus" (491 : Nat) ({ cls := "Lastbus", name := "runOf", desc := "(Ljava/util/List;I)LLastbus$Run;" } : Jvm.MethodName)) ∈ lw_all := lw_g (lw_at lw_m10 221 rfl) rfl
theorem q2504 : (Jvm.Cond.static ({ cls := "Lastbus", name := "runOf", desc := "(Ljava/util/List;I)LLastbus$Run;" } : Jvm.MethodName)) ∈ lw_all := lw_g (lw_at lw_m10 222 rfl) rfl
theorem q2505 : (Jvm.Cond.code ({ cls := "Lastbus", name := "runOf", desc := "(Ljava/util/List;I)LLastbus$Run;" } : Jvm.MethodName) prog_1_method_66_code (4 : Nat) (Option.some (Jvm.ClassFile.FieldType.object "Lastbus$Run"))) ∈ lw_all := lw_g (lw_at lw_m10 223 rfl) rfl
theorem q2510 : (Jvm.Cond.instanceMethod ({ cls := "Lastbus", name := "pairs", desc := "(III)I" } : Jvm.MethodName)) ∈ lw_all := lw_g (lw_at lw_m10 228 rfl) rfl
theorem q2511 : (Jvm.Cond.selects "Lastbus" ({ cls := "Lastbus", name := "pairs", desc := "(III)I" } : Jvm.MethodName) ({ cls := "Lastbus", name := "pairs", desc := "(III)I" } : Jvm.MethodName)) ∈ lw_all := lw_g (lw_at lw_m10 229 rfl) rfl
theorem q2512 : (Jvm.Cond.code ({ cls := "Lastbus", name := "pairs", desc := "(III)I" } : Jvm.MethodName) prog_1_method_70_code (4 : Nat) (Option.some Jvm.ClassFile.FieldType.int)) ∈ lw_all := lw_g (lw_at lw_m10 230 rfl) rfl
theorem q2513 : (Jvm.Cond.methodLink "Lastbus" (512 : Nat) ({ cls := "Lastbus", name := "requireTwo", desc := "(III)V" } : Jvm.MethodName)) ∈ lw_all := lw_g (lw_at lw_m10 231 rfl) rfl
theorem q2514 : (Jvm.Cond.privateMethod ({ cls := "Lastbus", name := "requireTwo", desc := "(III)V" } : Jvm.MethodName)) ∈ lw_tbl := lw_at lw_m10 232 rfl
theorem q2515 : (Jvm.Cond.instanceMethod ({ cls := "Lastbus", name := "requireTwo", desc := "(III)V" } : Jvm.MethodName)) ∈ lw_all := lw_g (lw_at lw_m10 233 rfl) rfl
theorem q2516 : (Jvm.Cond.code ({ cls := "Lastbus", name := "requireTwo", desc := "(III)V" } : Jvm.MethodName) prog_1_method_69_code (4 : Nat) (Option.none : Option Jvm.ClassFile.FieldType)) ∈ lw_all := lw_g (lw_at lw_m10 234 rfl) rfl
theorem q2517 : (Jvm.Cond.methodLink "Lastbus" (515 : Nat) ({ cls := "Lastbus", name := "pairsOf", desc := "(III)Ljava/util/ArrayList;" } : Jvm.MethodName)) ∈ lw_all := lw_g (lw_at lw_m10 235 rfl) rfl
theorem q2518 : (Jvm.Cond.privateMethod ({ cls := "Lastbus", name := "pairsOf", desc := "(III)Ljava/util/ArrayList;" } : Jvm.MethodName)) ∈ lw_tbl := lw_at lw_m10 236 rfl
theorem q2519 : (Jvm.Cond.instanceMethod ({ cls := "Lastbus", name := "pairsOf", desc := "(III)Ljava/util/ArrayList;" } : Jvm.MethodName)) ∈ lw_all := lw_g (lw_at lw_m10 237 rfl) rfl
theorem q2520 : (Jvm.Cond.code ({ cls := "Lastbus", name := "pairsOf", desc := "(III)Ljava/util/ArrayList;" } : Jvm.MethodName) prog_1_method_68_code (11 : Nat) (Option.some (Jvm.ClassFile.FieldType.object "java/util/ArrayList"))) ∈ lw_all := lw_g (lw_at lw_m10 238 rfl) rfl
theorem q2521 : (Jvm.Cond.classLink "Lastbus" (495 : Nat) "java/util/TreeSet") ∈ lw_all := lw_g (lw_at lw_m10 239 rfl) rfl
theorem q2523 : (Jvm.Cond.methodLink "Lastbus" (497 : Nat) ({ cls := "java/util/TreeSet", name := "<init>", desc := "()V" } : Jvm.MethodName)) ∈ lw_all := lw_g (lw_at lw_m11 1 rfl) rfl
theorem q2539 : (Jvm.Cond.methodLink "Lastbus" (498 : Nat) ({ cls := "java/util/TreeSet", name := "add", desc := "(Ljava/lang/Object;)Z" } : Jvm.MethodName)) ∈ lw_all := lw_g (lw_at lw_m11 17 rfl) rfl
theorem q2551 : (Jvm.Cond.methodLink "Lastbus" (499 : Nat) ({ cls := "java/util/TreeSet", name := "isEmpty", desc := "()Z" } : Jvm.MethodName)) ∈ lw_all := lw_g (lw_at lw_m11 29 rfl) rfl
theorem q2568 : (Jvm.Cond.methodLink "Lastbus" (500 : Nat) ({ cls := "java/util/TreeSet", name := "pollLast", desc := "()Ljava/lang/Object;" } : Jvm.MethodName)) ∈ lw_all := lw_g (lw_at lw_m11 46 rfl) rfl
theorem q2633 : (Jvm.Cond.classLink "Lastbus" (506 : Nat) "Lastbus$Pair") ∈ lw_all := lw_g (lw_at lw_m11 111 rfl) rfl
theorem q2635 : (Jvm.Cond.methodLinkNest "Lastbus" (508 : Nat) ({ cls := "Lastbus$Pair", name := "<init>", desc := "(II)V" } : Jvm.MethodName) "Lastbus") ∈ lw_tbl := lw_at lw_m11 113 rfl
theorem q2646 : (Jvm.Cond.methodLink "Lastbus" (509 : Nat) ({ cls := "java/util/Collections", name := "reverse", desc := "(Ljava/util/List;)V" } : Jvm.MethodName)) ∈ lw_all := lw_g (lw_at lw_m11 124 rfl) rfl
theorem q2758 : (Jvm.Cond.instanceMethod ({ cls := "Lastbus", name := "pair", desc := "(IIIIZ)I" } : Jvm.MethodName)) ∈ lw_all := lw_g (lw_at lw_m11 236 rfl) rfl
theorem q2759 : (Jvm.Cond.selects "Lastbus" ({ cls := "Lastbus", name := "pair", desc := "(IIIIZ)I" } : Jvm.MethodName) ({ cls := "Lastbus", name := "pair", desc := "(IIIIZ)I" } : Jvm.MethodName)) ∈ lw_all := lw_g (lw_at lw_m11 237 rfl) rfl
theorem q2760 : (Jvm.Cond.code ({ cls := "Lastbus", name := "pair", desc := "(IIIIZ)I" } : Jvm.MethodName) prog_1_method_71_code (7 : Nat) (Option.some Jvm.ClassFile.FieldType.int)) ∈ lw_all := lw_g (lw_at lw_m11 238 rfl) rfl
theorem q2761 : (Jvm.Cond.methodLink "Lastbus" (519 : Nat) ({ cls := "Lastbus$Pair", name := "comes", desc := "()I" } : Jvm.MethodName)) ∈ lw_all := lw_g (lw_at lw_m11 239 rfl) rfl
theorem q2765 : (Jvm.Cond.methodLink "Lastbus" (521 : Nat) ({ cls := "Lastbus$Pair", name := "leaves", desc := "()I" } : Jvm.MethodName)) ∈ lw_all := lw_g (lw_at lw_m12 3 rfl) rfl
theorem q2773 : (Jvm.Cond.instanceMethod ({ cls := "Lastbus", name := "byPairs", desc := "(IIII)I" } : Jvm.MethodName)) ∈ lw_all := lw_g (lw_at lw_m12 11 rfl) rfl
theorem q2774 : (Jvm.Cond.selects "Lastbus" ({ cls := "Lastbus", name := "byPairs", desc := "(IIII)I" } : Jvm.MethodName) ({ cls := "Lastbus", name := "byPairs", desc := "(IIII)I" } : Jvm.MethodName)) ∈ lw_all := lw_g (lw_at lw_m12 12 rfl) rfl
theorem q2775 : (Jvm.Cond.code ({ cls := "Lastbus", name := "byPairs", desc := "(IIII)I" } : Jvm.MethodName) prog_1_method_74_code (5 : Nat) (Option.some Jvm.ClassFile.FieldType.int)) ∈ lw_all := lw_g (lw_at lw_m12 13 rfl) rfl
theorem q2776 : (Jvm.Cond.methodLink "Lastbus" (530 : Nat) ({ cls := "Lastbus", name := "arrivalBy", desc := "(Ljava/util/List;III)I" } : Jvm.MethodName)) ∈ lw_all := lw_g (lw_at lw_m12 14 rfl) rfl
theorem q2777 : (Jvm.Cond.privateMethod ({ cls := "Lastbus", name := "arrivalBy", desc := "(Ljava/util/List;III)I" } : Jvm.MethodName)) ∈ lw_tbl := lw_at lw_m12 15 rfl
theorem q2778 : (Jvm.Cond.instanceMethod ({ cls := "Lastbus", name := "arrivalBy", desc := "(Ljava/util/List;III)I" } : Jvm.MethodName)) ∈ lw_all := lw_g (lw_at lw_m12 16 rfl) rfl
theorem q2779 : (Jvm.Cond.code ({ cls := "Lastbus", name := "arrivalBy", desc := "(Ljava/util/List;III)I" } : Jvm.MethodName) prog_1_method_73_code (8 : Nat) (Option.some Jvm.ClassFile.FieldType.int)) ∈ lw_all := lw_g (lw_at lw_m12 17 rfl) rfl
theorem q2780 : (Jvm.Cond.methodLink "Lastbus" (526 : Nat) ({ cls := "Lastbus", name := "firstFrom", desc := "(Ljava/util/List;I)I" } : Jvm.MethodName)) ∈ lw_all := lw_g (lw_at lw_m12 18 rfl) rfl
theorem q2781 : (Jvm.Cond.static ({ cls := "Lastbus", name := "firstFrom", desc := "(Ljava/util/List;I)I" } : Jvm.MethodName)) ∈ lw_all := lw_g (lw_at lw_m12 19 rfl) rfl
theorem q2782 : (Jvm.Cond.code ({ cls := "Lastbus", name := "firstFrom", desc := "(Ljava/util/List;I)I" } : Jvm.MethodName) prog_1_method_72_code (5 : Nat) (Option.some Jvm.ClassFile.FieldType.int)) ∈ lw_all := lw_g (lw_at lw_m12 20 rfl) rfl
theorem q2783 : (Jvm.Cond.interfaceEntry "Lastbus" (524 : Nat)) ∈ lw_tbl := lw_at lw_m12 21 rfl
theorem q2784 : (Jvm.Cond.methodLink "Lastbus" (524 : Nat) ({ cls := "java/util/List", name := "size", desc := "()I" } : Jvm.MethodName)) ∈ lw_all := lw_g (lw_at lw_m12 22 rfl) rfl
theorem q2785 : (Jvm.Cond.interfaceEntry "Lastbus" (525 : Nat)) ∈ lw_tbl := lw_at lw_m12 23 rfl
theorem q2786 : (Jvm.Cond.methodLink "Lastbus" (525 : Nat) ({ cls := "java/util/List", name := "get", desc := "(I)Ljava/lang/Object;" } : Jvm.MethodName)) ∈ lw_all := lw_g (lw_at lw_m12 24 rfl) rfl
theorem q2791 : (Jvm.Cond.instanceMethod ({ cls := "Lastbus", name := "choices", desc := "(IIII)I" } : Jvm.MethodName)) ∈ lw_all := lw_g (lw_at lw_m12 29 rfl) rfl
theorem q2792 : (Jvm.Cond.selects "Lastbus" ({ cls := "Lastbus", name := "choices", desc := "(IIII)I" } : Jvm.MethodName) ({ cls := "Lastbus", name := "choices", desc := "(IIII)I" } : Jvm.MethodName)) ∈ lw_all := lw_g (lw_at lw_m12 30 rfl) rfl
theorem q2793 : (Jvm.Cond.code ({ cls := "Lastbus", name := "choices", desc := "(IIII)I" } : Jvm.MethodName) prog_1_method_76_code (5 : Nat) (Option.some Jvm.ClassFile.FieldType.int)) ∈ lw_all := lw_g (lw_at lw_m12 31 rfl) rfl
theorem q2794 : (Jvm.Cond.methodLink "Lastbus" (534 : Nat) ({ cls := "Lastbus", name := "choicesOf", desc := "(IIII)Ljava/util/ArrayList;" } : Jvm.MethodName)) ∈ lw_all := lw_g (lw_at lw_m12 32 rfl) rfl
theorem q2795 : (Jvm.Cond.privateMethod ({ cls := "Lastbus", name := "choicesOf", desc := "(IIII)Ljava/util/ArrayList;" } : Jvm.MethodName)) ∈ lw_tbl := lw_at lw_m12 33 rfl
theorem q2796 : (Jvm.Cond.instanceMethod ({ cls := "Lastbus", name := "choicesOf", desc := "(IIII)Ljava/util/ArrayList;" } : Jvm.MethodName)) ∈ lw_all := lw_g (lw_at lw_m12 34 rfl) rfl
theorem q2797 : (Jvm.Cond.code ({ cls := "Lastbus", name := "choicesOf", desc := "(IIII)Ljava/util/ArrayList;" } : Jvm.MethodName) prog_1_method_75_code (10 : Nat) (Option.some (Jvm.ClassFile.FieldType.object "java/util/ArrayList"))) ∈ lw_all := lw_g (lw_at lw_m12 35 rfl) rfl
theorem q2802 : (Jvm.Cond.instanceMethod ({ cls := "Lastbus", name := "choice", desc := "(IIIII)I" } : Jvm.MethodName)) ∈ lw_all := lw_g (lw_at lw_m12 40 rfl) rfl
theorem q2803 : (Jvm.Cond.selects "Lastbus" ({ cls := "Lastbus", name := "choice", desc := "(IIIII)I" } : Jvm.MethodName) ({ cls := "Lastbus", name := "choice", desc := "(IIIII)I" } : Jvm.MethodName)) ∈ lw_all := lw_g (lw_at lw_m12 41 rfl) rfl
theorem q2804 : (Jvm.Cond.code ({ cls := "Lastbus", name := "choice", desc := "(IIIII)I" } : Jvm.MethodName) prog_1_method_77_code (7 : Nat) (Option.some Jvm.ClassFile.FieldType.int)) ∈ lw_all := lw_g (lw_at lw_m12 42 rfl) rfl
theorem q2809 : (Jvm.Cond.instanceMethod ({ cls := "Lastbus", name := "holds", desc := "(IIIII)Z" } : Jvm.MethodName)) ∈ lw_all := lw_g (lw_at lw_m12 47 rfl) rfl
theorem q2810 : (Jvm.Cond.selects "Lastbus" ({ cls := "Lastbus", name := "holds", desc := "(IIIII)Z" } : Jvm.MethodName) ({ cls := "Lastbus", name := "holds", desc := "(IIIII)Z" } : Jvm.MethodName)) ∈ lw_all := lw_g (lw_at lw_m12 48 rfl) rfl
theorem q2811 : (Jvm.Cond.code ({ cls := "Lastbus", name := "holds", desc := "(IIIII)Z" } : Jvm.MethodName) prog_1_method_79_code (11 : Nat) (Option.some Jvm.ClassFile.FieldType.boolean)) ∈ lw_all := lw_g (lw_at lw_m12 49 rfl) rfl
theorem q2812 : (Jvm.Cond.methodLink "Lastbus" (538 : Nat) ({ cls := "Lastbus", name := "requireChange", desc := "(IIII)V" } : Jvm.MethodName)) ∈ lw_all := lw_g (lw_at lw_m12 50 rfl) rfl
theorem q2813 : (Jvm.Cond.privateMethod ({ cls := "Lastbus", name := "requireChange", desc := "(IIII)V" } : Jvm.MethodName)) ∈ lw_tbl := lw_at lw_m12 51 rfl
theorem q2814 : (Jvm.Cond.instanceMethod ({ cls := "Lastbus", name := "requireChange", desc := "(IIII)V" } : Jvm.MethodName)) ∈ lw_all := lw_g (lw_at lw_m12 52 rfl) rfl
theorem q2815 : (Jvm.Cond.code ({ cls := "Lastbus", name := "requireChange", desc := "(IIII)V" } : Jvm.MethodName) prog_1_method_78_code (5 : Nat) (Option.none : Option Jvm.ClassFile.FieldType)) ∈ lw_all := lw_g (lw_at lw_m12 53 rfl) rfl
theorem q2820 : (Jvm.Cond.instanceMethod ({ cls := "Lastbus", name := "wish", desc := "(IIIII)I" } : Jvm.MethodName)) ∈ lw_all := lw_g (lw_at lw_m12 58 rfl) rfl
theorem q2821 : (Jvm.Cond.selects "Lastbus" ({ cls := "Lastbus", name := "wish", desc := "(IIIII)I" } : Jvm.MethodName) ({ cls := "Lastbus", name := "wish", desc := "(IIIII)I" } : Jvm.MethodName)) ∈ lw_all := lw_g (lw_at lw_m12 59 rfl) rfl
theorem q2822 : (Jvm.Cond.code ({ cls := "Lastbus", name := "wish", desc := "(IIIII)I" } : Jvm.MethodName) prog_1_method_80_code (8 : Nat) (Option.some Jvm.ClassFile.FieldType.int)) ∈ lw_all := lw_g (lw_at lw_m12 60 rfl) rfl
theorem q2823 : (Jvm.Cond.classLink "Lastbus" (541 : Nat) "Lastbus$Wish") ∈ lw_all := lw_g (lw_at lw_m12 61 rfl) rfl
theorem q2825 : (Jvm.Cond.methodLinkNest "Lastbus" (543 : Nat) ({ cls := "Lastbus$Wish", name := "<init>", desc := "(IIIII)V" } : Jvm.MethodName) "Lastbus") ∈ lw_tbl := lw_at lw_m12 63 rfl
theorem q2849 : (Jvm.Cond.instanceMethod ({ cls := "Lastbus", name := "waitCost", desc := "(II)I" } : Jvm.MethodName)) ∈ lw_all := lw_g (lw_at lw_m12 87 rfl) rfl
theorem q2850 : (Jvm.Cond.selects "Lastbus" ({ cls := "Lastbus", name := "waitCost", desc := "(II)I" } : Jvm.MethodName) ({ cls := "Lastbus", name := "waitCost", desc := "(II)I" } : Jvm.MethodName)) ∈ lw_all := lw_g (lw_at lw_m12 88 rfl) rfl
theorem q2851 : (Jvm.Cond.code ({ cls := "Lastbus", name := "waitCost", desc := "(II)I" } : Jvm.MethodName) prog_1_method_89_code (3 : Nat) (Option.some Jvm.ClassFile.FieldType.int)) ∈ lw_all := lw_g (lw_at lw_m12 89 rfl) rfl
theorem q2852 : (Jvm.Cond.methodLink "Lastbus" (581 : Nat) ({ cls := "Lastbus", name := "costOf", desc := "(II)I" } : Jvm.MethodName)) ∈ lw_all := lw_g (lw_at lw_m12 90 rfl) rfl
theorem q2853 : (Jvm.Cond.privateMethod ({ cls := "Lastbus", name := "costOf", desc := "(II)I" } : Jvm.MethodName)) ∈ lw_tbl := lw_at lw_m12 91 rfl
theorem q2854 : (Jvm.Cond.instanceMethod ({ cls := "Lastbus", name := "costOf", desc := "(II)I" } : Jvm.MethodName)) ∈ lw_all := lw_g (lw_at lw_m12 92 rfl) rfl
theorem q2855 : (Jvm.Cond.code ({ cls := "Lastbus", name := "costOf", desc := "(II)I" } : Jvm.MethodName) prog_1_method_88_code (8 : Nat) (Option.some Jvm.ClassFile.FieldType.int)) ∈ lw_all := lw_g (lw_at lw_m12 93 rfl) rfl
theorem q2856 : (Jvm.Cond.methodLink "Lastbus" (574 : Nat) ({ cls := "Lastbus", name := "settled", desc := "(II)[[I" } : Jvm.MethodName)) ∈ lw_all := lw_g (lw_at lw_m12 94 rfl) rfl
theorem q2857 : (Jvm.Cond.privateMethod ({ cls := "Lastbus", name := "settled", desc := "(II)[[I" } : Jvm.MethodName)) ∈ lw_tbl := lw_at lw_m12 95 rfl
theorem q2858 : (Jvm.Cond.instanceMethod ({ cls := "Lastbus", name := "settled", desc := "(II)[[I" } : Jvm.MethodName)) ∈ lw_all := lw_g (lw_at lw_m12 96 rfl) rfl
theorem q2859 : (Jvm.Cond.code ({ cls := "Lastbus", name := "settled", desc := "(II)[[I" } : Jvm.MethodName) prog_1_method_87_code (7 : Nat) (Option.some (Jvm.ClassFile.FieldType.array (Jvm.ClassFile.FieldType.array Jvm.ClassFile.FieldType.int)))) ∈ lw_all := lw_g (lw_at lw_m12 97 rfl) rfl
theorem q2860 : (Jvm.Cond.methodLink "Lastbus" (570 : Nat) ({ cls := "Lastbus", name := "grows", desc := "([[IIIII)Z" } : Jvm.MethodName)) ∈ lw_all := lw_g (lw_at lw_m12 98 rfl) rfl
theorem q2861 : (Jvm.Cond.privateMethod ({ cls := "Lastbus", name := "grows", desc := "([[IIIII)Z" } : Jvm.MethodName)) ∈ lw_tbl := lw_at lw_m12 99 rfl
theorem q2862 : (Jvm.Cond.instanceMethod ({ cls := "Lastbus", name := "grows", desc := "([[IIIII)Z" } : Jvm.MethodName)) ∈ lw_all := lw_g (lw_at lw_m12 100 rfl) rfl
theorem q2863 : (Jvm.Cond.code ({ cls := "Lastbus", name := "grows", desc := "([[IIIII)Z" } : Jvm.MethodName) prog_1_method_86_code (10 : Nat) (Option.some Jvm.ClassFile.FieldType.boolean)) ∈ lw_all := lw_g (lw_at lw_m12 101 rfl) rfl
theorem q2864 : (Jvm.Cond.methodLink "Lastbus" (548 : Nat) ({ cls := "Lastbus$Wish", name := "other", desc := "()I" } : Jvm.MethodName)) ∈ lw_all := lw_g (lw_at lw_m12 102 rfl) rfl
theorem q2868 : (Jvm.Cond.methodLink "Lastbus" (552 : Nat) ({ cls := "Lastbus$Wish", name := "otherCall", desc := "()I" } : Jvm.MethodName)) ∈ lw_all := lw_g (lw_at lw_m12 106 rfl) rfl
theorem q2872 : (Jvm.Cond.methodLink "Lastbus" (555 : Nat) ({ cls := "Lastbus", name := "isHeld", desc := "(II)Z" } : Jvm.MethodName)) ∈ lw_all := lw_g (lw_at lw_m12 110 rfl) rfl
theorem q2873 : (Jvm.Cond.static ({ cls := "Lastbus", name := "isHeld", desc := "(II)Z" } : Jvm.MethodName)) ∈ lw_all := lw_g (lw_at lw_m12 111 rfl) rfl
theorem q2874 : (Jvm.Cond.code ({ cls := "Lastbus", name := "isHeld", desc := "(II)Z" } : Jvm.MethodName) prog_1_method_85_code (2 : Nat) (Option.some Jvm.ClassFile.FieldType.boolean)) ∈ lw_all := lw_g (lw_at lw_m12 112 rfl) rfl
theorem q2875 : (Jvm.Cond.methodLink "Lastbus" (558 : Nat) ({ cls := "Lastbus", name := "counts", desc := "(LLastbus$Wish;I)Z" } : Jvm.MethodName)) ∈ lw_all := lw_g (lw_at lw_m12 113 rfl) rfl
theorem q2876 : (Jvm.Cond.privateMethod ({ cls := "Lastbus", name := "counts", desc := "(LLastbus$Wish;I)Z" } : Jvm.MethodName)) ∈ lw_tbl := lw_at lw_m12 114 rfl
theorem q2877 : (Jvm.Cond.instanceMethod ({ cls := "Lastbus", name := "counts", desc := "(LLastbus$Wish;I)Z" } : Jvm.MethodName)) ∈ lw_all := lw_g (lw_at lw_m12 115 rfl) rfl
theorem q2878 : (Jvm.Cond.code ({ cls := "Lastbus", name := "counts", desc := "(LLastbus$Wish;I)Z" } : Jvm.MethodName) prog_1_method_82_code (3 : Nat) (Option.some Jvm.ClassFile.FieldType.boolean)) ∈ lw_all := lw_g (lw_at lw_m12 116 rfl) rfl
theorem q2879 : (Jvm.Cond.methodLink "Lastbus" (547 : Nat) ({ cls := "Lastbus$Wish", name := "trip", desc := "()I" } : Jvm.MethodName)) ∈ lw_all := lw_g (lw_at lw_m12 117 rfl) rfl
theorem q2883 : (Jvm.Cond.methodLink "Lastbus" (562 : Nat) ({ cls := "Lastbus", name := "readyBy", desc := "(LLastbus$Wish;[[I)I" } : Jvm.MethodName)) ∈ lw_all := lw_g (lw_at lw_m12 121 rfl) rfl
theorem q2884 : (Jvm.Cond.privateMethod ({ cls := "Lastbus", name := "readyBy", desc := "(LLastbus$Wish;[[I)I" } : Jvm.MethodName)) ∈ lw_tbl := lw_at lw_m12 122 rfl
theorem q2885 : (Jvm.Cond.instanceMethod ({ cls := "Lastbus", name := "readyBy", desc := "(LLastbus$Wish;[[I)I" } : Jvm.MethodName)) ∈ lw_all := lw_g (lw_at lw_m12 123 rfl) rfl
theorem q2886 : (Jvm.Cond.code ({ cls := "Lastbus", name := "readyBy", desc := "(LLastbus$Wish;[[I)I" } : Jvm.MethodName) prog_1_method_83_code (4 : Nat) (Option.some Jvm.ClassFile.FieldType.int)) ∈ lw_all := lw_g (lw_at lw_m12 124 rfl) rfl
theorem q2887 : (Jvm.Cond.methodLink "Lastbus" (551 : Nat) ({ cls := "Lastbus$Wish", name := "call", desc := "()I" } : Jvm.MethodName)) ∈ lw_all := lw_g (lw_at lw_m12 125 rfl) rfl
theorem q2891 : (Jvm.Cond.methodLink "Lastbus" (566 : Nat) ({ cls := "Lastbus", name := "departureOf", desc := "(LLastbus$Wish;)I" } : Jvm.MethodName)) ∈ lw_all := lw_g (lw_at lw_m12 129 rfl) rfl
theorem q2892 : (Jvm.Cond.privateMethod ({ cls := "Lastbus", name := "departureOf", desc := "(LLastbus$Wish;)I" } : Jvm.MethodName)) ∈ lw_tbl := lw_at lw_m12 130 rfl
theorem q2893 : (Jvm.Cond.instanceMethod ({ cls := "Lastbus", name := "departureOf", desc := "(LLastbus$Wish;)I" } : Jvm.MethodName)) ∈ lw_all := lw_g (lw_at lw_m12 131 rfl) rfl
theorem q2894 : (Jvm.Cond.code ({ cls := "Lastbus", name := "departureOf", desc := "(LLastbus$Wish;)I" } : Jvm.MethodName) prog_1_method_84_code (2 : Nat) (Option.some Jvm.ClassFile.FieldType.int)) ∈ lw_all := lw_g (lw_at lw_m12 132 rfl) rfl
theorem q2895 : (Jvm.Cond.methodLink "Lastbus" (578 : Nat) ({ cls := "Lastbus$Wish", name := "travellers", desc := "()I" } : Jvm.MethodName)) ∈ lw_all := lw_g (lw_at lw_m12 133 rfl) rfl
theorem q2903 : (Jvm.Cond.instanceMethod ({ cls := "Lastbus", name := "bestWaits", desc := "(I)I" } : Jvm.MethodName)) ∈ lw_all := lw_g (lw_at lw_m12 141 rfl) rfl
theorem q2904 : (Jvm.Cond.selects "Lastbus" ({ cls := "Lastbus", name := "bestWaits", desc := "(I)I" } : Jvm.MethodName) ({ cls := "Lastbus", name := "bestWaits", desc := "(I)I" } : Jvm.MethodName)) ∈ lw_all := lw_g (lw_at lw_m12 142 rfl) rfl
theorem q2905 : (Jvm.Cond.code ({ cls := "Lastbus", name := "bestWaits", desc := "(I)I" } : Jvm.MethodName) prog_1_method_90_code (6 : Nat) (Option.some Jvm.ClassFile.FieldType.int)) ∈ lw_all := lw_g (lw_at lw_m12 143 rfl) rfl
theorem q2910 : (Jvm.Cond.instanceMethod ({ cls := "Lastbus", name := "lost", desc := "(II)I" } : Jvm.MethodName)) ∈ lw_all := lw_g (lw_at lw_m12 148 rfl) rfl
theorem q2911 : (Jvm.Cond.selects "Lastbus" ({ cls := "Lastbus", name := "lost", desc := "(II)I" } : Jvm.MethodName) ({ cls := "Lastbus", name := "lost", desc := "(II)I" } : Jvm.MethodName)) ∈ lw_all := lw_g (lw_at lw_m12 149 rfl) rfl
theorem q2912 : (Jvm.Cond.code ({ cls := "Lastbus", name := "lost", desc := "(II)I" } : Jvm.MethodName) prog_1_method_93_code (4 : Nat) (Option.some Jvm.ClassFile.FieldType.int)) ∈ lw_all := lw_g (lw_at lw_m12 150 rfl) rfl
theorem q2913 : (Jvm.Cond.methodLink "Lastbus" (584 : Nat) ({ cls := "Lastbus", name := "reached", desc := "(Ljava/util/List;I)Ljava/util/ArrayList;" } : Jvm.MethodName)) ∈ lw_all := lw_g (lw_at lw_m12 151 rfl) rfl
theorem q2914 : (Jvm.Cond.privateMethod ({ cls := "Lastbus", name := "reached", desc := "(Ljava/util/List;I)Ljava/util/ArrayList;" } : Jvm.MethodName)) ∈ lw_tbl := lw_at lw_m12 152 rfl
theorem q2915 : (Jvm.Cond.instanceMethod ({ cls := "Lastbus", name := "reached", desc := "(Ljava/util/List;I)Ljava/util/ArrayList;" } : Jvm.MethodName)) ∈ lw_all := lw_g (lw_at lw_m12 153 rfl) rfl
theorem q2916 : (Jvm.Cond.code ({ cls := "Lastbus", name := "reached", desc := "(Ljava/util/List;I)Ljava/util/ArrayList;" } : Jvm.MethodName) prog_1_method_91_code (9 : Nat) (Option.some (Jvm.ClassFile.FieldType.object "java/util/ArrayList"))) ∈ lw_all := lw_g (lw_at lw_m12 154 rfl) rfl
theorem q2917 : (Jvm.Cond.methodLink "Lastbus" (597 : Nat) ({ cls := "Lastbus", name := "lostBy", desc := "(Ljava/util/List;Ljava/util/List;I)I" } : Jvm.MethodName)) ∈ lw_all := lw_g (lw_at lw_m12 155 rfl) rfl
theorem q2918 : (Jvm.Cond.privateMethod ({ cls := "Lastbus", name := "lostBy", desc := "(Ljava/util/List;Ljava/util/List;I)I" } : Jvm.MethodName)) ∈ lw_tbl := lw_at lw_m12 156 rfl
theorem q2919 : (Jvm.Cond.instanceMethod ({ cls := "Lastbus", name := "lostBy", desc := "(Ljava/util/List;Ljava/util/List;I)I" } : Jvm.MethodName)) ∈ lw_all := lw_g (lw_at lw_m12 157 rfl) rfl
theorem q2920 : (Jvm.Cond.code ({ cls := "Lastbus", name := "lostBy", desc := "(Ljava/util/List;Ljava/util/List;I)I" } : Jvm.MethodName) prog_1_method_92_code (8 : Nat) (Option.some Jvm.ClassFile.FieldType.int)) ∈ lw_all := lw_g (lw_at lw_m12 158 rfl) rfl
theorem q2921 : (Jvm.Cond.methodLink "Lastbus" (588 : Nat) ({ cls := "java/util/BitSet", name := "or", desc := "(Ljava/util/BitSet;)V" } : Jvm.MethodName)) ∈ lw_all := lw_g (lw_at lw_m12 159 rfl) rfl
theorem q2927 : (Jvm.Cond.methodLink "Lastbus" (592 : Nat) ({ cls := "java/util/BitSet", name := "andNot", desc := "(Ljava/util/BitSet;)V" } : Jvm.MethodName)) ∈ lw_all := lw_g (lw_at lw_m12 165 rfl) rfl
theorem q2931 : (Jvm.Cond.methodLink "Lastbus" (595 : Nat) ({ cls := "java/util/BitSet", name := "clear", desc := "(I)V" } : Jvm.MethodName)) ∈ lw_all := lw_g (lw_at lw_m12 169 rfl) rfl
theorem q2939 : (Jvm.Cond.instanceMethod ({ cls := "Lastbus", name := "bridges", desc := "(I)I" } : Jvm.MethodName)) ∈ lw_all := lw_g (lw_at lw_m12 177 rfl) rfl
theorem q2940 : (Jvm.Cond.selects "Lastbus" ({ cls := "Lastbus", name := "bridges", desc := "(I)I" } : Jvm.MethodName) ({ cls := "Lastbus", name := "bridges", desc := "(I)I" } : Jvm.MethodName)) ∈ lw_all := lw_g (lw_at lw_m12 178 rfl) rfl
theorem q2941 : (Jvm.Cond.code ({ cls := "Lastbus", name := "bridges", desc := "(I)I" } : Jvm.MethodName) prog_1_method_94_code (6 : Nat) (Option.some Jvm.ClassFile.FieldType.int)) ∈ lw_all := lw_g (lw_at lw_m12 179 rfl) rfl
theorem q2946 : (Jvm.Cond.instanceMethod ({ cls := "Lastbus", name := "vehicles", desc := "(I)I" } : Jvm.MethodName)) ∈ lw_all := lw_g (lw_at lw_m12 184 rfl) rfl
theorem q2947 : (Jvm.Cond.selects "Lastbus" ({ cls := "Lastbus", name := "vehicles", desc := "(I)I" } : Jvm.MethodName) ({ cls := "Lastbus", name := "vehicles", desc := "(I)I" } : Jvm.MethodName)) ∈ lw_all := lw_g (lw_at lw_m12 185 rfl) rfl
theorem q2948 : (Jvm.Cond.code ({ cls := "Lastbus", name := "vehicles", desc := "(I)I" } : Jvm.MethodName) prog_1_method_98_code (13 : Nat) (Option.some Jvm.ClassFile.FieldType.int)) ∈ lw_all := lw_g (lw_at lw_m12 186 rfl) rfl
theorem q2949 : (Jvm.Cond.methodLink "Lastbus" (604 : Nat) ({ cls := "Lastbus", name := "tripsOn", desc := "(I)Ljava/util/ArrayList;" } : Jvm.MethodName)) ∈ lw_all := lw_g (lw_at lw_m12 187 rfl) rfl
theorem q2950 : (Jvm.Cond.privateMethod ({ cls := "Lastbus", name := "tripsOn", desc := "(I)Ljava/util/ArrayList;" } : Jvm.MethodName)) ∈ lw_tbl := lw_at lw_m12 188 rfl
theorem q2951 : (Jvm.Cond.instanceMethod ({ cls := "Lastbus", name := "tripsOn", desc := "(I)Ljava/util/ArrayList;" } : Jvm.MethodName)) ∈ lw_all := lw_g (lw_at lw_m12 189 rfl) rfl
theorem q2952 : (Jvm.Cond.code ({ cls := "Lastbus", name := "tripsOn", desc := "(I)Ljava/util/ArrayList;" } : Jvm.MethodName) prog_1_method_95_code (4 : Nat) (Option.some (Jvm.ClassFile.FieldType.object "java/util/ArrayList"))) ∈ lw_all := lw_g (lw_at lw_m12 190 rfl) rfl
theorem q2953 : (Jvm.Cond.methodLink "Lastbus" (607 : Nat) ({ cls := "Lastbus", name := "endOf", desc := "(LLastbus$Trip;)I" } : Jvm.MethodName)) ∈ lw_all := lw_g (lw_at lw_m12 191 rfl) rfl
theorem q2954 : (Jvm.Cond.static ({ cls := "Lastbus", name := "endOf", desc := "(LLastbus$Trip;)I" } : Jvm.MethodName)) ∈ lw_all := lw_g (lw_at lw_m12 192 rfl) rfl
theorem q2955 : (Jvm.Cond.code ({ cls := "Lastbus", name := "endOf", desc := "(LLastbus$Trip;)I" } : Jvm.MethodName) prog_1_method_96_code (1 : Nat) (Option.some Jvm.ClassFile.FieldType.int)) ∈ lw_all := lw_g (lw_at lw_m12 193 rfl) rfl
theorem q2956 : (Jvm.Cond.methodLink "Lastbus" (611 : Nat) ({ cls := "Lastbus", name := "sorted", desc := "(Ljava/util/List;)[I" } : Jvm.MethodName)) ∈ lw_all := lw_g (lw_at lw_m12 194 rfl) rfl
theorem q2957 : (Jvm.Cond.static ({ cls := "Lastbus", name := "sorted", desc := "(Ljava/util/List;)[I" } : Jvm.MethodName)) ∈ lw_all := lw_g (lw_at lw_m12 195 rfl) rfl
theorem q2958 : (Jvm.Cond.code ({ cls := "Lastbus", name := "sorted", desc := "(Ljava/util/List;)[I" } : Jvm.MethodName) prog_1_method_97_code (3 : Nat) (Option.some (Jvm.ClassFile.FieldType.array Jvm.ClassFile.FieldType.int))) ∈ lw_all := lw_g (lw_at lw_m12 196 rfl) rfl
theorem q2959 : (Jvm.Cond.methodLink "Lastbus" (601 : Nat) ({ cls := "java/util/Arrays", name := "sort", desc := "([I)V" } : Jvm.MethodName)) ∈ lw_all := lw_g (lw_at lw_m12 197 rfl) rfl
theorem q3002 : (Jvm.Cond.instanceMethod ({ cls := "Lastbus", name := "vehiclesByMatching", desc := "(I)I" } : Jvm.MethodName)) ∈ lw_all := lw_g (lw_at lw_m13 0 rfl) rfl
theorem q3003 : (Jvm.Cond.selects "Lastbus" ({ cls := "Lastbus", name := "vehiclesByMatching", desc := "(I)I" } : Jvm.MethodName) ({ cls := "Lastbus", name := "vehiclesByMatching", desc := "(I)I" } : Jvm.MethodName)) ∈ lw_all := lw_g (lw_at lw_m13 1 rfl) rfl
theorem q3004 : (Jvm.Cond.code ({ cls := "Lastbus", name := "vehiclesByMatching", desc := "(I)I" } : Jvm.MethodName) prog_1_method_101_code (6 : Nat) (Option.some Jvm.ClassFile.FieldType.int)) ∈ lw_all := lw_g (lw_at lw_m13 2 rfl) rfl
theorem q3005 : (Jvm.Cond.methodLink "Lastbus" (619 : Nat) ({ cls := "Lastbus", name := "improves", desc := "(Ljava/util/List;[ILjava/util/BitSet;I)Z" } : Jvm.MethodName)) ∈ lw_all := lw_g (lw_at lw_m13 3 rfl) rfl
theorem q3006 : (Jvm.Cond.static ({ cls := "Lastbus", name := "improves", desc := "(Ljava/util/List;[ILjava/util/BitSet;I)Z" } : Jvm.MethodName)) ∈ lw_all := lw_g (lw_at lw_m13 4 rfl) rfl
theorem q3007 : (Jvm.Cond.code ({ cls := "Lastbus", name := "improves", desc := "(Ljava/util/List;[ILjava/util/BitSet;I)Z" } : Jvm.MethodName) prog_1_method_100_code (5 : Nat) (Option.some Jvm.ClassFile.FieldType.boolean)) ∈ lw_all := lw_g (lw_at lw_m13 5 rfl) rfl
theorem q3008 : (Jvm.Cond.methodLink "Lastbus" (615 : Nat) ({ cls := "Lastbus", name := "canFollow", desc := "(LLastbus$Trip;LLastbus$Trip;)Z" } : Jvm.MethodName)) ∈ lw_all := lw_g (lw_at lw_m13 6 rfl) rfl
theorem q3009 : (Jvm.Cond.static ({ cls := "Lastbus", name := "canFollow", desc := "(LLastbus$Trip;LLastbus$Trip;)Z" } : Jvm.MethodName)) ∈ lw_all := lw_g (lw_at lw_m13 7 rfl) rfl
theorem q3010 : (Jvm.Cond.code ({ cls := "Lastbus", name := "canFollow", desc := "(LLastbus$Trip;LLastbus$Trip;)Z" } : Jvm.MethodName) prog_1_method_99_code (2 : Nat) (Option.some Jvm.ClassFile.FieldType.boolean)) ∈ lw_all := lw_g (lw_at lw_m13 8 rfl) rfl
theorem q3015 : (Jvm.Cond.instanceMethod ({ cls := "Lastbus", name := "gains", desc := "(IIII)I" } : Jvm.MethodName)) ∈ lw_all := lw_g (lw_at lw_m13 13 rfl) rfl
theorem q3016 : (Jvm.Cond.selects "Lastbus" ({ cls := "Lastbus", name := "gains", desc := "(IIII)I" } : Jvm.MethodName) ({ cls := "Lastbus", name := "gains", desc := "(IIII)I" } : Jvm.MethodName)) ∈ lw_all := lw_g (lw_at lw_m13 14 rfl) rfl
theorem q3017 : (Jvm.Cond.code ({ cls := "Lastbus", name := "gains", desc := "(IIII)I" } : Jvm.MethodName) prog_1_method_104_code (5 : Nat) (Option.some Jvm.ClassFile.FieldType.int)) ∈ lw_all := lw_g (lw_at lw_m13 15 rfl) rfl
theorem q3018 : (Jvm.Cond.methodLink "Lastbus" (623 : Nat) ({ cls := "Lastbus", name := "shiftedRuns", desc := "(IIII)Ljava/util/ArrayList;" } : Jvm.MethodName)) ∈ lw_all := lw_g (lw_at lw_m13 16 rfl) rfl
theorem q3019 : (Jvm.Cond.privateMethod ({ cls := "Lastbus", name := "shiftedRuns", desc := "(IIII)Ljava/util/ArrayList;" } : Jvm.MethodName)) ∈ lw_tbl := lw_at lw_m13 17 rfl
theorem q3020 : (Jvm.Cond.instanceMethod ({ cls := "Lastbus", name := "shiftedRuns", desc := "(IIII)Ljava/util/ArrayList;" } : Jvm.MethodName)) ∈ lw_all := lw_g (lw_at lw_m13 18 rfl) rfl
theorem q3021 : (Jvm.Cond.code ({ cls := "Lastbus", name := "shiftedRuns", desc := "(IIII)Ljava/util/ArrayList;" } : Jvm.MethodName) prog_1_method_103_code (6 : Nat) (Option.some (Jvm.ClassFile.FieldType.object "java/util/ArrayList"))) ∈ lw_all := lw_g (lw_at lw_m13 19 rfl) rfl
theorem q3022 : (Jvm.Cond.methodLink "Lastbus" (626 : Nat) ({ cls := "Lastbus", name := "less", desc := "(Ljava/util/List;Ljava/util/List;I)I" } : Jvm.MethodName)) ∈ lw_all := lw_g (lw_at lw_m13 20 rfl) rfl
theorem q3023 : (Jvm.Cond.privateMethod ({ cls := "Lastbus", name := "less", desc := "(Ljava/util/List;Ljava/util/List;I)I" } : Jvm.MethodName)) ∈ lw_tbl := lw_at lw_m13 21 rfl
theorem q3024 : (Jvm.Cond.instanceMethod ({ cls := "Lastbus", name := "less", desc := "(Ljava/util/List;Ljava/util/List;I)I" } : Jvm.MethodName)) ∈ lw_all := lw_g (lw_at lw_m13 22 rfl) rfl
theorem q3025 : (Jvm.Cond.code ({ cls := "Lastbus", name := "less", desc := "(Ljava/util/List;Ljava/util/List;I)I" } : Jvm.MethodName) prog_1_method_102_code (12 : Nat) (Option.some Jvm.ClassFile.FieldType.int)) ∈ lw_all := lw_g (lw_at lw_m13 23 rfl) rfl
theorem q3030 : (Jvm.Cond.instanceMethod ({ cls := "Lastbus", name := "loses", desc := "(IIII)I" } : Jvm.MethodName)) ∈ lw_all := lw_g (lw_at lw_m13 28 rfl) rfl
theorem q3031 : (Jvm.Cond.selects "Lastbus" ({ cls := "Lastbus", name := "loses", desc := "(IIII)I" } : Jvm.MethodName) ({ cls := "Lastbus", name := "loses", desc := "(IIII)I" } : Jvm.MethodName)) ∈ lw_all := lw_g (lw_at lw_m13 29 rfl) rfl
theorem q3032 : (Jvm.Cond.code ({ cls := "Lastbus", name := "loses", desc := "(IIII)I" } : Jvm.MethodName) prog_1_method_105_code (6 : Nat) (Option.some Jvm.ClassFile.FieldType.int)) ∈ lw_all := lw_g (lw_at lw_m13 30 rfl) rfl
theorem q3051 : (Jvm.Cond.instanceMethod ({ cls := "Lastbus", name := "reachShare", desc := "(I)F" } : Jvm.MethodName)) ∈ lw_all := lw_g (lw_at lw_m13 49 rfl) rfl
theorem q3052 : (Jvm.Cond.selects "Lastbus" ({ cls := "Lastbus", name := "reachShare", desc := "(I)F" } : Jvm.MethodName) ({ cls := "Lastbus", name := "reachShare", desc := "(I)F" } : Jvm.MethodName)) ∈ lw_all := lw_g (lw_at lw_m13 50 rfl) rfl
theorem q3053 : (Jvm.Cond.code ({ cls := "Lastbus", name := "reachShare", desc := "(I)F" } : Jvm.MethodName) prog_1_method_106_code (5 : Nat) (Option.some Jvm.ClassFile.FieldType.float)) ∈ lw_all := lw_g (lw_at lw_m13 51 rfl) rfl
theorem q3054 : (Jvm.Cond.classLink "Lastbus" (629 : Nat) "java/lang/ArithmeticException") ∈ lw_all := lw_g (lw_at lw_m13 52 rfl) rfl
theorem q3055 : (Jvm.Cond.methodLink "Lastbus" (631 : Nat) ({ cls := "java/lang/ArithmeticException", name := "<init>", desc := "()V" } : Jvm.MethodName)) ∈ lw_all := lw_g (lw_at lw_m13 53 rfl) rfl
theorem q3063 : (Jvm.Cond.instanceMethod ({ cls := "Lastbus", name := "meanBetween", desc := "()D" } : Jvm.MethodName)) ∈ lw_all := lw_g (lw_at lw_m13 61 rfl) rfl
theorem q3064 : (Jvm.Cond.selects "Lastbus" ({ cls := "Lastbus", name := "meanBetween", desc := "()D" } : Jvm.MethodName) ({ cls := "Lastbus", name := "meanBetween", desc := "()D" } : Jvm.MethodName)) ∈ lw_all := lw_g (lw_at lw_m13 62 rfl) rfl
theorem q3065 : (Jvm.Cond.code ({ cls := "Lastbus", name := "meanBetween", desc := "()D" } : Jvm.MethodName) prog_1_method_107_code (6 : Nat) (Option.some Jvm.ClassFile.FieldType.double)) ∈ lw_all := lw_g (lw_at lw_m13 63 rfl) rfl
theorem q3070 : (Jvm.Cond.instanceMethod ({ cls := "Lastbus", name := "isSound", desc := "(I)Z" } : Jvm.MethodName)) ∈ lw_all := lw_g (lw_at lw_m13 68 rfl) rfl
theorem q3071 : (Jvm.Cond.selects "Lastbus" ({ cls := "Lastbus", name := "isSound", desc := "(I)Z" } : Jvm.MethodName) ({ cls := "Lastbus", name := "isSound", desc := "(I)Z" } : Jvm.MethodName)) ∈ lw_all := lw_g (lw_at lw_m13 69 rfl) rfl
theorem q3072 : (Jvm.Cond.code ({ cls := "Lastbus", name := "isSound", desc := "(I)Z" } : Jvm.MethodName) prog_1_method_112_code (9 : Nat) (Option.some Jvm.ClassFile.FieldType.boolean)) ∈ lw_all := lw_g (lw_at lw_m13 70 rfl) rfl
theorem q3073 : (Jvm.Cond.methodLink "Lastbus" (636 : Nat) ({ cls := "Lastbus", name := "vehicles", desc := "(I)I" } : Jvm.MethodName)) ∈ lw_all := lw_g (lw_at lw_m13 71 rfl) rfl
theorem q3074 : (Jvm.Cond.methodLink "Lastbus" (639 : Nat) ({ cls := "Lastbus", name := "vehiclesByMatching", desc := "(I)I" } : Jvm.MethodName)) ∈ lw_all := lw_g (lw_at lw_m13 72 rfl) rfl
theorem q3075 : (Jvm.Cond.methodLink "Lastbus" (642 : Nat) ({ cls := "Lastbus", name := "areAlike", desc := "(IILLastbus$Labels;Ljava/util/List;)Z" } : Jvm.MethodName)) ∈ lw_all := lw_g (lw_at lw_m13 73 rfl) rfl
theorem q3076 : (Jvm.Cond.privateMethod ({ cls := "Lastbus", name := "areAlike", desc := "(IILLastbus$Labels;Ljava/util/List;)Z" } : Jvm.MethodName)) ∈ lw_tbl := lw_at lw_m13 74 rfl
theorem q3077 : (Jvm.Cond.instanceMethod ({ cls := "Lastbus", name := "areAlike", desc := "(IILLastbus$Labels;Ljava/util/List;)Z" } : Jvm.MethodName)) ∈ lw_all := lw_g (lw_at lw_m13 75 rfl) rfl
theorem q3078 : (Jvm.Cond.code ({ cls := "Lastbus", name := "areAlike", desc := "(IILLastbus$Labels;Ljava/util/List;)Z" } : Jvm.MethodName) prog_1_method_109_code (9 : Nat) (Option.some Jvm.ClassFile.FieldType.boolean)) ∈ lw_all := lw_g (lw_at lw_m13 76 rfl) rfl
theorem q3079 : (Jvm.Cond.methodLink "Lastbus" (646 : Nat) ({ cls := "Lastbus", name := "isLastChance", desc := "(ILLastbus$Labels;Ljava/util/List;Ljava/util/List;[[I)Z" } : Jvm.MethodName)) ∈ lw_all := lw_g (lw_at lw_m13 77 rfl) rfl
theorem q3080 : (Jvm.Cond.privateMethod ({ cls := "Lastbus", name := "isLastChance", desc := "(ILLastbus$Labels;Ljava/util/List;Ljava/util/List;[[I)Z" } : Jvm.MethodName)) ∈ lw_tbl := lw_at lw_m13 78 rfl
theorem q3081 : (Jvm.Cond.instanceMethod ({ cls := "Lastbus", name := "isLastChance", desc := "(ILLastbus$Labels;Ljava/util/List;Ljava/util/List;[[I)Z" } : Jvm.MethodName)) ∈ lw_all := lw_g (lw_at lw_m13 79 rfl) rfl
theorem q3082 : (Jvm.Cond.code ({ cls := "Lastbus", name := "isLastChance", desc := "(ILLastbus$Labels;Ljava/util/List;Ljava/util/List;[[I)Z" } : Jvm.MethodName) prog_1_method_110_code (10 : Nat) (Option.some Jvm.ClassFile.FieldType.boolean)) ∈ lw_all := lw_g (lw_at lw_m13 80 rfl) rfl
theorem q3083 : (Jvm.Cond.methodLink "Lastbus" (650 : Nat) ({ cls := "Lastbus", name := "areRising", desc := "(III)Z" } : Jvm.MethodName)) ∈ lw_all := lw_g (lw_at lw_m13 81 rfl) rfl
theorem q3084 : (Jvm.Cond.privateMethod ({ cls := "Lastbus", name := "areRising", desc := "(III)Z" } : Jvm.MethodName)) ∈ lw_tbl := lw_at lw_m13 82 rfl
theorem q3085 : (Jvm.Cond.instanceMethod ({ cls := "Lastbus", name := "areRising", desc := "(III)Z" } : Jvm.MethodName)) ∈ lw_all := lw_g (lw_at lw_m13 83 rfl) rfl
theorem q3086 : (Jvm.Cond.code ({ cls := "Lastbus", name := "areRising", desc := "(III)Z" } : Jvm.MethodName) prog_1_method_111_code (6 : Nat) (Option.some Jvm.ClassFile.FieldType.boolean)) ∈ lw_all := lw_g (lw_at lw_m13 84 rfl) rfl
theorem q3671 : (Jvm.Cond.castable "Lastbus" "java/lang/Object") ∈ lw_tbl := lw_at lw_m15 189 rfl
theorem in_X1 : ∀ w ∈ wsX10, w ∈ lw_all := lw_in wsX10 [308, 310, 312, 314, 316, 318, 320, 322, 324, 326] (by decide +kernel) (by decide +kernel)
